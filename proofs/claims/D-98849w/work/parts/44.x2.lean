set_option maxRecDepth 100000
-- push
noncomputable def x_push (σ : cS) (rs : List RS) (v1 : Int32) (v2 : Int32) : Option (cS × Int32) :=
  if (σ.1 999 0) = 0 then (some (σ, (-3))) else (((x_in v1.toInt64 1 3).bind fun r_3 => if r_3 = 0 then (some (σ, (-3))) else (((x_in v2.toInt64 0 3).bind fun r_6 => if r_6 = 0 then (some (σ, (-3))) else (((x_preparesDeep σ v1).bind fun σ_9 => ((x_triesPushes_0 (si σ_9 999 18 (-1)) rs v1 0).bind fun σ_11 => if (σ_11.1 999 18) = (-1) then (some (σ_11, (-2))) else (if v2 = 0 then (some (σ_11, (σ_11.1 999 18))) else (if v2 ≤ v1 then (gd (inb (v2 - 1) 3) (some (σ_11, (σ_11.1 17 (ix (v2 - 1)))))) else (some (σ_11, (-2))))))))))))
set_option maxHeartbeats 4000000 in
theorem wb_x_push {p : Program} {l : Launch} {e : Env} {s : State} {m : MethodId} {args : Array Value} {below : List Frame} {meth : Method} {c : Code} {g : gG} {A : Nat → Prop} {ad : Nat → Nat} {q : xR} (X : MX p s m args meth c cX0_push 3 RX0 (some .int) g A) (had : xI_ ad) {rs : List RS} (hrs : RSok q.1 g rs) {σr : cS} {r : Int32} {σ : cS} {v1 : Int32} {v2 : Int32} {H : Heap} {locs : List Loc} {ls : Array Slot} (hW : WB g A s.heap xIds ad (xE g ad q σ) H locs) (hl : lv_has ls 3 [(0, .ref (ad 999)), (1, .int v1), (2, .int v2)]) (hf : x_push σ rs v1 v2 = some (σr, r)) : W p l e (rm_ 411 16467) s m args below meth c H locs 0 0 (Qm below g xIds ad (xE g ad q σr) (some (.int r)) A args s) (F0 m 0 ls []) := by
  have hx := X.1.1
  have hb := X.1.2.1
  unfold x_push at hf
  refine lv_aload_n hx hb dX0_push_0 rfl (lv_at hl 0 rfl) ?_
  refine xg_0 X hW xm_999 dX0_push_1 ?_
  by_cases c_1 : (σ.1 999 0) = 0
  · replace hf := ip hf c_1
    rw [dn_n c_1]
    refine lv_ifnullN (tgt := 31) hx hb dX0_push_4 (by decide) ?_
    refine lv_bipush (v := (-3)) hx hb dX0_push_31 (by decide) ?_
    exact x_iret X hW hf dX0_push_33
  · replace hf := ine hf c_1
    rw [dn_s c_1]
    refine lv_ifnull (x := ad 1999) hx hb dX0_push_4 ?_
    refine lv_iload_n hx hb dX0_push_7 rfl (lv_at hl 1 rfl) ?_
    refine lv_i2l (v := v1.toInt64) hx hb dX0_push_8 rfl ?_
    refine lv_lconst (v := 1) hx hb dX0_push_9 (by decide) ?_
    refine lv_ldc2 (v := 3) hx hb X.1.2.2.2.1 (X.1.2.2.2.2 _ q963) dX0_push_10 ?_
    obtain ⟨r_3, h_2, hf⟩ := bd_e hf
    refine kh_in X hW h_2 (by decide) hl (Nat.le_of_ble_eq_true rfl) dX0_push_13 (fun H locs hW => ?_)
    refine lv_if_eq (tgt := 31) hx hb dX0_push_16 (by decide) (fun c_4 => ?_) (fun c_4 => ?_)
    · replace hf := ip hf c_4
      refine lv_bipush (v := (-3)) hx hb dX0_push_31 (by decide) ?_
      exact x_iret X hW hf dX0_push_33
    · replace hf := ine hf c_4
      refine lv_iload_n hx hb dX0_push_19 rfl (lv_at hl 2 rfl) ?_
      refine lv_i2l (v := v2.toInt64) hx hb dX0_push_20 rfl ?_
      refine lv_lconst (v := 0) hx hb dX0_push_21 (by decide) ?_
      refine lv_ldc2 (v := 3) hx hb X.1.2.2.2.1 (X.1.2.2.2.2 _ q963) dX0_push_22 ?_
      obtain ⟨r_6, h_5, hf⟩ := bd_e hf
      refine kh_in X hW h_5 (by decide) hl (Nat.le_of_ble_eq_true rfl) dX0_push_25 (fun H locs hW => ?_)
      refine lv_if_ne (tgt := 34) hx hb dX0_push_28 (by decide) (fun c_7 => ?_) (fun c_7 => ?_)
      · replace hf := ine hf c_7
        refine lv_aload_n hx hb dX0_push_34 rfl (lv_at hl 0 rfl) ?_
        refine lv_iload_n hx hb dX0_push_35 rfl (lv_at hl 1 rfl) ?_
        obtain ⟨σ_9, h_8, hf⟩ := bd_e hf
        refine kx_preparesDeep X hW had h_8 (by decide) hl (Nat.le_of_ble_eq_true rfl) dX0_push_36 (fun H locs hW => ?_)
        refine lv_aload_n hx hb dX0_push_39 rfl (lv_at hl 0 rfl) ?_
        refine lv_iconst (v := (-1)) hx hb dX0_push_40 (by decide) ?_
        refine xp_18 X hW xm_999 dX0_push_41 (fun H locs hW => ?_)
        refine lv_aload_n hx hb dX0_push_44 rfl (lv_at hl 0 rfl) ?_
        refine lv_iconst (v := 0) hx hb dX0_push_45 (by decide) ?_
        refine lv_iload_n hx hb dX0_push_46 rfl (lv_at hl 1 rfl) ?_
        refine lv_iconst (v := 0) hx hb dX0_push_47 (by decide) ?_
        obtain ⟨σ_11, h_10, hf⟩ := bd_e hf
        refine kx_triesPushes_0 X hW had hrs h_10 (by decide) hl (Nat.le_of_ble_eq_true rfl) dX0_push_48 (fun H locs hW => ?_)
        refine lv_aload_n hx hb dX0_push_51 rfl (lv_at hl 0 rfl) ?_
        refine xg_18 X hW xm_999 dX0_push_52 ?_
        refine lv_iconst (v := (-1)) hx hb dX0_push_55 (by decide) ?_
        refine lv_icmp_ne (tgt := 62) hx hb dX0_push_56 (by decide) (fun c_12 => ?_) (fun c_12 => ?_)
        · replace hf := ine hf c_12
          refine lv_iload_n hx hb dX0_push_62 rfl (lv_at hl 2 rfl) ?_
          refine lv_if_ne (tgt := 73) hx hb dX0_push_63 (by decide) (fun c_13 => ?_) (fun c_13 => ?_)
          · replace hf := ine hf c_13
            refine lv_iload_n hx hb dX0_push_73 rfl (lv_at hl 2 rfl) ?_
            refine lv_iload_n hx hb dX0_push_74 rfl (lv_at hl 1 rfl) ?_
            refine lv_icmp_le (tgt := 83) hx hb dX0_push_75 (by decide) (fun c_14 => ?_) (fun c_14 => ?_)
            · replace hf := ip hf c_14
              refine lv_aload_n hx hb dX0_push_83 rfl (lv_at hl 0 rfl) ?_
              refine xg_17 X hW xm_999 dX0_push_84 ?_
              refine lv_iload_n hx hb dX0_push_87 rfl (lv_at hl 2 rfl) ?_
              refine lv_iconst (v := 1) hx hb dX0_push_88 (by decide) ?_
              refine lv_isub hx hb dX0_push_89 ?_
              obtain ⟨h_15, hf⟩ := gd_e hf
              refine xl_17 X hW xm_17 h_15 dX0_push_90 ?_
              exact x_iret X hW hf dX0_push_91
            · replace hf := ine hf c_14
              refine lv_bipush (v := (-2)) hx hb dX0_push_78 (by decide) ?_
              refine lv_goto (tgt := 91) hx hb dX0_push_80 (by decide) ?_
              exact x_iret X hW hf dX0_push_91
          · replace hf := ip hf c_13
            refine lv_aload_n hx hb dX0_push_66 rfl (lv_at hl 0 rfl) ?_
            refine xg_18 X hW xm_999 dX0_push_67 ?_
            refine lv_goto (tgt := 91) hx hb dX0_push_70 (by decide) ?_
            exact x_iret X hW hf dX0_push_91
        · replace hf := ip hf c_12
          refine lv_bipush (v := (-2)) hx hb dX0_push_59 (by decide) ?_
          exact x_iret X hW hf dX0_push_61
      · replace hf := ip hf c_7
        refine lv_bipush (v := (-3)) hx hb dX0_push_31 (by decide) ?_
        exact x_iret X hW hf dX0_push_33
theorem w_x_push (l : Launch) {g : gG} {ad : Nat → Nat} {q : xR} (had : xI_ ad) {rs : List RS} (hrs : RSok q.1 g rs) {σr : cS} {r : Int32} {σ : cS} {v1 : Int32} {v2 : Int32} (hf : x_push σ rs v1 v2 = some (σr, r)) : MC l yX0_push cX0_push 3 (some .int) 411 16467 g xIds ad (xE g ad q σ) (xE g ad q σr) [.ref (ad 999), .int v1, .int v2] (some (.int r)) :=
  MC.of (by decide) xIds_nd had (Nat.le_of_ble_eq_true rfl) (fun p e s m below meth c A ls X hW hl => wb_x_push X had hrs hW hl hf)
-- worthFrom_4
noncomputable def x_worthFrom_4_33 {ρ : Type} (rs : List RS) (v2 : Int32) (K : cS → Int32 → Option ρ) : Nat → cS → Int32 → Int32 → Option ρ
  | 0, _, _, _ => none
  | n + 1, σ, v4, v5 => gd (nz (σ.1 999 0)) (if (σ.1 1999 0) ≤ v5 then (K σ v4) else (if v5 = (-1) then (none) else (((d_isBaked (vw σ 1000) v5).bind fun r_7 => if r_7 = 0 then (none) else (x_worthFrom_4_33 rs v2 K n σ v4 (v5 + 1))))))
set_option maxHeartbeats 4000000 in
theorem wx_worthFrom_4_33 {p : Program} {l : Launch} {e : Env} {s : State} {m : MethodId} {args : Array Value} {below : List Frame} {meth : Method} {c : Code} {g : gG} {A : Nat → Prop} {ad : Nat → Nat} {q : xR} (X : MX p s m args meth c cX0_worthFrom 8 RX0 (some .int) g A) (had : xI_ ad) {rs : List RS} (hrs : RSok q.1 g rs) {ρ : Type} {res : ρ} {Q : State → Prop} {v2 : Int32}  {K : cS → Int32 → Option ρ}
    (hK : ∀ (σ : cS) (k4 : Int32) (H : Heap) (locs : List Loc) (ls : Array Slot), WB g A s.heap xIds ad (xE g ad q σ) H locs → lv_has ls 8 [(4, .int k4)] → K σ k4 = some res → W p l e (rm_ 407 16367) s m args below meth c H locs 0 0 Q (F0 m 177 ls [])) :
    ∀ (n : Nat) (σ : cS) (v4 : Int32) (v5 : Int32) (H : Heap) (locs : List Loc) (ls : Array Slot), WB g A s.heap xIds ad (xE g ad q σ) H locs → lv_has ls 8 [(0, .ref (ad 999)), (1, .int 4), (2, .int v2), (3, .int 1), (4, .int v4), (5, .int v5)] → x_worthFrom_4_33 rs v2 K n σ v4 v5 = some res → W p l e (rm_ 407 16367) s m args below meth c H locs 0 0 Q (F0 m 33 ls []) := by
  have hx := X.1.1
  have hb := X.1.2.1
  intro n
  induction n with
  | zero =>
    intro σ v4 v5 H locs ls hW hl hf
    rw [x_worthFrom_4_33] at hf
    cases hf
  | succ n ih =>
    intro σ v4 v5 H locs ls hW hl hf
    rw [x_worthFrom_4_33] at hf
    refine lv_iload hx hb dX0_worthFrom_33 (lv_at hl 5 rfl) ?_
    refine lv_aload_n hx hb dX0_worthFrom_35 rfl (lv_at hl 0 rfl) ?_
    obtain ⟨z_3, hf⟩ := gd_e hf
    replace z_3 := nz_e z_3
    refine xg_0s X hW xm_999 z_3 dX0_worthFrom_36 ?_
    refine xg_1000 X hW xm_1999 dX0_worthFrom_39 ?_
    refine lv_icmp_ge (tgt := 177) hx hb dX0_worthFrom_42 (by decide) (fun c_4 => ?_) (fun c_4 => ?_)
    · replace hf := ip hf c_4
      exact hK _ _ _ _ _ hW (lv_sub hl [4] rfl) hf
    · replace hf := ine hf c_4
      refine lv_iload hx hb dX0_worthFrom_45 (lv_at hl 5 rfl) ?_
      refine lv_iconst (v := (-1)) hx hb dX0_worthFrom_47 (by decide) ?_
      refine lv_icmp_eq (tgt := 66) hx hb dX0_worthFrom_48 (by decide) (fun c_5 => ?_) (fun c_5 => ?_)
      · replace hf := ip hf c_5
        refine lv_aload_n hx hb dX0_worthFrom_66 rfl (lv_at hl 0 rfl) ?_
        refine xg_3 X hW xm_999 dX0_worthFrom_67 ?_
        refine lv_iload_n hx hb dX0_worthFrom_70 rfl (lv_at hl 1 rfl) ?_
        refine lv_iconst (v := 1) hx hb dX0_worthFrom_71 (by decide) ?_
        refine r_iaddv (v := 5) hx hb dX0_worthFrom_72 (by decide) ?_
        cases hf
      · replace hf := ine hf c_5
        refine lv_aload_n hx hb dX0_worthFrom_51 rfl (lv_at hl 0 rfl) ?_
        refine xg_0s X hW xm_999 z_3 dX0_worthFrom_52 ?_
        refine lv_iload hx hb dX0_worthFrom_55 (lv_at hl 5 rfl) ?_
        obtain ⟨r_7, h_6, hf⟩ := bd_e hf
        refine kx_isBaked X hW had (b := 1000) (by decide) h_6 (by decide) hl (Nat.le_of_ble_eq_true rfl) dX0_worthFrom_57 (fun H locs hW => ?_)
        refine lv_if_eq (tgt := 66) hx hb dX0_worthFrom_60 (by decide) (fun c_8 => ?_) (fun c_8 => ?_)
        · replace hf := ip hf c_8
          refine lv_aload_n hx hb dX0_worthFrom_66 rfl (lv_at hl 0 rfl) ?_
          refine xg_3 X hW xm_999 dX0_worthFrom_67 ?_
          refine lv_iload_n hx hb dX0_worthFrom_70 rfl (lv_at hl 1 rfl) ?_
          refine lv_iconst (v := 1) hx hb dX0_worthFrom_71 (by decide) ?_
          refine r_iaddv (v := 5) hx hb dX0_worthFrom_72 (by decide) ?_
          cases hf
        · replace hf := ine hf c_8
          refine lv_goto (tgt := 171) hx hb dX0_worthFrom_63 (by decide) ?_
          refine lv_iinc (v := (v5 + 1)) (lv' := [(5, .int (v5 + 1)), (0, .ref (ad 999)), (1, .int 4), (2, .int v2), (3, .int 1), (4, .int v4)]) hx hb dX0_worthFrom_171 hl (k := 5) rfl (ii_v _ _ _ (by decide)) (by decide) rfl (fun ls hl => ?_)
          refine lv_goto (tgt := 33) hx hb dX0_worthFrom_174 (by decide) ?_
          exact ih _ _ _ _ _ _ hW (lv_sub hl [1, 2, 3, 4, 5, 0] rfl) hf
noncomputable def x_worthFrom_4 (σ : cS) (rs : List RS) (v2 : Int32) : Option (cS × Int32) :=
  if 4 = v2 then (((d_west (vw σ 7000)).bind fun r_13 => some (σ, r_13))) else (((some () : Option (Unit)).bind fun _ => (x_worthFrom_4_33 rs v2 (fun σ_9 v_10 => (some (σ_9, v_10))) FU σ 0 (-1))))
set_option maxHeartbeats 4000000 in
theorem wb_x_worthFrom_4 {p : Program} {l : Launch} {e : Env} {s : State} {m : MethodId} {args : Array Value} {below : List Frame} {meth : Method} {c : Code} {g : gG} {A : Nat → Prop} {ad : Nat → Nat} {q : xR} (X : MX p s m args meth c cX0_worthFrom 8 RX0 (some .int) g A) (had : xI_ ad) {rs : List RS} (hrs : RSok q.1 g rs) {σr : cS} {r : Int32} {σ : cS} {v2 : Int32} {H : Heap} {locs : List Loc} {ls : Array Slot} (hW : WB g A s.heap xIds ad (xE g ad q σ) H locs) (hl : lv_has ls 8 [(0, .ref (ad 999)), (1, .int 4), (2, .int v2)]) (hf : x_worthFrom_4 σ rs v2 = some (σr, r)) : W p l e (rm_ 407 16367) s m args below meth c H locs 0 0 (Qm below g xIds ad (xE g ad q σr) (some (.int r)) A args s) (F0 m 0 ls []) := by
  have hx := X.1.1
  have hb := X.1.2.1
  unfold x_worthFrom_4 at hf
  refine lv_iload_n hx hb dX0_worthFrom_0 rfl (lv_at hl 1 rfl) ?_
  refine lv_iload_n hx hb dX0_worthFrom_1 rfl (lv_at hl 2 rfl) ?_
  refine lv_icmp_ne (tgt := 15) hx hb dX0_worthFrom_2 (by decide) (fun c_1 => ?_) (fun c_1 => ?_)
  · replace hf := ine hf c_1
    refine lv_iload_n hx hb dX0_worthFrom_15 rfl (lv_at hl 1 rfl) ?_
    refine lv_iconst (v := 2) hx hb dX0_worthFrom_16 (by decide) ?_
    refine r_iremv (v := 0) hx hb dX0_worthFrom_17 (by decide) (by decide) ?_
    obtain ⟨_, hD_2, hf⟩ := bd_e hf
    have hJ : ∀ (H : Heap) (locs : List Loc) (ls : Array Slot), WB g A s.heap xIds ad (xE g ad q σ) H locs → lv_has ls 8 [(0, .ref (ad 999)), (1, .int 4), (2, .int v2)] → W p l e (rm_ 407 16367) s m args below meth c H locs 0 0 (Qm below g xIds ad (xE g ad q σr) (some (.int r)) A args s) (F0 m 26 ls [.int 1]) := by
      intro H locs ls hW hl
      refine lv_istore_n (lv' := [(3, .int 1), (0, .ref (ad 999)), (1, .int 4), (2, .int v2)]) hx hb dX0_worthFrom_26 rfl hl (by decide) rfl (fun ls hl => ?_)
      refine lv_iconst (v := 0) hx hb dX0_worthFrom_27 (by decide) ?_
      refine lv_istore (lv' := [(4, .int 0), (3, .int 1), (0, .ref (ad 999)), (1, .int 4), (2, .int v2)]) hx hb dX0_worthFrom_28 hl (by decide) rfl (fun ls hl => ?_)
      refine lv_iconst (v := (-1)) hx hb dX0_worthFrom_30 (by decide) ?_
      refine lv_istore (lv' := [(5, .int (-1)), (4, .int 0), (3, .int 1), (0, .ref (ad 999)), (1, .int 4), (2, .int v2)]) hx hb dX0_worthFrom_31 hl (by decide) rfl (fun ls hl => ?_)
      refine wx_worthFrom_4_33 X had hrs (fun σ_9 v_10 H locs ls hW hl hf => ?_) _ _ _ _ _ _ _ hW (lv_sub hl [3, 4, 5, 2, 1, 0] rfl) hf
      refine lv_iload hx hb dX0_worthFrom_177 (lv_at hl 0 rfl) ?_
      exact x_iret X hW hf dX0_worthFrom_179
    clear hf
    refine lv_if_ne (tgt := 25) hx hb dX0_worthFrom_18 (by decide) (fun c_11 => absurd c_11 (by decide)) (fun c_11 => ?_)
    refine lv_iconst (v := 1) hx hb dX0_worthFrom_21 (by decide) ?_
    refine lv_goto (tgt := 26) hx hb dX0_worthFrom_22 (by decide) ?_
    cases hD_2
    exact hJ _ _ _ hW (lv_sub hl [0, 1, 2] rfl)
  · replace hf := ip hf c_1
    refine lv_aload_n hx hb dX0_worthFrom_5 rfl (lv_at hl 0 rfl) ?_
    refine xg_3 X hW xm_999 dX0_worthFrom_6 ?_
    refine lv_iload_n hx hb dX0_worthFrom_9 rfl (lv_at hl 1 rfl) ?_
    refine r_aald X hW (t0 := 4) xm_3 rfl rfl (by decide) (v := .ref (ad 7999)) rfl dX0_worthFrom_10 ?_
    obtain ⟨r_13, h_12, hf⟩ := bd_e hf
    refine kx_west X hW had (b := 7000) (by decide) h_12 (by decide) hl (Nat.le_of_ble_eq_true rfl) dX0_worthFrom_11 (fun H locs hW => ?_)
    exact x_iret X hW hf dX0_worthFrom_14
theorem w_x_worthFrom_4 (l : Launch) {g : gG} {ad : Nat → Nat} {q : xR} (had : xI_ ad) {rs : List RS} (hrs : RSok q.1 g rs) {σr : cS} {r : Int32} {σ : cS} {v2 : Int32} (hf : x_worthFrom_4 σ rs v2 = some (σr, r)) : MC l yX0_worthFrom cX0_worthFrom 8 (some .int) 407 16367 g xIds ad (xE g ad q σ) (xE g ad q σr) [.ref (ad 999), .int 4, .int v2] (some (.int r)) :=
  MC.of (by decide) xIds_nd had (Nat.le_of_ble_eq_true rfl) (fun p e s m below meth c A ls X hW hl => wb_x_worthFrom_4 X had hrs hW hl hf)
theorem kx_worthFrom_4 {p : Program} {l : Launch} {e : Env} {R : Room} {s : State} {m : MethodId} {args : Array Value} {below : List Frame} {meth : Method} {c : Code} {H : Heap} {locs : List Loc} {Q : State → Prop} {cc : ByteArray} {nL : Nat} {ret : Option FieldType} {g : gG} {A : Nat → Prop} {ad : Nat → Nat} {q : xR} {pc : Nat} {ls : Array Slot} {rest : List Value} {lv : List (Nat × Value)} {σr : cS} {r : Int32} {σ : cS} {v2 : Int32} (X : MX p s m args meth c cc nL RX0 ret g A) (hW : WB g A s.heap xIds ad (xE g ad q σ) H locs) (had : xI_ ad) {rs : List RS} (hrs : RSok q.1 g rs) (hf : x_worthFrom_4 σ rs v2 = some (σr, r)) (hR : 408 ≤ R.frames ∧ 16394 ≤ R.locals) (hl : lv_has ls nL lv) (hcat : (rest.map fun v => v.category).sum ≤ 8) (hdg : decode cc pc = .ok (.invokevirtual 279, 3)) (kk : ∀ (H1 : Heap) (l1 : List Loc), WB g A s.heap xIds ad (xE g ad q σr) H1 l1 → W p l e R s m args below meth c H1 l1 0 0 Q (F0 m (pc + 3) ls (.int r :: rest))) : W p l e R s m args below meth c H locs 0 0 Q (F0 m pc ls (.int v2 :: .int 4 :: .ref (ad 999) :: rest)) :=
  r_callV X hW Sub.all (w_x_worthFrom_4 l had hrs hf) (lw_V q1022 q1024 qs38 q120 q1025) ⟨rfl, by decide, by decide, by decide +kernel⟩ xm_999 rfl rfl (n := 2) hR hl rfl rfl hcat ⟨Nat.zero_le _, Nat.zero_le _⟩ hdg kk
-- worthFrom_3
noncomputable def x_worthFrom_3_33 {ρ : Type} (rs : List RS) (v2 : Int32) (K : cS → Int32 → Option ρ) : Nat → cS → Int32 → Int32 → Option ρ
  | 0, _, _, _ => none
  | n + 1, σ, v4, v5 => gd (nz (σ.1 999 0)) (if (σ.1 1999 0) ≤ v5 then (K σ v4) else (if v5 = (-1) then (((d_standsAs (vw2 σ 7000 6000)).bind fun σ_7 => ((if v5 = (-1) then (some ((pb2 σ 7000 6000 σ_7))) else (((d_pushes (vw (pb2 σ 7000 6000 σ_7) 7000) v5 (-1)).bind fun σ_26 => some ((pb (pb2 σ 7000 6000 σ_7) 7000 σ_26)))) : Option (cS)).bind fun σ_8 => (((x_law σ_8 rs).bind fun R_11 => ((d_goes (vw σ_8 7000) R_11).bind fun (σ_14, r_13) => ((x_worthFrom_4 (pb σ_8 7000 σ_14) rs v2).bind fun (σ_17, r_16) => if v5 = (-1) then (x_worthFrom_3_33 rs v2 K n σ_17 r_16 (v5 + 1)) else (if r_16 < v4 then (x_worthFrom_3_33 rs v2 K n σ_17 r_16 (v5 + 1)) else (x_worthFrom_3_33 rs v2 K n σ_17 v4 (v5 + 1)))))))))) else (((d_isBaked (vw σ 1000) v5).bind fun r_28 => if r_28 = 0 then (((d_standsAs (vw2 σ 7000 6000)).bind fun σ_31 => ((if v5 = (-1) then (some ((pb2 σ 7000 6000 σ_31))) else (((d_pushes (vw (pb2 σ 7000 6000 σ_31) 7000) v5 (-1)).bind fun σ_50 => some ((pb (pb2 σ 7000 6000 σ_31) 7000 σ_50)))) : Option (cS)).bind fun σ_32 => (((x_law σ_32 rs).bind fun R_35 => ((d_goes (vw σ_32 7000) R_35).bind fun (σ_38, r_37) => ((x_worthFrom_4 (pb σ_32 7000 σ_38) rs v2).bind fun (σ_41, r_40) => if v5 = (-1) then (x_worthFrom_3_33 rs v2 K n σ_41 r_40 (v5 + 1)) else (if r_40 < v4 then (x_worthFrom_3_33 rs v2 K n σ_41 r_40 (v5 + 1)) else (x_worthFrom_3_33 rs v2 K n σ_41 v4 (v5 + 1)))))))))) else (x_worthFrom_3_33 rs v2 K n σ v4 (v5 + 1))))))
set_option maxHeartbeats 4000000 in
theorem wx_worthFrom_3_33 {p : Program} {l : Launch} {e : Env} {s : State} {m : MethodId} {args : Array Value} {below : List Frame} {meth : Method} {c : Code} {g : gG} {A : Nat → Prop} {ad : Nat → Nat} {q : xR} (X : MX p s m args meth c cX0_worthFrom 8 RX0 (some .int) g A) (had : xI_ ad) {rs : List RS} (hrs : RSok q.1 g rs) {ρ : Type} {res : ρ} {Q : State → Prop} {v2 : Int32}  {K : cS → Int32 → Option ρ}
    (hK : ∀ (σ : cS) (k4 : Int32) (H : Heap) (locs : List Loc) (ls : Array Slot), WB g A s.heap xIds ad (xE g ad q σ) H locs → lv_has ls 8 [(4, .int k4)] → K σ k4 = some res → W p l e (rm_ 408 16394) s m args below meth c H locs 0 0 Q (F0 m 177 ls [])) :
    ∀ (n : Nat) (σ : cS) (v4 : Int32) (v5 : Int32) (H : Heap) (locs : List Loc) (ls : Array Slot), WB g A s.heap xIds ad (xE g ad q σ) H locs → lv_has ls 8 [(0, .ref (ad 999)), (1, .int 3), (2, .int v2), (3, .int 0), (4, .int v4), (5, .int v5)] → x_worthFrom_3_33 rs v2 K n σ v4 v5 = some res → W p l e (rm_ 408 16394) s m args below meth c H locs 0 0 Q (F0 m 33 ls []) := by
  have hx := X.1.1
  have hb := X.1.2.1
  intro n
  induction n with
  | zero =>
    intro σ v4 v5 H locs ls hW hl hf
    rw [x_worthFrom_3_33] at hf
    cases hf
  | succ n ih =>
    intro σ v4 v5 H locs ls hW hl hf
    rw [x_worthFrom_3_33] at hf
    refine lv_iload hx hb dX0_worthFrom_33 (lv_at hl 5 rfl) ?_
    refine lv_aload_n hx hb dX0_worthFrom_35 rfl (lv_at hl 0 rfl) ?_
    obtain ⟨z_3, hf⟩ := gd_e hf
    replace z_3 := nz_e z_3
    refine xg_0s X hW xm_999 z_3 dX0_worthFrom_36 ?_
    refine xg_1000 X hW xm_1999 dX0_worthFrom_39 ?_
    refine lv_icmp_ge (tgt := 177) hx hb dX0_worthFrom_42 (by decide) (fun c_4 => ?_) (fun c_4 => ?_)
    · replace hf := ip hf c_4
      exact hK _ _ _ _ _ hW (lv_sub hl [4] rfl) hf
    · replace hf := ine hf c_4
      refine lv_iload hx hb dX0_worthFrom_45 (lv_at hl 5 rfl) ?_
      refine lv_iconst (v := (-1)) hx hb dX0_worthFrom_47 (by decide) ?_
      refine lv_icmp_eq (tgt := 66) hx hb dX0_worthFrom_48 (by decide) (fun c_5 => ?_) (fun c_5 => ?_)
      · replace hf := ip hf c_5
        refine lv_aload_n hx hb dX0_worthFrom_66 rfl (lv_at hl 0 rfl) ?_
        refine xg_3 X hW xm_999 dX0_worthFrom_67 ?_
        refine lv_iload_n hx hb dX0_worthFrom_70 rfl (lv_at hl 1 rfl) ?_
        refine lv_iconst (v := 1) hx hb dX0_worthFrom_71 (by decide) ?_
        refine r_iaddv (v := 4) hx hb dX0_worthFrom_72 (by decide) ?_
        refine r_aald X hW (t0 := 4) xm_3 rfl rfl (by decide) (v := .ref (ad 7999)) rfl dX0_worthFrom_73 ?_
        refine lv_aload_n hx hb dX0_worthFrom_74 rfl (lv_at hl 0 rfl) ?_
        refine xg_3 X hW xm_999 dX0_worthFrom_75 ?_
        refine lv_iload_n hx hb dX0_worthFrom_78 rfl (lv_at hl 1 rfl) ?_
        refine r_aald X hW (t0 := 4) xm_3 rfl rfl (by decide) (v := .ref (ad 6999)) rfl dX0_worthFrom_79 ?_
        obtain ⟨σ_7, h_6, hf⟩ := bd_e hf
        refine kx_standsAs X hW had (b := 7000) (c2 := 6000) (by decide) (by decide) (by decide) h_6 (by decide) hl (Nat.le_of_ble_eq_true rfl) dX0_worthFrom_80 (fun H locs hW => ?_)
        refine lv_astore (lv' := [(6, .ref (ad 7999)), (0, .ref (ad 999)), (1, .int 3), (2, .int v2), (3, .int 0), (4, .int v4), (5, .int v5)]) hx hb dX0_worthFrom_83 hl (by decide) rfl (fun ls hl => ?_)
        refine lv_iload hx hb dX0_worthFrom_85 (lv_at hl 6 rfl) ?_
        refine lv_iconst (v := (-1)) hx hb dX0_worthFrom_87 (by decide) ?_
        obtain ⟨σ_8, hD_9, hf⟩ := bd_e hf
        have hJ : ∀ (H : Heap) (locs : List Loc) (ls : Array Slot), WB g A s.heap xIds ad (xE g ad q σ_8) H locs → lv_has ls 8 [(0, .ref (ad 999)), (1, .int 3), (2, .int v2), (3, .int 0), (4, .int v4), (5, .int v5), (6, .ref (ad 7999))] → W p l e (rm_ 408 16394) s m args below meth c H locs 0 0 Q (F0 m 107 ls []) := by
          intro H locs ls hW hl
          refine lv_aload hx hb dX0_worthFrom_107 (lv_at hl 6 rfl) ?_
          refine lv_aload_n hx hb dX0_worthFrom_109 rfl (lv_at hl 0 rfl) ?_
          obtain ⟨R_11, h_10, hf⟩ := bd_e hf
          refine kx_law X hW had hrs h_10 (by decide) hl (Nat.le_of_ble_eq_true rfl) dX0_worthFrom_110 (fun q_R_11 hq_R_11 H locs hW => ?_)
          obtain ⟨⟨σ_14, r_13⟩, h_12, hf⟩ := bd_e hf
          refine kx_goes X hW had (b := 7000) (by decide) hq_R_11 h_12 (by decide) hl (Nat.le_of_ble_eq_true rfl) dX0_worthFrom_113 (fun H locs hW => ?_)
          refine lv_pop hx hb dX0_worthFrom_116 rfl ?_
          refine lv_aload_n hx hb dX0_worthFrom_117 rfl (lv_at hl 0 rfl) ?_
          refine lv_iload_n hx hb dX0_worthFrom_118 rfl (lv_at hl 1 rfl) ?_
          refine lv_iconst (v := 1) hx hb dX0_worthFrom_119 (by decide) ?_
          refine r_iaddv (v := 4) hx hb dX0_worthFrom_120 (by decide) ?_
          refine lv_iload_n hx hb dX0_worthFrom_121 rfl (lv_at hl 2 rfl) ?_
          obtain ⟨⟨σ_17, r_16⟩, h_15, hf⟩ := bd_e hf
          refine kx_worthFrom_4 X hW had hrs h_15 (by decide) hl (Nat.le_of_ble_eq_true rfl) dX0_worthFrom_122 (fun H locs hW => ?_)
          refine lv_istore (lv' := [(7, .int r_16), (0, .ref (ad 999)), (1, .int 3), (2, .int v2), (3, .int 0), (4, .int v4), (5, .int v5), (6, .ref (ad 7999))]) hx hb dX0_worthFrom_125 hl (by decide) rfl (fun ls hl => ?_)
          refine lv_iload hx hb dX0_worthFrom_127 (lv_at hl 6 rfl) ?_
          refine lv_iconst (v := (-1)) hx hb dX0_worthFrom_129 (by decide) ?_
          refine lv_icmp_eq (tgt := 157) hx hb dX0_worthFrom_130 (by decide) (fun c_18 => ?_) (fun c_18 => ?_)
          · replace hf := ip hf c_18
            refine lv_iload hx hb dX0_worthFrom_157 (lv_at hl 0 rfl) ?_
            refine lv_istore (lv' := [(4, .int r_16), (7, .int r_16), (0, .ref (ad 999)), (1, .int 3), (2, .int v2), (3, .int 0), (5, .int v5), (6, .ref (ad 7999))]) hx hb dX0_worthFrom_159 hl (by decide) rfl (fun ls hl => ?_)
            refine lv_iload_n hx hb dX0_worthFrom_161 rfl (lv_at hl 3 rfl) ?_
            refine lv_if_ne (tgt := 171) hx hb dX0_worthFrom_162 (by decide) (fun c_19 => ?_) (fun c_19 => absurd c_19 (by decide))
            refine lv_iinc (v := (v5 + 1)) (lv' := [(5, .int (v5 + 1)), (4, .int r_16), (7, .int r_16), (0, .ref (ad 999)), (1, .int 3), (2, .int v2), (3, .int 0), (6, .ref (ad 7999))]) hx hb dX0_worthFrom_171 hl (k := 6) rfl (ii_v _ _ _ (by decide)) (by decide) rfl (fun ls hl => ?_)
            refine lv_goto (tgt := 33) hx hb dX0_worthFrom_174 (by decide) ?_
            exact ih _ _ _ _ _ _ hW (lv_sub hl [3, 4, 5, 6, 1, 0] rfl) hf
          · replace hf := ine hf c_18
            refine lv_iload_n hx hb dX0_worthFrom_133 rfl (lv_at hl 4 rfl) ?_
            refine lv_if_eq (tgt := 147) hx hb dX0_worthFrom_134 (by decide) (fun c_20 => ?_) (fun c_20 => absurd c_20 (by decide))
            refine lv_iload hx hb dX0_worthFrom_147 (lv_at hl 0 rfl) ?_
            refine lv_iload hx hb dX0_worthFrom_149 (lv_at hl 5 rfl) ?_
            refine lv_icmp_lt (tgt := 157) hx hb dX0_worthFrom_151 (by decide) (fun c_21 => ?_) (fun c_21 => ?_)
            · replace hf := ip hf c_21
              refine lv_iload hx hb dX0_worthFrom_157 (lv_at hl 0 rfl) ?_
              refine lv_istore (lv' := [(4, .int r_16), (7, .int r_16), (0, .ref (ad 999)), (1, .int 3), (2, .int v2), (3, .int 0), (5, .int v5), (6, .ref (ad 7999))]) hx hb dX0_worthFrom_159 hl (by decide) rfl (fun ls hl => ?_)
              refine lv_iload_n hx hb dX0_worthFrom_161 rfl (lv_at hl 3 rfl) ?_
              refine lv_if_ne (tgt := 171) hx hb dX0_worthFrom_162 (by decide) (fun c_22 => ?_) (fun c_22 => absurd c_22 (by decide))
              refine lv_iinc (v := (v5 + 1)) (lv' := [(5, .int (v5 + 1)), (4, .int r_16), (7, .int r_16), (0, .ref (ad 999)), (1, .int 3), (2, .int v2), (3, .int 0), (6, .ref (ad 7999))]) hx hb dX0_worthFrom_171 hl (k := 6) rfl (ii_v _ _ _ (by decide)) (by decide) rfl (fun ls hl => ?_)
              refine lv_goto (tgt := 33) hx hb dX0_worthFrom_174 (by decide) ?_
              exact ih _ _ _ _ _ _ hW (lv_sub hl [3, 4, 5, 6, 1, 0] rfl) hf
            · replace hf := ine hf c_21
              refine lv_goto (tgt := 171) hx hb dX0_worthFrom_154 (by decide) ?_
              refine lv_iinc (v := (v5 + 1)) (lv' := [(5, .int (v5 + 1)), (7, .int r_16), (0, .ref (ad 999)), (1, .int 3), (2, .int v2), (3, .int 0), (4, .int v4), (6, .ref (ad 7999))]) hx hb dX0_worthFrom_171 hl (k := 6) rfl (ii_v _ _ _ (by decide)) (by decide) rfl (fun ls hl => ?_)
              refine lv_goto (tgt := 33) hx hb dX0_worthFrom_174 (by decide) ?_
              exact ih _ _ _ _ _ _ hW (lv_sub hl [2, 3, 4, 5, 6, 0] rfl) hf
        clear hf
        refine lv_icmp_eq (tgt := 107) hx hb dX0_worthFrom_88 (by decide) (fun c_23 => ?_) (fun c_23 => ?_)
        · replace hD_9 := ip hD_9 c_23
          cases hD_9
          exact hJ _ _ _ hW (lv_sub hl [1, 2, 3, 4, 5, 6, 0] rfl)
        · replace hD_9 := ine hD_9 c_23
          refine lv_aload hx hb dX0_worthFrom_91 (lv_at hl 0 rfl) ?_
          refine lv_iload hx hb dX0_worthFrom_93 (lv_at hl 6 rfl) ?_
          refine lv_iload_n hx hb dX0_worthFrom_95 rfl (lv_at hl 4 rfl) ?_
          refine lv_if_eq (tgt := 103) hx hb dX0_worthFrom_96 (by decide) (fun c_24 => ?_) (fun c_24 => absurd c_24 (by decide))
          refine lv_iconst (v := (-1)) hx hb dX0_worthFrom_103 (by decide) ?_
          obtain ⟨σ_26, h_25, hD_9⟩ := bd_e hD_9
          refine kx_pushes X hW had (b := 7000) (by decide) h_25 (by decide) hl (Nat.le_of_ble_eq_true rfl) dX0_worthFrom_104 (fun H locs hW => ?_)
          cases hD_9
          exact hJ _ _ _ hW (lv_sub hl [1, 2, 3, 4, 5, 6, 0] rfl)
      · replace hf := ine hf c_5
        refine lv_aload_n hx hb dX0_worthFrom_51 rfl (lv_at hl 0 rfl) ?_
        refine xg_0s X hW xm_999 z_3 dX0_worthFrom_52 ?_
        refine lv_iload hx hb dX0_worthFrom_55 (lv_at hl 5 rfl) ?_
        obtain ⟨r_28, h_27, hf⟩ := bd_e hf
        refine kx_isBaked X hW had (b := 1000) (by decide) h_27 (by decide) hl (Nat.le_of_ble_eq_true rfl) dX0_worthFrom_57 (fun H locs hW => ?_)
        refine lv_if_eq (tgt := 66) hx hb dX0_worthFrom_60 (by decide) (fun c_29 => ?_) (fun c_29 => ?_)
        · replace hf := ip hf c_29
          refine lv_aload_n hx hb dX0_worthFrom_66 rfl (lv_at hl 0 rfl) ?_
          refine xg_3 X hW xm_999 dX0_worthFrom_67 ?_
          refine lv_iload_n hx hb dX0_worthFrom_70 rfl (lv_at hl 1 rfl) ?_
          refine lv_iconst (v := 1) hx hb dX0_worthFrom_71 (by decide) ?_
          refine r_iaddv (v := 4) hx hb dX0_worthFrom_72 (by decide) ?_
          refine r_aald X hW (t0 := 4) xm_3 rfl rfl (by decide) (v := .ref (ad 7999)) rfl dX0_worthFrom_73 ?_
          refine lv_aload_n hx hb dX0_worthFrom_74 rfl (lv_at hl 0 rfl) ?_
          refine xg_3 X hW xm_999 dX0_worthFrom_75 ?_
          refine lv_iload_n hx hb dX0_worthFrom_78 rfl (lv_at hl 1 rfl) ?_
          refine r_aald X hW (t0 := 4) xm_3 rfl rfl (by decide) (v := .ref (ad 6999)) rfl dX0_worthFrom_79 ?_
          obtain ⟨σ_31, h_30, hf⟩ := bd_e hf
          refine kx_standsAs X hW had (b := 7000) (c2 := 6000) (by decide) (by decide) (by decide) h_30 (by decide) hl (Nat.le_of_ble_eq_true rfl) dX0_worthFrom_80 (fun H locs hW => ?_)
          refine lv_astore (lv' := [(6, .ref (ad 7999)), (0, .ref (ad 999)), (1, .int 3), (2, .int v2), (3, .int 0), (4, .int v4), (5, .int v5)]) hx hb dX0_worthFrom_83 hl (by decide) rfl (fun ls hl => ?_)
          refine lv_iload hx hb dX0_worthFrom_85 (lv_at hl 6 rfl) ?_
          refine lv_iconst (v := (-1)) hx hb dX0_worthFrom_87 (by decide) ?_
          obtain ⟨σ_32, hD_33, hf⟩ := bd_e hf
          have hJ : ∀ (H : Heap) (locs : List Loc) (ls : Array Slot), WB g A s.heap xIds ad (xE g ad q σ_32) H locs → lv_has ls 8 [(0, .ref (ad 999)), (1, .int 3), (2, .int v2), (3, .int 0), (4, .int v4), (5, .int v5), (6, .ref (ad 7999))] → W p l e (rm_ 408 16394) s m args below meth c H locs 0 0 Q (F0 m 107 ls []) := by
            intro H locs ls hW hl
            refine lv_aload hx hb dX0_worthFrom_107 (lv_at hl 6 rfl) ?_
            refine lv_aload_n hx hb dX0_worthFrom_109 rfl (lv_at hl 0 rfl) ?_
            obtain ⟨R_35, h_34, hf⟩ := bd_e hf
            refine kx_law X hW had hrs h_34 (by decide) hl (Nat.le_of_ble_eq_true rfl) dX0_worthFrom_110 (fun q_R_35 hq_R_35 H locs hW => ?_)
            obtain ⟨⟨σ_38, r_37⟩, h_36, hf⟩ := bd_e hf
            refine kx_goes X hW had (b := 7000) (by decide) hq_R_35 h_36 (by decide) hl (Nat.le_of_ble_eq_true rfl) dX0_worthFrom_113 (fun H locs hW => ?_)
            refine lv_pop hx hb dX0_worthFrom_116 rfl ?_
            refine lv_aload_n hx hb dX0_worthFrom_117 rfl (lv_at hl 0 rfl) ?_
            refine lv_iload_n hx hb dX0_worthFrom_118 rfl (lv_at hl 1 rfl) ?_
            refine lv_iconst (v := 1) hx hb dX0_worthFrom_119 (by decide) ?_
            refine r_iaddv (v := 4) hx hb dX0_worthFrom_120 (by decide) ?_
            refine lv_iload_n hx hb dX0_worthFrom_121 rfl (lv_at hl 2 rfl) ?_
            obtain ⟨⟨σ_41, r_40⟩, h_39, hf⟩ := bd_e hf
            refine kx_worthFrom_4 X hW had hrs h_39 (by decide) hl (Nat.le_of_ble_eq_true rfl) dX0_worthFrom_122 (fun H locs hW => ?_)
            refine lv_istore (lv' := [(7, .int r_40), (0, .ref (ad 999)), (1, .int 3), (2, .int v2), (3, .int 0), (4, .int v4), (5, .int v5), (6, .ref (ad 7999))]) hx hb dX0_worthFrom_125 hl (by decide) rfl (fun ls hl => ?_)
            refine lv_iload hx hb dX0_worthFrom_127 (lv_at hl 6 rfl) ?_
            refine lv_iconst (v := (-1)) hx hb dX0_worthFrom_129 (by decide) ?_
            refine lv_icmp_eq (tgt := 157) hx hb dX0_worthFrom_130 (by decide) (fun c_42 => ?_) (fun c_42 => ?_)
            · replace hf := ip hf c_42
              refine lv_iload hx hb dX0_worthFrom_157 (lv_at hl 0 rfl) ?_
              refine lv_istore (lv' := [(4, .int r_40), (7, .int r_40), (0, .ref (ad 999)), (1, .int 3), (2, .int v2), (3, .int 0), (5, .int v5), (6, .ref (ad 7999))]) hx hb dX0_worthFrom_159 hl (by decide) rfl (fun ls hl => ?_)
              refine lv_iload_n hx hb dX0_worthFrom_161 rfl (lv_at hl 3 rfl) ?_
              refine lv_if_ne (tgt := 171) hx hb dX0_worthFrom_162 (by decide) (fun c_43 => ?_) (fun c_43 => absurd c_43 (by decide))
              refine lv_iinc (v := (v5 + 1)) (lv' := [(5, .int (v5 + 1)), (4, .int r_40), (7, .int r_40), (0, .ref (ad 999)), (1, .int 3), (2, .int v2), (3, .int 0), (6, .ref (ad 7999))]) hx hb dX0_worthFrom_171 hl (k := 6) rfl (ii_v _ _ _ (by decide)) (by decide) rfl (fun ls hl => ?_)
              refine lv_goto (tgt := 33) hx hb dX0_worthFrom_174 (by decide) ?_
              exact ih _ _ _ _ _ _ hW (lv_sub hl [3, 4, 5, 6, 1, 0] rfl) hf
            · replace hf := ine hf c_42
              refine lv_iload_n hx hb dX0_worthFrom_133 rfl (lv_at hl 4 rfl) ?_
              refine lv_if_eq (tgt := 147) hx hb dX0_worthFrom_134 (by decide) (fun c_44 => ?_) (fun c_44 => absurd c_44 (by decide))
              refine lv_iload hx hb dX0_worthFrom_147 (lv_at hl 0 rfl) ?_
              refine lv_iload hx hb dX0_worthFrom_149 (lv_at hl 5 rfl) ?_
              refine lv_icmp_lt (tgt := 157) hx hb dX0_worthFrom_151 (by decide) (fun c_45 => ?_) (fun c_45 => ?_)
              · replace hf := ip hf c_45
                refine lv_iload hx hb dX0_worthFrom_157 (lv_at hl 0 rfl) ?_
                refine lv_istore (lv' := [(4, .int r_40), (7, .int r_40), (0, .ref (ad 999)), (1, .int 3), (2, .int v2), (3, .int 0), (5, .int v5), (6, .ref (ad 7999))]) hx hb dX0_worthFrom_159 hl (by decide) rfl (fun ls hl => ?_)
                refine lv_iload_n hx hb dX0_worthFrom_161 rfl (lv_at hl 3 rfl) ?_
                refine lv_if_ne (tgt := 171) hx hb dX0_worthFrom_162 (by decide) (fun c_46 => ?_) (fun c_46 => absurd c_46 (by decide))
                refine lv_iinc (v := (v5 + 1)) (lv' := [(5, .int (v5 + 1)), (4, .int r_40), (7, .int r_40), (0, .ref (ad 999)), (1, .int 3), (2, .int v2), (3, .int 0), (6, .ref (ad 7999))]) hx hb dX0_worthFrom_171 hl (k := 6) rfl (ii_v _ _ _ (by decide)) (by decide) rfl (fun ls hl => ?_)
                refine lv_goto (tgt := 33) hx hb dX0_worthFrom_174 (by decide) ?_
                exact ih _ _ _ _ _ _ hW (lv_sub hl [3, 4, 5, 6, 1, 0] rfl) hf
              · replace hf := ine hf c_45
                refine lv_goto (tgt := 171) hx hb dX0_worthFrom_154 (by decide) ?_
                refine lv_iinc (v := (v5 + 1)) (lv' := [(5, .int (v5 + 1)), (7, .int r_40), (0, .ref (ad 999)), (1, .int 3), (2, .int v2), (3, .int 0), (4, .int v4), (6, .ref (ad 7999))]) hx hb dX0_worthFrom_171 hl (k := 6) rfl (ii_v _ _ _ (by decide)) (by decide) rfl (fun ls hl => ?_)
                refine lv_goto (tgt := 33) hx hb dX0_worthFrom_174 (by decide) ?_
                exact ih _ _ _ _ _ _ hW (lv_sub hl [2, 3, 4, 5, 6, 0] rfl) hf
          clear hf
          refine lv_icmp_eq (tgt := 107) hx hb dX0_worthFrom_88 (by decide) (fun c_47 => ?_) (fun c_47 => ?_)
          · replace hD_33 := ip hD_33 c_47
            cases hD_33
            exact hJ _ _ _ hW (lv_sub hl [1, 2, 3, 4, 5, 6, 0] rfl)
          · replace hD_33 := ine hD_33 c_47
            refine lv_aload hx hb dX0_worthFrom_91 (lv_at hl 0 rfl) ?_
            refine lv_iload hx hb dX0_worthFrom_93 (lv_at hl 6 rfl) ?_
            refine lv_iload_n hx hb dX0_worthFrom_95 rfl (lv_at hl 4 rfl) ?_
            refine lv_if_eq (tgt := 103) hx hb dX0_worthFrom_96 (by decide) (fun c_48 => ?_) (fun c_48 => absurd c_48 (by decide))
            refine lv_iconst (v := (-1)) hx hb dX0_worthFrom_103 (by decide) ?_
            obtain ⟨σ_50, h_49, hD_33⟩ := bd_e hD_33
            refine kx_pushes X hW had (b := 7000) (by decide) h_49 (by decide) hl (Nat.le_of_ble_eq_true rfl) dX0_worthFrom_104 (fun H locs hW => ?_)
            cases hD_33
            exact hJ _ _ _ hW (lv_sub hl [1, 2, 3, 4, 5, 6, 0] rfl)
        · replace hf := ine hf c_29
          refine lv_goto (tgt := 171) hx hb dX0_worthFrom_63 (by decide) ?_
          refine lv_iinc (v := (v5 + 1)) (lv' := [(5, .int (v5 + 1)), (0, .ref (ad 999)), (1, .int 3), (2, .int v2), (3, .int 0), (4, .int v4)]) hx hb dX0_worthFrom_171 hl (k := 5) rfl (ii_v _ _ _ (by decide)) (by decide) rfl (fun ls hl => ?_)
          refine lv_goto (tgt := 33) hx hb dX0_worthFrom_174 (by decide) ?_
          exact ih _ _ _ _ _ _ hW (lv_sub hl [1, 2, 3, 4, 5, 0] rfl) hf
noncomputable def x_worthFrom_3 (σ : cS) (rs : List RS) (v2 : Int32) : Option (cS × Int32) :=
  if 3 = v2 then (((d_west (vw σ 6000)).bind fun r_55 => some (σ, r_55))) else (((some () : Option (Unit)).bind fun _ => (x_worthFrom_3_33 rs v2 (fun σ_51 v_52 => (some (σ_51, v_52))) FU σ 0 (-1))))
set_option maxHeartbeats 4000000 in
theorem wb_x_worthFrom_3 {p : Program} {l : Launch} {e : Env} {s : State} {m : MethodId} {args : Array Value} {below : List Frame} {meth : Method} {c : Code} {g : gG} {A : Nat → Prop} {ad : Nat → Nat} {q : xR} (X : MX p s m args meth c cX0_worthFrom 8 RX0 (some .int) g A) (had : xI_ ad) {rs : List RS} (hrs : RSok q.1 g rs) {σr : cS} {r : Int32} {σ : cS} {v2 : Int32} {H : Heap} {locs : List Loc} {ls : Array Slot} (hW : WB g A s.heap xIds ad (xE g ad q σ) H locs) (hl : lv_has ls 8 [(0, .ref (ad 999)), (1, .int 3), (2, .int v2)]) (hf : x_worthFrom_3 σ rs v2 = some (σr, r)) : W p l e (rm_ 408 16394) s m args below meth c H locs 0 0 (Qm below g xIds ad (xE g ad q σr) (some (.int r)) A args s) (F0 m 0 ls []) := by
  have hx := X.1.1
  have hb := X.1.2.1
  unfold x_worthFrom_3 at hf
  refine lv_iload_n hx hb dX0_worthFrom_0 rfl (lv_at hl 1 rfl) ?_
  refine lv_iload_n hx hb dX0_worthFrom_1 rfl (lv_at hl 2 rfl) ?_
  refine lv_icmp_ne (tgt := 15) hx hb dX0_worthFrom_2 (by decide) (fun c_1 => ?_) (fun c_1 => ?_)
  · replace hf := ine hf c_1
    refine lv_iload_n hx hb dX0_worthFrom_15 rfl (lv_at hl 1 rfl) ?_
    refine lv_iconst (v := 2) hx hb dX0_worthFrom_16 (by decide) ?_
    refine r_iremv (v := 1) hx hb dX0_worthFrom_17 (by decide) (by decide) ?_
    obtain ⟨_, hD_2, hf⟩ := bd_e hf
    have hJ : ∀ (H : Heap) (locs : List Loc) (ls : Array Slot), WB g A s.heap xIds ad (xE g ad q σ) H locs → lv_has ls 8 [(0, .ref (ad 999)), (1, .int 3), (2, .int v2)] → W p l e (rm_ 408 16394) s m args below meth c H locs 0 0 (Qm below g xIds ad (xE g ad q σr) (some (.int r)) A args s) (F0 m 26 ls [.int 0]) := by
      intro H locs ls hW hl
      refine lv_istore_n (lv' := [(3, .int 0), (0, .ref (ad 999)), (1, .int 3), (2, .int v2)]) hx hb dX0_worthFrom_26 rfl hl (by decide) rfl (fun ls hl => ?_)
      refine lv_iconst (v := 0) hx hb dX0_worthFrom_27 (by decide) ?_
      refine lv_istore (lv' := [(4, .int 0), (3, .int 0), (0, .ref (ad 999)), (1, .int 3), (2, .int v2)]) hx hb dX0_worthFrom_28 hl (by decide) rfl (fun ls hl => ?_)
      refine lv_iconst (v := (-1)) hx hb dX0_worthFrom_30 (by decide) ?_
      refine lv_istore (lv' := [(5, .int (-1)), (4, .int 0), (3, .int 0), (0, .ref (ad 999)), (1, .int 3), (2, .int v2)]) hx hb dX0_worthFrom_31 hl (by decide) rfl (fun ls hl => ?_)
      refine wx_worthFrom_3_33 X had hrs (fun σ_51 v_52 H locs ls hW hl hf => ?_) _ _ _ _ _ _ _ hW (lv_sub hl [3, 4, 5, 2, 1, 0] rfl) hf
      refine lv_iload hx hb dX0_worthFrom_177 (lv_at hl 0 rfl) ?_
      exact x_iret X hW hf dX0_worthFrom_179
    clear hf
    refine lv_if_ne (tgt := 25) hx hb dX0_worthFrom_18 (by decide) (fun c_53 => ?_) (fun c_53 => absurd c_53 (by decide))
    refine lv_iconst (v := 0) hx hb dX0_worthFrom_25 (by decide) ?_
    cases hD_2
    exact hJ _ _ _ hW (lv_sub hl [0, 1, 2] rfl)
  · replace hf := ip hf c_1
    refine lv_aload_n hx hb dX0_worthFrom_5 rfl (lv_at hl 0 rfl) ?_
    refine xg_3 X hW xm_999 dX0_worthFrom_6 ?_
    refine lv_iload_n hx hb dX0_worthFrom_9 rfl (lv_at hl 1 rfl) ?_
    refine r_aald X hW (t0 := 4) xm_3 rfl rfl (by decide) (v := .ref (ad 6999)) rfl dX0_worthFrom_10 ?_
    obtain ⟨r_55, h_54, hf⟩ := bd_e hf
    refine kx_west X hW had (b := 6000) (by decide) h_54 (by decide) hl (Nat.le_of_ble_eq_true rfl) dX0_worthFrom_11 (fun H locs hW => ?_)
    exact x_iret X hW hf dX0_worthFrom_14
theorem w_x_worthFrom_3 (l : Launch) {g : gG} {ad : Nat → Nat} {q : xR} (had : xI_ ad) {rs : List RS} (hrs : RSok q.1 g rs) {σr : cS} {r : Int32} {σ : cS} {v2 : Int32} (hf : x_worthFrom_3 σ rs v2 = some (σr, r)) : MC l yX0_worthFrom cX0_worthFrom 8 (some .int) 408 16394 g xIds ad (xE g ad q σ) (xE g ad q σr) [.ref (ad 999), .int 3, .int v2] (some (.int r)) :=
  MC.of (by decide) xIds_nd had (Nat.le_of_ble_eq_true rfl) (fun p e s m below meth c A ls X hW hl => wb_x_worthFrom_3 X had hrs hW hl hf)
theorem kx_worthFrom_3 {p : Program} {l : Launch} {e : Env} {R : Room} {s : State} {m : MethodId} {args : Array Value} {below : List Frame} {meth : Method} {c : Code} {H : Heap} {locs : List Loc} {Q : State → Prop} {cc : ByteArray} {nL : Nat} {ret : Option FieldType} {g : gG} {A : Nat → Prop} {ad : Nat → Nat} {q : xR} {pc : Nat} {ls : Array Slot} {rest : List Value} {lv : List (Nat × Value)} {σr : cS} {r : Int32} {σ : cS} {v2 : Int32} (X : MX p s m args meth c cc nL RX0 ret g A) (hW : WB g A s.heap xIds ad (xE g ad q σ) H locs) (had : xI_ ad) {rs : List RS} (hrs : RSok q.1 g rs) (hf : x_worthFrom_3 σ rs v2 = some (σr, r)) (hR : 409 ≤ R.frames ∧ 16421 ≤ R.locals) (hl : lv_has ls nL lv) (hcat : (rest.map fun v => v.category).sum ≤ 8) (hdg : decode cc pc = .ok (.invokevirtual 279, 3)) (kk : ∀ (H1 : Heap) (l1 : List Loc), WB g A s.heap xIds ad (xE g ad q σr) H1 l1 → W p l e R s m args below meth c H1 l1 0 0 Q (F0 m (pc + 3) ls (.int r :: rest))) : W p l e R s m args below meth c H locs 0 0 Q (F0 m pc ls (.int v2 :: .int 3 :: .ref (ad 999) :: rest)) :=
  r_callV X hW Sub.all (w_x_worthFrom_3 l had hrs hf) (lw_V q1022 q1024 qs38 q120 q1025) ⟨rfl, by decide, by decide, by decide +kernel⟩ xm_999 rfl rfl (n := 2) hR hl rfl rfl hcat ⟨Nat.zero_le _, Nat.zero_le _⟩ hdg kk
-- worthFrom_2
noncomputable def x_worthFrom_2_33 {ρ : Type} (rs : List RS) (v2 : Int32) (K : cS → Int32 → Option ρ) : Nat → cS → Int32 → Int32 → Option ρ
  | 0, _, _, _ => none
  | n + 1, σ, v4, v5 => gd (nz (σ.1 999 0)) (if (σ.1 1999 0) ≤ v5 then (K σ v4) else (if v5 = (-1) then (((d_standsAs (vw2 σ 6000 5000)).bind fun σ_7 => ((if v5 = (-1) then (some ((pb2 σ 6000 5000 σ_7))) else (((d_pushes (vw (pb2 σ 6000 5000 σ_7) 6000) v5 1).bind fun σ_26 => some ((pb (pb2 σ 6000 5000 σ_7) 6000 σ_26)))) : Option (cS)).bind fun σ_8 => (((x_law σ_8 rs).bind fun R_11 => ((d_goes (vw σ_8 6000) R_11).bind fun (σ_14, r_13) => ((x_worthFrom_3 (pb σ_8 6000 σ_14) rs v2).bind fun (σ_17, r_16) => if v5 = (-1) then (x_worthFrom_2_33 rs v2 K n σ_17 r_16 (v5 + 1)) else (if v4 < r_16 then (x_worthFrom_2_33 rs v2 K n σ_17 r_16 (v5 + 1)) else (x_worthFrom_2_33 rs v2 K n σ_17 v4 (v5 + 1)))))))))) else (((d_isBaked (vw σ 1000) v5).bind fun r_28 => if r_28 = 0 then (((d_standsAs (vw2 σ 6000 5000)).bind fun σ_31 => ((if v5 = (-1) then (some ((pb2 σ 6000 5000 σ_31))) else (((d_pushes (vw (pb2 σ 6000 5000 σ_31) 6000) v5 1).bind fun σ_50 => some ((pb (pb2 σ 6000 5000 σ_31) 6000 σ_50)))) : Option (cS)).bind fun σ_32 => (((x_law σ_32 rs).bind fun R_35 => ((d_goes (vw σ_32 6000) R_35).bind fun (σ_38, r_37) => ((x_worthFrom_3 (pb σ_32 6000 σ_38) rs v2).bind fun (σ_41, r_40) => if v5 = (-1) then (x_worthFrom_2_33 rs v2 K n σ_41 r_40 (v5 + 1)) else (if v4 < r_40 then (x_worthFrom_2_33 rs v2 K n σ_41 r_40 (v5 + 1)) else (x_worthFrom_2_33 rs v2 K n σ_41 v4 (v5 + 1)))))))))) else (x_worthFrom_2_33 rs v2 K n σ v4 (v5 + 1))))))
set_option maxHeartbeats 4000000 in
theorem wx_worthFrom_2_33 {p : Program} {l : Launch} {e : Env} {s : State} {m : MethodId} {args : Array Value} {below : List Frame} {meth : Method} {c : Code} {g : gG} {A : Nat → Prop} {ad : Nat → Nat} {q : xR} (X : MX p s m args meth c cX0_worthFrom 8 RX0 (some .int) g A) (had : xI_ ad) {rs : List RS} (hrs : RSok q.1 g rs) {ρ : Type} {res : ρ} {Q : State → Prop} {v2 : Int32}  {K : cS → Int32 → Option ρ}
    (hK : ∀ (σ : cS) (k4 : Int32) (H : Heap) (locs : List Loc) (ls : Array Slot), WB g A s.heap xIds ad (xE g ad q σ) H locs → lv_has ls 8 [(4, .int k4)] → K σ k4 = some res → W p l e (rm_ 409 16421) s m args below meth c H locs 0 0 Q (F0 m 177 ls [])) :
    ∀ (n : Nat) (σ : cS) (v4 : Int32) (v5 : Int32) (H : Heap) (locs : List Loc) (ls : Array Slot), WB g A s.heap xIds ad (xE g ad q σ) H locs → lv_has ls 8 [(0, .ref (ad 999)), (1, .int 2), (2, .int v2), (3, .int 1), (4, .int v4), (5, .int v5)] → x_worthFrom_2_33 rs v2 K n σ v4 v5 = some res → W p l e (rm_ 409 16421) s m args below meth c H locs 0 0 Q (F0 m 33 ls []) := by
  have hx := X.1.1
  have hb := X.1.2.1
  intro n
  induction n with
  | zero =>
    intro σ v4 v5 H locs ls hW hl hf
    rw [x_worthFrom_2_33] at hf
    cases hf
  | succ n ih =>
    intro σ v4 v5 H locs ls hW hl hf
    rw [x_worthFrom_2_33] at hf
    refine lv_iload hx hb dX0_worthFrom_33 (lv_at hl 5 rfl) ?_
    refine lv_aload_n hx hb dX0_worthFrom_35 rfl (lv_at hl 0 rfl) ?_
    obtain ⟨z_3, hf⟩ := gd_e hf
    replace z_3 := nz_e z_3
    refine xg_0s X hW xm_999 z_3 dX0_worthFrom_36 ?_
    refine xg_1000 X hW xm_1999 dX0_worthFrom_39 ?_
    refine lv_icmp_ge (tgt := 177) hx hb dX0_worthFrom_42 (by decide) (fun c_4 => ?_) (fun c_4 => ?_)
    · replace hf := ip hf c_4
      exact hK _ _ _ _ _ hW (lv_sub hl [4] rfl) hf
    · replace hf := ine hf c_4
      refine lv_iload hx hb dX0_worthFrom_45 (lv_at hl 5 rfl) ?_
      refine lv_iconst (v := (-1)) hx hb dX0_worthFrom_47 (by decide) ?_
      refine lv_icmp_eq (tgt := 66) hx hb dX0_worthFrom_48 (by decide) (fun c_5 => ?_) (fun c_5 => ?_)
      · replace hf := ip hf c_5
        refine lv_aload_n hx hb dX0_worthFrom_66 rfl (lv_at hl 0 rfl) ?_
        refine xg_3 X hW xm_999 dX0_worthFrom_67 ?_
        refine lv_iload_n hx hb dX0_worthFrom_70 rfl (lv_at hl 1 rfl) ?_
        refine lv_iconst (v := 1) hx hb dX0_worthFrom_71 (by decide) ?_
        refine r_iaddv (v := 3) hx hb dX0_worthFrom_72 (by decide) ?_
        refine r_aald X hW (t0 := 4) xm_3 rfl rfl (by decide) (v := .ref (ad 6999)) rfl dX0_worthFrom_73 ?_
        refine lv_aload_n hx hb dX0_worthFrom_74 rfl (lv_at hl 0 rfl) ?_
        refine xg_3 X hW xm_999 dX0_worthFrom_75 ?_
        refine lv_iload_n hx hb dX0_worthFrom_78 rfl (lv_at hl 1 rfl) ?_
        refine r_aald X hW (t0 := 4) xm_3 rfl rfl (by decide) (v := .ref (ad 5999)) rfl dX0_worthFrom_79 ?_
        obtain ⟨σ_7, h_6, hf⟩ := bd_e hf
        refine kx_standsAs X hW had (b := 6000) (c2 := 5000) (by decide) (by decide) (by decide) h_6 (by decide) hl (Nat.le_of_ble_eq_true rfl) dX0_worthFrom_80 (fun H locs hW => ?_)
        refine lv_astore (lv' := [(6, .ref (ad 6999)), (0, .ref (ad 999)), (1, .int 2), (2, .int v2), (3, .int 1), (4, .int v4), (5, .int v5)]) hx hb dX0_worthFrom_83 hl (by decide) rfl (fun ls hl => ?_)
        refine lv_iload hx hb dX0_worthFrom_85 (lv_at hl 6 rfl) ?_
        refine lv_iconst (v := (-1)) hx hb dX0_worthFrom_87 (by decide) ?_
        obtain ⟨σ_8, hD_9, hf⟩ := bd_e hf
        have hJ : ∀ (H : Heap) (locs : List Loc) (ls : Array Slot), WB g A s.heap xIds ad (xE g ad q σ_8) H locs → lv_has ls 8 [(0, .ref (ad 999)), (1, .int 2), (2, .int v2), (3, .int 1), (4, .int v4), (5, .int v5), (6, .ref (ad 6999))] → W p l e (rm_ 409 16421) s m args below meth c H locs 0 0 Q (F0 m 107 ls []) := by
          intro H locs ls hW hl
          refine lv_aload hx hb dX0_worthFrom_107 (lv_at hl 6 rfl) ?_
          refine lv_aload_n hx hb dX0_worthFrom_109 rfl (lv_at hl 0 rfl) ?_
          obtain ⟨R_11, h_10, hf⟩ := bd_e hf
          refine kx_law X hW had hrs h_10 (by decide) hl (Nat.le_of_ble_eq_true rfl) dX0_worthFrom_110 (fun q_R_11 hq_R_11 H locs hW => ?_)
          obtain ⟨⟨σ_14, r_13⟩, h_12, hf⟩ := bd_e hf
          refine kx_goes X hW had (b := 6000) (by decide) hq_R_11 h_12 (by decide) hl (Nat.le_of_ble_eq_true rfl) dX0_worthFrom_113 (fun H locs hW => ?_)
          refine lv_pop hx hb dX0_worthFrom_116 rfl ?_
          refine lv_aload_n hx hb dX0_worthFrom_117 rfl (lv_at hl 0 rfl) ?_
          refine lv_iload_n hx hb dX0_worthFrom_118 rfl (lv_at hl 1 rfl) ?_
          refine lv_iconst (v := 1) hx hb dX0_worthFrom_119 (by decide) ?_
          refine r_iaddv (v := 3) hx hb dX0_worthFrom_120 (by decide) ?_
          refine lv_iload_n hx hb dX0_worthFrom_121 rfl (lv_at hl 2 rfl) ?_
          obtain ⟨⟨σ_17, r_16⟩, h_15, hf⟩ := bd_e hf
          refine kx_worthFrom_3 X hW had hrs h_15 (by decide) hl (Nat.le_of_ble_eq_true rfl) dX0_worthFrom_122 (fun H locs hW => ?_)
          refine lv_istore (lv' := [(7, .int r_16), (0, .ref (ad 999)), (1, .int 2), (2, .int v2), (3, .int 1), (4, .int v4), (5, .int v5), (6, .ref (ad 6999))]) hx hb dX0_worthFrom_125 hl (by decide) rfl (fun ls hl => ?_)
          refine lv_iload hx hb dX0_worthFrom_127 (lv_at hl 6 rfl) ?_
          refine lv_iconst (v := (-1)) hx hb dX0_worthFrom_129 (by decide) ?_
          refine lv_icmp_eq (tgt := 157) hx hb dX0_worthFrom_130 (by decide) (fun c_18 => ?_) (fun c_18 => ?_)
          · replace hf := ip hf c_18
            refine lv_iload hx hb dX0_worthFrom_157 (lv_at hl 0 rfl) ?_
            refine lv_istore (lv' := [(4, .int r_16), (7, .int r_16), (0, .ref (ad 999)), (1, .int 2), (2, .int v2), (3, .int 1), (5, .int v5), (6, .ref (ad 6999))]) hx hb dX0_worthFrom_159 hl (by decide) rfl (fun ls hl => ?_)
            refine lv_iload_n hx hb dX0_worthFrom_161 rfl (lv_at hl 3 rfl) ?_
            refine lv_if_ne (tgt := 171) hx hb dX0_worthFrom_162 (by decide) (fun c_19 => ?_) (fun c_19 => absurd c_19 (by decide))
            refine lv_iinc (v := (v5 + 1)) (lv' := [(5, .int (v5 + 1)), (4, .int r_16), (7, .int r_16), (0, .ref (ad 999)), (1, .int 2), (2, .int v2), (3, .int 1), (6, .ref (ad 6999))]) hx hb dX0_worthFrom_171 hl (k := 6) rfl (ii_v _ _ _ (by decide)) (by decide) rfl (fun ls hl => ?_)
            refine lv_goto (tgt := 33) hx hb dX0_worthFrom_174 (by decide) ?_
            exact ih _ _ _ _ _ _ hW (lv_sub hl [3, 4, 5, 6, 1, 0] rfl) hf
          · replace hf := ine hf c_18
            refine lv_iload_n hx hb dX0_worthFrom_133 rfl (lv_at hl 4 rfl) ?_
            refine lv_if_eq (tgt := 147) hx hb dX0_worthFrom_134 (by decide) (fun c_20 => absurd c_20 (by decide)) (fun c_20 => ?_)
            refine lv_iload hx hb dX0_worthFrom_137 (lv_at hl 0 rfl) ?_
            refine lv_iload hx hb dX0_worthFrom_139 (lv_at hl 5 rfl) ?_
            refine lv_icmp_gt (tgt := 157) hx hb dX0_worthFrom_141 (by decide) (fun c_21 => ?_) (fun c_21 => ?_)
            · replace hf := ip hf c_21
              refine lv_iload hx hb dX0_worthFrom_157 (lv_at hl 0 rfl) ?_
              refine lv_istore (lv' := [(4, .int r_16), (7, .int r_16), (0, .ref (ad 999)), (1, .int 2), (2, .int v2), (3, .int 1), (5, .int v5), (6, .ref (ad 6999))]) hx hb dX0_worthFrom_159 hl (by decide) rfl (fun ls hl => ?_)
              refine lv_iload_n hx hb dX0_worthFrom_161 rfl (lv_at hl 3 rfl) ?_
              refine lv_if_ne (tgt := 171) hx hb dX0_worthFrom_162 (by decide) (fun c_22 => ?_) (fun c_22 => absurd c_22 (by decide))
              refine lv_iinc (v := (v5 + 1)) (lv' := [(5, .int (v5 + 1)), (4, .int r_16), (7, .int r_16), (0, .ref (ad 999)), (1, .int 2), (2, .int v2), (3, .int 1), (6, .ref (ad 6999))]) hx hb dX0_worthFrom_171 hl (k := 6) rfl (ii_v _ _ _ (by decide)) (by decide) rfl (fun ls hl => ?_)
              refine lv_goto (tgt := 33) hx hb dX0_worthFrom_174 (by decide) ?_
              exact ih _ _ _ _ _ _ hW (lv_sub hl [3, 4, 5, 6, 1, 0] rfl) hf
            · replace hf := ine hf c_21
              refine lv_goto (tgt := 171) hx hb dX0_worthFrom_144 (by decide) ?_
              refine lv_iinc (v := (v5 + 1)) (lv' := [(5, .int (v5 + 1)), (7, .int r_16), (0, .ref (ad 999)), (1, .int 2), (2, .int v2), (3, .int 1), (4, .int v4), (6, .ref (ad 6999))]) hx hb dX0_worthFrom_171 hl (k := 6) rfl (ii_v _ _ _ (by decide)) (by decide) rfl (fun ls hl => ?_)
              refine lv_goto (tgt := 33) hx hb dX0_worthFrom_174 (by decide) ?_
              exact ih _ _ _ _ _ _ hW (lv_sub hl [2, 3, 4, 5, 6, 0] rfl) hf
        clear hf
        refine lv_icmp_eq (tgt := 107) hx hb dX0_worthFrom_88 (by decide) (fun c_23 => ?_) (fun c_23 => ?_)
        · replace hD_9 := ip hD_9 c_23
          cases hD_9
          exact hJ _ _ _ hW (lv_sub hl [1, 2, 3, 4, 5, 6, 0] rfl)
        · replace hD_9 := ine hD_9 c_23
          refine lv_aload hx hb dX0_worthFrom_91 (lv_at hl 0 rfl) ?_
          refine lv_iload hx hb dX0_worthFrom_93 (lv_at hl 6 rfl) ?_
          refine lv_iload_n hx hb dX0_worthFrom_95 rfl (lv_at hl 4 rfl) ?_
          refine lv_if_eq (tgt := 103) hx hb dX0_worthFrom_96 (by decide) (fun c_24 => absurd c_24 (by decide)) (fun c_24 => ?_)
          refine lv_iconst (v := 1) hx hb dX0_worthFrom_99 (by decide) ?_
          refine lv_goto (tgt := 104) hx hb dX0_worthFrom_100 (by decide) ?_
          obtain ⟨σ_26, h_25, hD_9⟩ := bd_e hD_9
          refine kx_pushes X hW had (b := 6000) (by decide) h_25 (by decide) hl (Nat.le_of_ble_eq_true rfl) dX0_worthFrom_104 (fun H locs hW => ?_)
          cases hD_9
          exact hJ _ _ _ hW (lv_sub hl [1, 2, 3, 4, 5, 6, 0] rfl)
      · replace hf := ine hf c_5
        refine lv_aload_n hx hb dX0_worthFrom_51 rfl (lv_at hl 0 rfl) ?_
        refine xg_0s X hW xm_999 z_3 dX0_worthFrom_52 ?_
        refine lv_iload hx hb dX0_worthFrom_55 (lv_at hl 5 rfl) ?_
        obtain ⟨r_28, h_27, hf⟩ := bd_e hf
        refine kx_isBaked X hW had (b := 1000) (by decide) h_27 (by decide) hl (Nat.le_of_ble_eq_true rfl) dX0_worthFrom_57 (fun H locs hW => ?_)
        refine lv_if_eq (tgt := 66) hx hb dX0_worthFrom_60 (by decide) (fun c_29 => ?_) (fun c_29 => ?_)
        · replace hf := ip hf c_29
          refine lv_aload_n hx hb dX0_worthFrom_66 rfl (lv_at hl 0 rfl) ?_
          refine xg_3 X hW xm_999 dX0_worthFrom_67 ?_
          refine lv_iload_n hx hb dX0_worthFrom_70 rfl (lv_at hl 1 rfl) ?_
          refine lv_iconst (v := 1) hx hb dX0_worthFrom_71 (by decide) ?_
          refine r_iaddv (v := 3) hx hb dX0_worthFrom_72 (by decide) ?_
          refine r_aald X hW (t0 := 4) xm_3 rfl rfl (by decide) (v := .ref (ad 6999)) rfl dX0_worthFrom_73 ?_
          refine lv_aload_n hx hb dX0_worthFrom_74 rfl (lv_at hl 0 rfl) ?_
          refine xg_3 X hW xm_999 dX0_worthFrom_75 ?_
          refine lv_iload_n hx hb dX0_worthFrom_78 rfl (lv_at hl 1 rfl) ?_
          refine r_aald X hW (t0 := 4) xm_3 rfl rfl (by decide) (v := .ref (ad 5999)) rfl dX0_worthFrom_79 ?_
          obtain ⟨σ_31, h_30, hf⟩ := bd_e hf
          refine kx_standsAs X hW had (b := 6000) (c2 := 5000) (by decide) (by decide) (by decide) h_30 (by decide) hl (Nat.le_of_ble_eq_true rfl) dX0_worthFrom_80 (fun H locs hW => ?_)
          refine lv_astore (lv' := [(6, .ref (ad 6999)), (0, .ref (ad 999)), (1, .int 2), (2, .int v2), (3, .int 1), (4, .int v4), (5, .int v5)]) hx hb dX0_worthFrom_83 hl (by decide) rfl (fun ls hl => ?_)
          refine lv_iload hx hb dX0_worthFrom_85 (lv_at hl 6 rfl) ?_
          refine lv_iconst (v := (-1)) hx hb dX0_worthFrom_87 (by decide) ?_
          obtain ⟨σ_32, hD_33, hf⟩ := bd_e hf
          have hJ : ∀ (H : Heap) (locs : List Loc) (ls : Array Slot), WB g A s.heap xIds ad (xE g ad q σ_32) H locs → lv_has ls 8 [(0, .ref (ad 999)), (1, .int 2), (2, .int v2), (3, .int 1), (4, .int v4), (5, .int v5), (6, .ref (ad 6999))] → W p l e (rm_ 409 16421) s m args below meth c H locs 0 0 Q (F0 m 107 ls []) := by
            intro H locs ls hW hl
            refine lv_aload hx hb dX0_worthFrom_107 (lv_at hl 6 rfl) ?_
            refine lv_aload_n hx hb dX0_worthFrom_109 rfl (lv_at hl 0 rfl) ?_
            obtain ⟨R_35, h_34, hf⟩ := bd_e hf
            refine kx_law X hW had hrs h_34 (by decide) hl (Nat.le_of_ble_eq_true rfl) dX0_worthFrom_110 (fun q_R_35 hq_R_35 H locs hW => ?_)
            obtain ⟨⟨σ_38, r_37⟩, h_36, hf⟩ := bd_e hf
            refine kx_goes X hW had (b := 6000) (by decide) hq_R_35 h_36 (by decide) hl (Nat.le_of_ble_eq_true rfl) dX0_worthFrom_113 (fun H locs hW => ?_)
            refine lv_pop hx hb dX0_worthFrom_116 rfl ?_
            refine lv_aload_n hx hb dX0_worthFrom_117 rfl (lv_at hl 0 rfl) ?_
            refine lv_iload_n hx hb dX0_worthFrom_118 rfl (lv_at hl 1 rfl) ?_
            refine lv_iconst (v := 1) hx hb dX0_worthFrom_119 (by decide) ?_
            refine r_iaddv (v := 3) hx hb dX0_worthFrom_120 (by decide) ?_
            refine lv_iload_n hx hb dX0_worthFrom_121 rfl (lv_at hl 2 rfl) ?_
            obtain ⟨⟨σ_41, r_40⟩, h_39, hf⟩ := bd_e hf
            refine kx_worthFrom_3 X hW had hrs h_39 (by decide) hl (Nat.le_of_ble_eq_true rfl) dX0_worthFrom_122 (fun H locs hW => ?_)
            refine lv_istore (lv' := [(7, .int r_40), (0, .ref (ad 999)), (1, .int 2), (2, .int v2), (3, .int 1), (4, .int v4), (5, .int v5), (6, .ref (ad 6999))]) hx hb dX0_worthFrom_125 hl (by decide) rfl (fun ls hl => ?_)
            refine lv_iload hx hb dX0_worthFrom_127 (lv_at hl 6 rfl) ?_
            refine lv_iconst (v := (-1)) hx hb dX0_worthFrom_129 (by decide) ?_
            refine lv_icmp_eq (tgt := 157) hx hb dX0_worthFrom_130 (by decide) (fun c_42 => ?_) (fun c_42 => ?_)
            · replace hf := ip hf c_42
              refine lv_iload hx hb dX0_worthFrom_157 (lv_at hl 0 rfl) ?_
              refine lv_istore (lv' := [(4, .int r_40), (7, .int r_40), (0, .ref (ad 999)), (1, .int 2), (2, .int v2), (3, .int 1), (5, .int v5), (6, .ref (ad 6999))]) hx hb dX0_worthFrom_159 hl (by decide) rfl (fun ls hl => ?_)
              refine lv_iload_n hx hb dX0_worthFrom_161 rfl (lv_at hl 3 rfl) ?_
              refine lv_if_ne (tgt := 171) hx hb dX0_worthFrom_162 (by decide) (fun c_43 => ?_) (fun c_43 => absurd c_43 (by decide))
              refine lv_iinc (v := (v5 + 1)) (lv' := [(5, .int (v5 + 1)), (4, .int r_40), (7, .int r_40), (0, .ref (ad 999)), (1, .int 2), (2, .int v2), (3, .int 1), (6, .ref (ad 6999))]) hx hb dX0_worthFrom_171 hl (k := 6) rfl (ii_v _ _ _ (by decide)) (by decide) rfl (fun ls hl => ?_)
              refine lv_goto (tgt := 33) hx hb dX0_worthFrom_174 (by decide) ?_
              exact ih _ _ _ _ _ _ hW (lv_sub hl [3, 4, 5, 6, 1, 0] rfl) hf
            · replace hf := ine hf c_42
              refine lv_iload_n hx hb dX0_worthFrom_133 rfl (lv_at hl 4 rfl) ?_
              refine lv_if_eq (tgt := 147) hx hb dX0_worthFrom_134 (by decide) (fun c_44 => absurd c_44 (by decide)) (fun c_44 => ?_)
              refine lv_iload hx hb dX0_worthFrom_137 (lv_at hl 0 rfl) ?_
              refine lv_iload hx hb dX0_worthFrom_139 (lv_at hl 5 rfl) ?_
              refine lv_icmp_gt (tgt := 157) hx hb dX0_worthFrom_141 (by decide) (fun c_45 => ?_) (fun c_45 => ?_)
              · replace hf := ip hf c_45
                refine lv_iload hx hb dX0_worthFrom_157 (lv_at hl 0 rfl) ?_
                refine lv_istore (lv' := [(4, .int r_40), (7, .int r_40), (0, .ref (ad 999)), (1, .int 2), (2, .int v2), (3, .int 1), (5, .int v5), (6, .ref (ad 6999))]) hx hb dX0_worthFrom_159 hl (by decide) rfl (fun ls hl => ?_)
                refine lv_iload_n hx hb dX0_worthFrom_161 rfl (lv_at hl 3 rfl) ?_
                refine lv_if_ne (tgt := 171) hx hb dX0_worthFrom_162 (by decide) (fun c_46 => ?_) (fun c_46 => absurd c_46 (by decide))
                refine lv_iinc (v := (v5 + 1)) (lv' := [(5, .int (v5 + 1)), (4, .int r_40), (7, .int r_40), (0, .ref (ad 999)), (1, .int 2), (2, .int v2), (3, .int 1), (6, .ref (ad 6999))]) hx hb dX0_worthFrom_171 hl (k := 6) rfl (ii_v _ _ _ (by decide)) (by decide) rfl (fun ls hl => ?_)
                refine lv_goto (tgt := 33) hx hb dX0_worthFrom_174 (by decide) ?_
                exact ih _ _ _ _ _ _ hW (lv_sub hl [3, 4, 5, 6, 1, 0] rfl) hf
              · replace hf := ine hf c_45
                refine lv_goto (tgt := 171) hx hb dX0_worthFrom_144 (by decide) ?_
                refine lv_iinc (v := (v5 + 1)) (lv' := [(5, .int (v5 + 1)), (7, .int r_40), (0, .ref (ad 999)), (1, .int 2), (2, .int v2), (3, .int 1), (4, .int v4), (6, .ref (ad 6999))]) hx hb dX0_worthFrom_171 hl (k := 6) rfl (ii_v _ _ _ (by decide)) (by decide) rfl (fun ls hl => ?_)
                refine lv_goto (tgt := 33) hx hb dX0_worthFrom_174 (by decide) ?_
                exact ih _ _ _ _ _ _ hW (lv_sub hl [2, 3, 4, 5, 6, 0] rfl) hf
          clear hf
          refine lv_icmp_eq (tgt := 107) hx hb dX0_worthFrom_88 (by decide) (fun c_47 => ?_) (fun c_47 => ?_)
          · replace hD_33 := ip hD_33 c_47
            cases hD_33
            exact hJ _ _ _ hW (lv_sub hl [1, 2, 3, 4, 5, 6, 0] rfl)
          · replace hD_33 := ine hD_33 c_47
            refine lv_aload hx hb dX0_worthFrom_91 (lv_at hl 0 rfl) ?_
            refine lv_iload hx hb dX0_worthFrom_93 (lv_at hl 6 rfl) ?_
            refine lv_iload_n hx hb dX0_worthFrom_95 rfl (lv_at hl 4 rfl) ?_
            refine lv_if_eq (tgt := 103) hx hb dX0_worthFrom_96 (by decide) (fun c_48 => absurd c_48 (by decide)) (fun c_48 => ?_)
            refine lv_iconst (v := 1) hx hb dX0_worthFrom_99 (by decide) ?_
            refine lv_goto (tgt := 104) hx hb dX0_worthFrom_100 (by decide) ?_
            obtain ⟨σ_50, h_49, hD_33⟩ := bd_e hD_33
            refine kx_pushes X hW had (b := 6000) (by decide) h_49 (by decide) hl (Nat.le_of_ble_eq_true rfl) dX0_worthFrom_104 (fun H locs hW => ?_)
            cases hD_33
            exact hJ _ _ _ hW (lv_sub hl [1, 2, 3, 4, 5, 6, 0] rfl)
        · replace hf := ine hf c_29
          refine lv_goto (tgt := 171) hx hb dX0_worthFrom_63 (by decide) ?_
          refine lv_iinc (v := (v5 + 1)) (lv' := [(5, .int (v5 + 1)), (0, .ref (ad 999)), (1, .int 2), (2, .int v2), (3, .int 1), (4, .int v4)]) hx hb dX0_worthFrom_171 hl (k := 5) rfl (ii_v _ _ _ (by decide)) (by decide) rfl (fun ls hl => ?_)
          refine lv_goto (tgt := 33) hx hb dX0_worthFrom_174 (by decide) ?_
          exact ih _ _ _ _ _ _ hW (lv_sub hl [1, 2, 3, 4, 5, 0] rfl) hf
noncomputable def x_worthFrom_2 (σ : cS) (rs : List RS) (v2 : Int32) : Option (cS × Int32) :=
  if 2 = v2 then (((d_west (vw σ 5000)).bind fun r_55 => some (σ, r_55))) else (((some () : Option (Unit)).bind fun _ => (x_worthFrom_2_33 rs v2 (fun σ_51 v_52 => (some (σ_51, v_52))) FU σ 0 (-1))))
set_option maxHeartbeats 4000000 in
theorem wb_x_worthFrom_2 {p : Program} {l : Launch} {e : Env} {s : State} {m : MethodId} {args : Array Value} {below : List Frame} {meth : Method} {c : Code} {g : gG} {A : Nat → Prop} {ad : Nat → Nat} {q : xR} (X : MX p s m args meth c cX0_worthFrom 8 RX0 (some .int) g A) (had : xI_ ad) {rs : List RS} (hrs : RSok q.1 g rs) {σr : cS} {r : Int32} {σ : cS} {v2 : Int32} {H : Heap} {locs : List Loc} {ls : Array Slot} (hW : WB g A s.heap xIds ad (xE g ad q σ) H locs) (hl : lv_has ls 8 [(0, .ref (ad 999)), (1, .int 2), (2, .int v2)]) (hf : x_worthFrom_2 σ rs v2 = some (σr, r)) : W p l e (rm_ 409 16421) s m args below meth c H locs 0 0 (Qm below g xIds ad (xE g ad q σr) (some (.int r)) A args s) (F0 m 0 ls []) := by
  have hx := X.1.1
  have hb := X.1.2.1
  unfold x_worthFrom_2 at hf
  refine lv_iload_n hx hb dX0_worthFrom_0 rfl (lv_at hl 1 rfl) ?_
  refine lv_iload_n hx hb dX0_worthFrom_1 rfl (lv_at hl 2 rfl) ?_
  refine lv_icmp_ne (tgt := 15) hx hb dX0_worthFrom_2 (by decide) (fun c_1 => ?_) (fun c_1 => ?_)
  · replace hf := ine hf c_1
    refine lv_iload_n hx hb dX0_worthFrom_15 rfl (lv_at hl 1 rfl) ?_
    refine lv_iconst (v := 2) hx hb dX0_worthFrom_16 (by decide) ?_
    refine r_iremv (v := 0) hx hb dX0_worthFrom_17 (by decide) (by decide) ?_
    obtain ⟨_, hD_2, hf⟩ := bd_e hf
    have hJ : ∀ (H : Heap) (locs : List Loc) (ls : Array Slot), WB g A s.heap xIds ad (xE g ad q σ) H locs → lv_has ls 8 [(0, .ref (ad 999)), (1, .int 2), (2, .int v2)] → W p l e (rm_ 409 16421) s m args below meth c H locs 0 0 (Qm below g xIds ad (xE g ad q σr) (some (.int r)) A args s) (F0 m 26 ls [.int 1]) := by
      intro H locs ls hW hl
      refine lv_istore_n (lv' := [(3, .int 1), (0, .ref (ad 999)), (1, .int 2), (2, .int v2)]) hx hb dX0_worthFrom_26 rfl hl (by decide) rfl (fun ls hl => ?_)
      refine lv_iconst (v := 0) hx hb dX0_worthFrom_27 (by decide) ?_
      refine lv_istore (lv' := [(4, .int 0), (3, .int 1), (0, .ref (ad 999)), (1, .int 2), (2, .int v2)]) hx hb dX0_worthFrom_28 hl (by decide) rfl (fun ls hl => ?_)
      refine lv_iconst (v := (-1)) hx hb dX0_worthFrom_30 (by decide) ?_
      refine lv_istore (lv' := [(5, .int (-1)), (4, .int 0), (3, .int 1), (0, .ref (ad 999)), (1, .int 2), (2, .int v2)]) hx hb dX0_worthFrom_31 hl (by decide) rfl (fun ls hl => ?_)
      refine wx_worthFrom_2_33 X had hrs (fun σ_51 v_52 H locs ls hW hl hf => ?_) _ _ _ _ _ _ _ hW (lv_sub hl [3, 4, 5, 2, 1, 0] rfl) hf
      refine lv_iload hx hb dX0_worthFrom_177 (lv_at hl 0 rfl) ?_
      exact x_iret X hW hf dX0_worthFrom_179
    clear hf
    refine lv_if_ne (tgt := 25) hx hb dX0_worthFrom_18 (by decide) (fun c_53 => absurd c_53 (by decide)) (fun c_53 => ?_)
    refine lv_iconst (v := 1) hx hb dX0_worthFrom_21 (by decide) ?_
    refine lv_goto (tgt := 26) hx hb dX0_worthFrom_22 (by decide) ?_
    cases hD_2
    exact hJ _ _ _ hW (lv_sub hl [0, 1, 2] rfl)
  · replace hf := ip hf c_1
    refine lv_aload_n hx hb dX0_worthFrom_5 rfl (lv_at hl 0 rfl) ?_
    refine xg_3 X hW xm_999 dX0_worthFrom_6 ?_
    refine lv_iload_n hx hb dX0_worthFrom_9 rfl (lv_at hl 1 rfl) ?_
    refine r_aald X hW (t0 := 4) xm_3 rfl rfl (by decide) (v := .ref (ad 5999)) rfl dX0_worthFrom_10 ?_
    obtain ⟨r_55, h_54, hf⟩ := bd_e hf
    refine kx_west X hW had (b := 5000) (by decide) h_54 (by decide) hl (Nat.le_of_ble_eq_true rfl) dX0_worthFrom_11 (fun H locs hW => ?_)
    exact x_iret X hW hf dX0_worthFrom_14
theorem w_x_worthFrom_2 (l : Launch) {g : gG} {ad : Nat → Nat} {q : xR} (had : xI_ ad) {rs : List RS} (hrs : RSok q.1 g rs) {σr : cS} {r : Int32} {σ : cS} {v2 : Int32} (hf : x_worthFrom_2 σ rs v2 = some (σr, r)) : MC l yX0_worthFrom cX0_worthFrom 8 (some .int) 409 16421 g xIds ad (xE g ad q σ) (xE g ad q σr) [.ref (ad 999), .int 2, .int v2] (some (.int r)) :=
  MC.of (by decide) xIds_nd had (Nat.le_of_ble_eq_true rfl) (fun p e s m below meth c A ls X hW hl => wb_x_worthFrom_2 X had hrs hW hl hf)
theorem kx_worthFrom_2 {p : Program} {l : Launch} {e : Env} {R : Room} {s : State} {m : MethodId} {args : Array Value} {below : List Frame} {meth : Method} {c : Code} {H : Heap} {locs : List Loc} {Q : State → Prop} {cc : ByteArray} {nL : Nat} {ret : Option FieldType} {g : gG} {A : Nat → Prop} {ad : Nat → Nat} {q : xR} {pc : Nat} {ls : Array Slot} {rest : List Value} {lv : List (Nat × Value)} {σr : cS} {r : Int32} {σ : cS} {v2 : Int32} (X : MX p s m args meth c cc nL RX0 ret g A) (hW : WB g A s.heap xIds ad (xE g ad q σ) H locs) (had : xI_ ad) {rs : List RS} (hrs : RSok q.1 g rs) (hf : x_worthFrom_2 σ rs v2 = some (σr, r)) (hR : 410 ≤ R.frames ∧ 16448 ≤ R.locals) (hl : lv_has ls nL lv) (hcat : (rest.map fun v => v.category).sum ≤ 8) (hdg : decode cc pc = .ok (.invokevirtual 279, 3)) (kk : ∀ (H1 : Heap) (l1 : List Loc), WB g A s.heap xIds ad (xE g ad q σr) H1 l1 → W p l e R s m args below meth c H1 l1 0 0 Q (F0 m (pc + 3) ls (.int r :: rest))) : W p l e R s m args below meth c H locs 0 0 Q (F0 m pc ls (.int v2 :: .int 2 :: .ref (ad 999) :: rest)) :=
  r_callV X hW Sub.all (w_x_worthFrom_2 l had hrs hf) (lw_V q1022 q1024 qs38 q120 q1025) ⟨rfl, by decide, by decide, by decide +kernel⟩ xm_999 rfl rfl (n := 2) hR hl rfl rfl hcat ⟨Nat.zero_le _, Nat.zero_le _⟩ hdg kk
-- worthFrom_1
noncomputable def x_worthFrom_1_33 {ρ : Type} (rs : List RS) (v2 : Int32) (K : cS → Int32 → Option ρ) : Nat → cS → Int32 → Int32 → Option ρ
  | 0, _, _, _ => none
  | n + 1, σ, v4, v5 => gd (nz (σ.1 999 0)) (if (σ.1 1999 0) ≤ v5 then (K σ v4) else (if v5 = (-1) then (((d_standsAs (vw2 σ 5000 4000)).bind fun σ_7 => ((if v5 = (-1) then (some ((pb2 σ 5000 4000 σ_7))) else (((d_pushes (vw (pb2 σ 5000 4000 σ_7) 5000) v5 (-1)).bind fun σ_26 => some ((pb (pb2 σ 5000 4000 σ_7) 5000 σ_26)))) : Option (cS)).bind fun σ_8 => (((x_law σ_8 rs).bind fun R_11 => ((d_goes (vw σ_8 5000) R_11).bind fun (σ_14, r_13) => ((x_worthFrom_2 (pb σ_8 5000 σ_14) rs v2).bind fun (σ_17, r_16) => if v5 = (-1) then (x_worthFrom_1_33 rs v2 K n σ_17 r_16 (v5 + 1)) else (if r_16 < v4 then (x_worthFrom_1_33 rs v2 K n σ_17 r_16 (v5 + 1)) else (x_worthFrom_1_33 rs v2 K n σ_17 v4 (v5 + 1)))))))))) else (((d_isBaked (vw σ 1000) v5).bind fun r_28 => if r_28 = 0 then (((d_standsAs (vw2 σ 5000 4000)).bind fun σ_31 => ((if v5 = (-1) then (some ((pb2 σ 5000 4000 σ_31))) else (((d_pushes (vw (pb2 σ 5000 4000 σ_31) 5000) v5 (-1)).bind fun σ_50 => some ((pb (pb2 σ 5000 4000 σ_31) 5000 σ_50)))) : Option (cS)).bind fun σ_32 => (((x_law σ_32 rs).bind fun R_35 => ((d_goes (vw σ_32 5000) R_35).bind fun (σ_38, r_37) => ((x_worthFrom_2 (pb σ_32 5000 σ_38) rs v2).bind fun (σ_41, r_40) => if v5 = (-1) then (x_worthFrom_1_33 rs v2 K n σ_41 r_40 (v5 + 1)) else (if r_40 < v4 then (x_worthFrom_1_33 rs v2 K n σ_41 r_40 (v5 + 1)) else (x_worthFrom_1_33 rs v2 K n σ_41 v4 (v5 + 1)))))))))) else (x_worthFrom_1_33 rs v2 K n σ v4 (v5 + 1))))))
set_option maxHeartbeats 4000000 in
theorem wx_worthFrom_1_33 {p : Program} {l : Launch} {e : Env} {s : State} {m : MethodId} {args : Array Value} {below : List Frame} {meth : Method} {c : Code} {g : gG} {A : Nat → Prop} {ad : Nat → Nat} {q : xR} (X : MX p s m args meth c cX0_worthFrom 8 RX0 (some .int) g A) (had : xI_ ad) {rs : List RS} (hrs : RSok q.1 g rs) {ρ : Type} {res : ρ} {Q : State → Prop} {v2 : Int32}  {K : cS → Int32 → Option ρ}
    (hK : ∀ (σ : cS) (k4 : Int32) (H : Heap) (locs : List Loc) (ls : Array Slot), WB g A s.heap xIds ad (xE g ad q σ) H locs → lv_has ls 8 [(4, .int k4)] → K σ k4 = some res → W p l e (rm_ 410 16448) s m args below meth c H locs 0 0 Q (F0 m 177 ls [])) :
    ∀ (n : Nat) (σ : cS) (v4 : Int32) (v5 : Int32) (H : Heap) (locs : List Loc) (ls : Array Slot), WB g A s.heap xIds ad (xE g ad q σ) H locs → lv_has ls 8 [(0, .ref (ad 999)), (1, .int 1), (2, .int v2), (3, .int 0), (4, .int v4), (5, .int v5)] → x_worthFrom_1_33 rs v2 K n σ v4 v5 = some res → W p l e (rm_ 410 16448) s m args below meth c H locs 0 0 Q (F0 m 33 ls []) := by
  have hx := X.1.1
  have hb := X.1.2.1
  intro n
  induction n with
  | zero =>
    intro σ v4 v5 H locs ls hW hl hf
    rw [x_worthFrom_1_33] at hf
    cases hf
  | succ n ih =>
    intro σ v4 v5 H locs ls hW hl hf
    rw [x_worthFrom_1_33] at hf
    refine lv_iload hx hb dX0_worthFrom_33 (lv_at hl 5 rfl) ?_
    refine lv_aload_n hx hb dX0_worthFrom_35 rfl (lv_at hl 0 rfl) ?_
    obtain ⟨z_3, hf⟩ := gd_e hf
    replace z_3 := nz_e z_3
    refine xg_0s X hW xm_999 z_3 dX0_worthFrom_36 ?_
    refine xg_1000 X hW xm_1999 dX0_worthFrom_39 ?_
    refine lv_icmp_ge (tgt := 177) hx hb dX0_worthFrom_42 (by decide) (fun c_4 => ?_) (fun c_4 => ?_)
    · replace hf := ip hf c_4
      exact hK _ _ _ _ _ hW (lv_sub hl [4] rfl) hf
    · replace hf := ine hf c_4
      refine lv_iload hx hb dX0_worthFrom_45 (lv_at hl 5 rfl) ?_
      refine lv_iconst (v := (-1)) hx hb dX0_worthFrom_47 (by decide) ?_
      refine lv_icmp_eq (tgt := 66) hx hb dX0_worthFrom_48 (by decide) (fun c_5 => ?_) (fun c_5 => ?_)
      · replace hf := ip hf c_5
        refine lv_aload_n hx hb dX0_worthFrom_66 rfl (lv_at hl 0 rfl) ?_
        refine xg_3 X hW xm_999 dX0_worthFrom_67 ?_
        refine lv_iload_n hx hb dX0_worthFrom_70 rfl (lv_at hl 1 rfl) ?_
        refine lv_iconst (v := 1) hx hb dX0_worthFrom_71 (by decide) ?_
        refine r_iaddv (v := 2) hx hb dX0_worthFrom_72 (by decide) ?_
        refine r_aald X hW (t0 := 4) xm_3 rfl rfl (by decide) (v := .ref (ad 5999)) rfl dX0_worthFrom_73 ?_
        refine lv_aload_n hx hb dX0_worthFrom_74 rfl (lv_at hl 0 rfl) ?_
        refine xg_3 X hW xm_999 dX0_worthFrom_75 ?_
        refine lv_iload_n hx hb dX0_worthFrom_78 rfl (lv_at hl 1 rfl) ?_
        refine r_aald X hW (t0 := 4) xm_3 rfl rfl (by decide) (v := .ref (ad 4999)) rfl dX0_worthFrom_79 ?_
        obtain ⟨σ_7, h_6, hf⟩ := bd_e hf
        refine kx_standsAs X hW had (b := 5000) (c2 := 4000) (by decide) (by decide) (by decide) h_6 (by decide) hl (Nat.le_of_ble_eq_true rfl) dX0_worthFrom_80 (fun H locs hW => ?_)
        refine lv_astore (lv' := [(6, .ref (ad 5999)), (0, .ref (ad 999)), (1, .int 1), (2, .int v2), (3, .int 0), (4, .int v4), (5, .int v5)]) hx hb dX0_worthFrom_83 hl (by decide) rfl (fun ls hl => ?_)
        refine lv_iload hx hb dX0_worthFrom_85 (lv_at hl 6 rfl) ?_
        refine lv_iconst (v := (-1)) hx hb dX0_worthFrom_87 (by decide) ?_
        obtain ⟨σ_8, hD_9, hf⟩ := bd_e hf
        have hJ : ∀ (H : Heap) (locs : List Loc) (ls : Array Slot), WB g A s.heap xIds ad (xE g ad q σ_8) H locs → lv_has ls 8 [(0, .ref (ad 999)), (1, .int 1), (2, .int v2), (3, .int 0), (4, .int v4), (5, .int v5), (6, .ref (ad 5999))] → W p l e (rm_ 410 16448) s m args below meth c H locs 0 0 Q (F0 m 107 ls []) := by
          intro H locs ls hW hl
          refine lv_aload hx hb dX0_worthFrom_107 (lv_at hl 6 rfl) ?_
          refine lv_aload_n hx hb dX0_worthFrom_109 rfl (lv_at hl 0 rfl) ?_
          obtain ⟨R_11, h_10, hf⟩ := bd_e hf
          refine kx_law X hW had hrs h_10 (by decide) hl (Nat.le_of_ble_eq_true rfl) dX0_worthFrom_110 (fun q_R_11 hq_R_11 H locs hW => ?_)
          obtain ⟨⟨σ_14, r_13⟩, h_12, hf⟩ := bd_e hf
          refine kx_goes X hW had (b := 5000) (by decide) hq_R_11 h_12 (by decide) hl (Nat.le_of_ble_eq_true rfl) dX0_worthFrom_113 (fun H locs hW => ?_)
          refine lv_pop hx hb dX0_worthFrom_116 rfl ?_
          refine lv_aload_n hx hb dX0_worthFrom_117 rfl (lv_at hl 0 rfl) ?_
          refine lv_iload_n hx hb dX0_worthFrom_118 rfl (lv_at hl 1 rfl) ?_
          refine lv_iconst (v := 1) hx hb dX0_worthFrom_119 (by decide) ?_
          refine r_iaddv (v := 2) hx hb dX0_worthFrom_120 (by decide) ?_
          refine lv_iload_n hx hb dX0_worthFrom_121 rfl (lv_at hl 2 rfl) ?_
          obtain ⟨⟨σ_17, r_16⟩, h_15, hf⟩ := bd_e hf
          refine kx_worthFrom_2 X hW had hrs h_15 (by decide) hl (Nat.le_of_ble_eq_true rfl) dX0_worthFrom_122 (fun H locs hW => ?_)
          refine lv_istore (lv' := [(7, .int r_16), (0, .ref (ad 999)), (1, .int 1), (2, .int v2), (3, .int 0), (4, .int v4), (5, .int v5), (6, .ref (ad 5999))]) hx hb dX0_worthFrom_125 hl (by decide) rfl (fun ls hl => ?_)
          refine lv_iload hx hb dX0_worthFrom_127 (lv_at hl 6 rfl) ?_
          refine lv_iconst (v := (-1)) hx hb dX0_worthFrom_129 (by decide) ?_
          refine lv_icmp_eq (tgt := 157) hx hb dX0_worthFrom_130 (by decide) (fun c_18 => ?_) (fun c_18 => ?_)
          · replace hf := ip hf c_18
            refine lv_iload hx hb dX0_worthFrom_157 (lv_at hl 0 rfl) ?_
            refine lv_istore (lv' := [(4, .int r_16), (7, .int r_16), (0, .ref (ad 999)), (1, .int 1), (2, .int v2), (3, .int 0), (5, .int v5), (6, .ref (ad 5999))]) hx hb dX0_worthFrom_159 hl (by decide) rfl (fun ls hl => ?_)
            refine lv_iload_n hx hb dX0_worthFrom_161 rfl (lv_at hl 3 rfl) ?_
            refine lv_if_ne (tgt := 171) hx hb dX0_worthFrom_162 (by decide) (fun c_19 => ?_) (fun c_19 => absurd c_19 (by decide))
            refine lv_iinc (v := (v5 + 1)) (lv' := [(5, .int (v5 + 1)), (4, .int r_16), (7, .int r_16), (0, .ref (ad 999)), (1, .int 1), (2, .int v2), (3, .int 0), (6, .ref (ad 5999))]) hx hb dX0_worthFrom_171 hl (k := 6) rfl (ii_v _ _ _ (by decide)) (by decide) rfl (fun ls hl => ?_)
            refine lv_goto (tgt := 33) hx hb dX0_worthFrom_174 (by decide) ?_
            exact ih _ _ _ _ _ _ hW (lv_sub hl [3, 4, 5, 6, 1, 0] rfl) hf
          · replace hf := ine hf c_18
            refine lv_iload_n hx hb dX0_worthFrom_133 rfl (lv_at hl 4 rfl) ?_
            refine lv_if_eq (tgt := 147) hx hb dX0_worthFrom_134 (by decide) (fun c_20 => ?_) (fun c_20 => absurd c_20 (by decide))
            refine lv_iload hx hb dX0_worthFrom_147 (lv_at hl 0 rfl) ?_
            refine lv_iload hx hb dX0_worthFrom_149 (lv_at hl 5 rfl) ?_
            refine lv_icmp_lt (tgt := 157) hx hb dX0_worthFrom_151 (by decide) (fun c_21 => ?_) (fun c_21 => ?_)
            · replace hf := ip hf c_21
              refine lv_iload hx hb dX0_worthFrom_157 (lv_at hl 0 rfl) ?_
              refine lv_istore (lv' := [(4, .int r_16), (7, .int r_16), (0, .ref (ad 999)), (1, .int 1), (2, .int v2), (3, .int 0), (5, .int v5), (6, .ref (ad 5999))]) hx hb dX0_worthFrom_159 hl (by decide) rfl (fun ls hl => ?_)
              refine lv_iload_n hx hb dX0_worthFrom_161 rfl (lv_at hl 3 rfl) ?_
              refine lv_if_ne (tgt := 171) hx hb dX0_worthFrom_162 (by decide) (fun c_22 => ?_) (fun c_22 => absurd c_22 (by decide))
              refine lv_iinc (v := (v5 + 1)) (lv' := [(5, .int (v5 + 1)), (4, .int r_16), (7, .int r_16), (0, .ref (ad 999)), (1, .int 1), (2, .int v2), (3, .int 0), (6, .ref (ad 5999))]) hx hb dX0_worthFrom_171 hl (k := 6) rfl (ii_v _ _ _ (by decide)) (by decide) rfl (fun ls hl => ?_)
              refine lv_goto (tgt := 33) hx hb dX0_worthFrom_174 (by decide) ?_
              exact ih _ _ _ _ _ _ hW (lv_sub hl [3, 4, 5, 6, 1, 0] rfl) hf
            · replace hf := ine hf c_21
              refine lv_goto (tgt := 171) hx hb dX0_worthFrom_154 (by decide) ?_
              refine lv_iinc (v := (v5 + 1)) (lv' := [(5, .int (v5 + 1)), (7, .int r_16), (0, .ref (ad 999)), (1, .int 1), (2, .int v2), (3, .int 0), (4, .int v4), (6, .ref (ad 5999))]) hx hb dX0_worthFrom_171 hl (k := 6) rfl (ii_v _ _ _ (by decide)) (by decide) rfl (fun ls hl => ?_)
              refine lv_goto (tgt := 33) hx hb dX0_worthFrom_174 (by decide) ?_
              exact ih _ _ _ _ _ _ hW (lv_sub hl [2, 3, 4, 5, 6, 0] rfl) hf
        clear hf
        refine lv_icmp_eq (tgt := 107) hx hb dX0_worthFrom_88 (by decide) (fun c_23 => ?_) (fun c_23 => ?_)
        · replace hD_9 := ip hD_9 c_23
          cases hD_9
          exact hJ _ _ _ hW (lv_sub hl [1, 2, 3, 4, 5, 6, 0] rfl)
        · replace hD_9 := ine hD_9 c_23
          refine lv_aload hx hb dX0_worthFrom_91 (lv_at hl 0 rfl) ?_
          refine lv_iload hx hb dX0_worthFrom_93 (lv_at hl 6 rfl) ?_
          refine lv_iload_n hx hb dX0_worthFrom_95 rfl (lv_at hl 4 rfl) ?_
          refine lv_if_eq (tgt := 103) hx hb dX0_worthFrom_96 (by decide) (fun c_24 => ?_) (fun c_24 => absurd c_24 (by decide))
          refine lv_iconst (v := (-1)) hx hb dX0_worthFrom_103 (by decide) ?_
          obtain ⟨σ_26, h_25, hD_9⟩ := bd_e hD_9
          refine kx_pushes X hW had (b := 5000) (by decide) h_25 (by decide) hl (Nat.le_of_ble_eq_true rfl) dX0_worthFrom_104 (fun H locs hW => ?_)
          cases hD_9
          exact hJ _ _ _ hW (lv_sub hl [1, 2, 3, 4, 5, 6, 0] rfl)
      · replace hf := ine hf c_5
        refine lv_aload_n hx hb dX0_worthFrom_51 rfl (lv_at hl 0 rfl) ?_
        refine xg_0s X hW xm_999 z_3 dX0_worthFrom_52 ?_
        refine lv_iload hx hb dX0_worthFrom_55 (lv_at hl 5 rfl) ?_
        obtain ⟨r_28, h_27, hf⟩ := bd_e hf
        refine kx_isBaked X hW had (b := 1000) (by decide) h_27 (by decide) hl (Nat.le_of_ble_eq_true rfl) dX0_worthFrom_57 (fun H locs hW => ?_)
        refine lv_if_eq (tgt := 66) hx hb dX0_worthFrom_60 (by decide) (fun c_29 => ?_) (fun c_29 => ?_)
        · replace hf := ip hf c_29
          refine lv_aload_n hx hb dX0_worthFrom_66 rfl (lv_at hl 0 rfl) ?_
          refine xg_3 X hW xm_999 dX0_worthFrom_67 ?_
          refine lv_iload_n hx hb dX0_worthFrom_70 rfl (lv_at hl 1 rfl) ?_
          refine lv_iconst (v := 1) hx hb dX0_worthFrom_71 (by decide) ?_
          refine r_iaddv (v := 2) hx hb dX0_worthFrom_72 (by decide) ?_
          refine r_aald X hW (t0 := 4) xm_3 rfl rfl (by decide) (v := .ref (ad 5999)) rfl dX0_worthFrom_73 ?_
          refine lv_aload_n hx hb dX0_worthFrom_74 rfl (lv_at hl 0 rfl) ?_
          refine xg_3 X hW xm_999 dX0_worthFrom_75 ?_
          refine lv_iload_n hx hb dX0_worthFrom_78 rfl (lv_at hl 1 rfl) ?_
          refine r_aald X hW (t0 := 4) xm_3 rfl rfl (by decide) (v := .ref (ad 4999)) rfl dX0_worthFrom_79 ?_
          obtain ⟨σ_31, h_30, hf⟩ := bd_e hf
          refine kx_standsAs X hW had (b := 5000) (c2 := 4000) (by decide) (by decide) (by decide) h_30 (by decide) hl (Nat.le_of_ble_eq_true rfl) dX0_worthFrom_80 (fun H locs hW => ?_)
          refine lv_astore (lv' := [(6, .ref (ad 5999)), (0, .ref (ad 999)), (1, .int 1), (2, .int v2), (3, .int 0), (4, .int v4), (5, .int v5)]) hx hb dX0_worthFrom_83 hl (by decide) rfl (fun ls hl => ?_)
          refine lv_iload hx hb dX0_worthFrom_85 (lv_at hl 6 rfl) ?_
          refine lv_iconst (v := (-1)) hx hb dX0_worthFrom_87 (by decide) ?_
          obtain ⟨σ_32, hD_33, hf⟩ := bd_e hf
          have hJ : ∀ (H : Heap) (locs : List Loc) (ls : Array Slot), WB g A s.heap xIds ad (xE g ad q σ_32) H locs → lv_has ls 8 [(0, .ref (ad 999)), (1, .int 1), (2, .int v2), (3, .int 0), (4, .int v4), (5, .int v5), (6, .ref (ad 5999))] → W p l e (rm_ 410 16448) s m args below meth c H locs 0 0 Q (F0 m 107 ls []) := by
            intro H locs ls hW hl
            refine lv_aload hx hb dX0_worthFrom_107 (lv_at hl 6 rfl) ?_
            refine lv_aload_n hx hb dX0_worthFrom_109 rfl (lv_at hl 0 rfl) ?_
            obtain ⟨R_35, h_34, hf⟩ := bd_e hf
            refine kx_law X hW had hrs h_34 (by decide) hl (Nat.le_of_ble_eq_true rfl) dX0_worthFrom_110 (fun q_R_35 hq_R_35 H locs hW => ?_)
            obtain ⟨⟨σ_38, r_37⟩, h_36, hf⟩ := bd_e hf
            refine kx_goes X hW had (b := 5000) (by decide) hq_R_35 h_36 (by decide) hl (Nat.le_of_ble_eq_true rfl) dX0_worthFrom_113 (fun H locs hW => ?_)
            refine lv_pop hx hb dX0_worthFrom_116 rfl ?_
            refine lv_aload_n hx hb dX0_worthFrom_117 rfl (lv_at hl 0 rfl) ?_
            refine lv_iload_n hx hb dX0_worthFrom_118 rfl (lv_at hl 1 rfl) ?_
            refine lv_iconst (v := 1) hx hb dX0_worthFrom_119 (by decide) ?_
            refine r_iaddv (v := 2) hx hb dX0_worthFrom_120 (by decide) ?_
            refine lv_iload_n hx hb dX0_worthFrom_121 rfl (lv_at hl 2 rfl) ?_
            obtain ⟨⟨σ_41, r_40⟩, h_39, hf⟩ := bd_e hf
            refine kx_worthFrom_2 X hW had hrs h_39 (by decide) hl (Nat.le_of_ble_eq_true rfl) dX0_worthFrom_122 (fun H locs hW => ?_)
            refine lv_istore (lv' := [(7, .int r_40), (0, .ref (ad 999)), (1, .int 1), (2, .int v2), (3, .int 0), (4, .int v4), (5, .int v5), (6, .ref (ad 5999))]) hx hb dX0_worthFrom_125 hl (by decide) rfl (fun ls hl => ?_)
            refine lv_iload hx hb dX0_worthFrom_127 (lv_at hl 6 rfl) ?_
            refine lv_iconst (v := (-1)) hx hb dX0_worthFrom_129 (by decide) ?_
            refine lv_icmp_eq (tgt := 157) hx hb dX0_worthFrom_130 (by decide) (fun c_42 => ?_) (fun c_42 => ?_)
            · replace hf := ip hf c_42
              refine lv_iload hx hb dX0_worthFrom_157 (lv_at hl 0 rfl) ?_
              refine lv_istore (lv' := [(4, .int r_40), (7, .int r_40), (0, .ref (ad 999)), (1, .int 1), (2, .int v2), (3, .int 0), (5, .int v5), (6, .ref (ad 5999))]) hx hb dX0_worthFrom_159 hl (by decide) rfl (fun ls hl => ?_)
              refine lv_iload_n hx hb dX0_worthFrom_161 rfl (lv_at hl 3 rfl) ?_
              refine lv_if_ne (tgt := 171) hx hb dX0_worthFrom_162 (by decide) (fun c_43 => ?_) (fun c_43 => absurd c_43 (by decide))
              refine lv_iinc (v := (v5 + 1)) (lv' := [(5, .int (v5 + 1)), (4, .int r_40), (7, .int r_40), (0, .ref (ad 999)), (1, .int 1), (2, .int v2), (3, .int 0), (6, .ref (ad 5999))]) hx hb dX0_worthFrom_171 hl (k := 6) rfl (ii_v _ _ _ (by decide)) (by decide) rfl (fun ls hl => ?_)
              refine lv_goto (tgt := 33) hx hb dX0_worthFrom_174 (by decide) ?_
              exact ih _ _ _ _ _ _ hW (lv_sub hl [3, 4, 5, 6, 1, 0] rfl) hf
            · replace hf := ine hf c_42
              refine lv_iload_n hx hb dX0_worthFrom_133 rfl (lv_at hl 4 rfl) ?_
              refine lv_if_eq (tgt := 147) hx hb dX0_worthFrom_134 (by decide) (fun c_44 => ?_) (fun c_44 => absurd c_44 (by decide))
              refine lv_iload hx hb dX0_worthFrom_147 (lv_at hl 0 rfl) ?_
              refine lv_iload hx hb dX0_worthFrom_149 (lv_at hl 5 rfl) ?_
              refine lv_icmp_lt (tgt := 157) hx hb dX0_worthFrom_151 (by decide) (fun c_45 => ?_) (fun c_45 => ?_)
              · replace hf := ip hf c_45
                refine lv_iload hx hb dX0_worthFrom_157 (lv_at hl 0 rfl) ?_
                refine lv_istore (lv' := [(4, .int r_40), (7, .int r_40), (0, .ref (ad 999)), (1, .int 1), (2, .int v2), (3, .int 0), (5, .int v5), (6, .ref (ad 5999))]) hx hb dX0_worthFrom_159 hl (by decide) rfl (fun ls hl => ?_)
                refine lv_iload_n hx hb dX0_worthFrom_161 rfl (lv_at hl 3 rfl) ?_
                refine lv_if_ne (tgt := 171) hx hb dX0_worthFrom_162 (by decide) (fun c_46 => ?_) (fun c_46 => absurd c_46 (by decide))
                refine lv_iinc (v := (v5 + 1)) (lv' := [(5, .int (v5 + 1)), (4, .int r_40), (7, .int r_40), (0, .ref (ad 999)), (1, .int 1), (2, .int v2), (3, .int 0), (6, .ref (ad 5999))]) hx hb dX0_worthFrom_171 hl (k := 6) rfl (ii_v _ _ _ (by decide)) (by decide) rfl (fun ls hl => ?_)
                refine lv_goto (tgt := 33) hx hb dX0_worthFrom_174 (by decide) ?_
                exact ih _ _ _ _ _ _ hW (lv_sub hl [3, 4, 5, 6, 1, 0] rfl) hf
              · replace hf := ine hf c_45
                refine lv_goto (tgt := 171) hx hb dX0_worthFrom_154 (by decide) ?_
                refine lv_iinc (v := (v5 + 1)) (lv' := [(5, .int (v5 + 1)), (7, .int r_40), (0, .ref (ad 999)), (1, .int 1), (2, .int v2), (3, .int 0), (4, .int v4), (6, .ref (ad 5999))]) hx hb dX0_worthFrom_171 hl (k := 6) rfl (ii_v _ _ _ (by decide)) (by decide) rfl (fun ls hl => ?_)
                refine lv_goto (tgt := 33) hx hb dX0_worthFrom_174 (by decide) ?_
                exact ih _ _ _ _ _ _ hW (lv_sub hl [2, 3, 4, 5, 6, 0] rfl) hf
          clear hf
          refine lv_icmp_eq (tgt := 107) hx hb dX0_worthFrom_88 (by decide) (fun c_47 => ?_) (fun c_47 => ?_)
          · replace hD_33 := ip hD_33 c_47
            cases hD_33
            exact hJ _ _ _ hW (lv_sub hl [1, 2, 3, 4, 5, 6, 0] rfl)
          · replace hD_33 := ine hD_33 c_47
            refine lv_aload hx hb dX0_worthFrom_91 (lv_at hl 0 rfl) ?_
            refine lv_iload hx hb dX0_worthFrom_93 (lv_at hl 6 rfl) ?_
            refine lv_iload_n hx hb dX0_worthFrom_95 rfl (lv_at hl 4 rfl) ?_
            refine lv_if_eq (tgt := 103) hx hb dX0_worthFrom_96 (by decide) (fun c_48 => ?_) (fun c_48 => absurd c_48 (by decide))
            refine lv_iconst (v := (-1)) hx hb dX0_worthFrom_103 (by decide) ?_
            obtain ⟨σ_50, h_49, hD_33⟩ := bd_e hD_33
            refine kx_pushes X hW had (b := 5000) (by decide) h_49 (by decide) hl (Nat.le_of_ble_eq_true rfl) dX0_worthFrom_104 (fun H locs hW => ?_)
            cases hD_33
            exact hJ _ _ _ hW (lv_sub hl [1, 2, 3, 4, 5, 6, 0] rfl)
        · replace hf := ine hf c_29
          refine lv_goto (tgt := 171) hx hb dX0_worthFrom_63 (by decide) ?_
          refine lv_iinc (v := (v5 + 1)) (lv' := [(5, .int (v5 + 1)), (0, .ref (ad 999)), (1, .int 1), (2, .int v2), (3, .int 0), (4, .int v4)]) hx hb dX0_worthFrom_171 hl (k := 5) rfl (ii_v _ _ _ (by decide)) (by decide) rfl (fun ls hl => ?_)
          refine lv_goto (tgt := 33) hx hb dX0_worthFrom_174 (by decide) ?_
          exact ih _ _ _ _ _ _ hW (lv_sub hl [1, 2, 3, 4, 5, 0] rfl) hf
noncomputable def x_worthFrom_1 (σ : cS) (rs : List RS) (v2 : Int32) : Option (cS × Int32) :=
  if 1 = v2 then (((d_west (vw σ 4000)).bind fun r_55 => some (σ, r_55))) else (((some () : Option (Unit)).bind fun _ => (x_worthFrom_1_33 rs v2 (fun σ_51 v_52 => (some (σ_51, v_52))) FU σ 0 (-1))))
set_option maxHeartbeats 4000000 in
theorem wb_x_worthFrom_1 {p : Program} {l : Launch} {e : Env} {s : State} {m : MethodId} {args : Array Value} {below : List Frame} {meth : Method} {c : Code} {g : gG} {A : Nat → Prop} {ad : Nat → Nat} {q : xR} (X : MX p s m args meth c cX0_worthFrom 8 RX0 (some .int) g A) (had : xI_ ad) {rs : List RS} (hrs : RSok q.1 g rs) {σr : cS} {r : Int32} {σ : cS} {v2 : Int32} {H : Heap} {locs : List Loc} {ls : Array Slot} (hW : WB g A s.heap xIds ad (xE g ad q σ) H locs) (hl : lv_has ls 8 [(0, .ref (ad 999)), (1, .int 1), (2, .int v2)]) (hf : x_worthFrom_1 σ rs v2 = some (σr, r)) : W p l e (rm_ 410 16448) s m args below meth c H locs 0 0 (Qm below g xIds ad (xE g ad q σr) (some (.int r)) A args s) (F0 m 0 ls []) := by
  have hx := X.1.1
  have hb := X.1.2.1
  unfold x_worthFrom_1 at hf
  refine lv_iload_n hx hb dX0_worthFrom_0 rfl (lv_at hl 1 rfl) ?_
  refine lv_iload_n hx hb dX0_worthFrom_1 rfl (lv_at hl 2 rfl) ?_
  refine lv_icmp_ne (tgt := 15) hx hb dX0_worthFrom_2 (by decide) (fun c_1 => ?_) (fun c_1 => ?_)
  · replace hf := ine hf c_1
    refine lv_iload_n hx hb dX0_worthFrom_15 rfl (lv_at hl 1 rfl) ?_
    refine lv_iconst (v := 2) hx hb dX0_worthFrom_16 (by decide) ?_
    refine r_iremv (v := 1) hx hb dX0_worthFrom_17 (by decide) (by decide) ?_
    obtain ⟨_, hD_2, hf⟩ := bd_e hf
    have hJ : ∀ (H : Heap) (locs : List Loc) (ls : Array Slot), WB g A s.heap xIds ad (xE g ad q σ) H locs → lv_has ls 8 [(0, .ref (ad 999)), (1, .int 1), (2, .int v2)] → W p l e (rm_ 410 16448) s m args below meth c H locs 0 0 (Qm below g xIds ad (xE g ad q σr) (some (.int r)) A args s) (F0 m 26 ls [.int 0]) := by
      intro H locs ls hW hl
      refine lv_istore_n (lv' := [(3, .int 0), (0, .ref (ad 999)), (1, .int 1), (2, .int v2)]) hx hb dX0_worthFrom_26 rfl hl (by decide) rfl (fun ls hl => ?_)
      refine lv_iconst (v := 0) hx hb dX0_worthFrom_27 (by decide) ?_
      refine lv_istore (lv' := [(4, .int 0), (3, .int 0), (0, .ref (ad 999)), (1, .int 1), (2, .int v2)]) hx hb dX0_worthFrom_28 hl (by decide) rfl (fun ls hl => ?_)
      refine lv_iconst (v := (-1)) hx hb dX0_worthFrom_30 (by decide) ?_
      refine lv_istore (lv' := [(5, .int (-1)), (4, .int 0), (3, .int 0), (0, .ref (ad 999)), (1, .int 1), (2, .int v2)]) hx hb dX0_worthFrom_31 hl (by decide) rfl (fun ls hl => ?_)
      refine wx_worthFrom_1_33 X had hrs (fun σ_51 v_52 H locs ls hW hl hf => ?_) _ _ _ _ _ _ _ hW (lv_sub hl [3, 4, 5, 2, 1, 0] rfl) hf
      refine lv_iload hx hb dX0_worthFrom_177 (lv_at hl 0 rfl) ?_
      exact x_iret X hW hf dX0_worthFrom_179
    clear hf
    refine lv_if_ne (tgt := 25) hx hb dX0_worthFrom_18 (by decide) (fun c_53 => ?_) (fun c_53 => absurd c_53 (by decide))
    refine lv_iconst (v := 0) hx hb dX0_worthFrom_25 (by decide) ?_
    cases hD_2
    exact hJ _ _ _ hW (lv_sub hl [0, 1, 2] rfl)
  · replace hf := ip hf c_1
    refine lv_aload_n hx hb dX0_worthFrom_5 rfl (lv_at hl 0 rfl) ?_
    refine xg_3 X hW xm_999 dX0_worthFrom_6 ?_
    refine lv_iload_n hx hb dX0_worthFrom_9 rfl (lv_at hl 1 rfl) ?_
    refine r_aald X hW (t0 := 4) xm_3 rfl rfl (by decide) (v := .ref (ad 4999)) rfl dX0_worthFrom_10 ?_
    obtain ⟨r_55, h_54, hf⟩ := bd_e hf
    refine kx_west X hW had (b := 4000) (by decide) h_54 (by decide) hl (Nat.le_of_ble_eq_true rfl) dX0_worthFrom_11 (fun H locs hW => ?_)
    exact x_iret X hW hf dX0_worthFrom_14
theorem w_x_worthFrom_1 (l : Launch) {g : gG} {ad : Nat → Nat} {q : xR} (had : xI_ ad) {rs : List RS} (hrs : RSok q.1 g rs) {σr : cS} {r : Int32} {σ : cS} {v2 : Int32} (hf : x_worthFrom_1 σ rs v2 = some (σr, r)) : MC l yX0_worthFrom cX0_worthFrom 8 (some .int) 410 16448 g xIds ad (xE g ad q σ) (xE g ad q σr) [.ref (ad 999), .int 1, .int v2] (some (.int r)) :=
  MC.of (by decide) xIds_nd had (Nat.le_of_ble_eq_true rfl) (fun p e s m below meth c A ls X hW hl => wb_x_worthFrom_1 X had hrs hW hl hf)
theorem kx_worthFrom_1 {p : Program} {l : Launch} {e : Env} {R : Room} {s : State} {m : MethodId} {args : Array Value} {below : List Frame} {meth : Method} {c : Code} {H : Heap} {locs : List Loc} {Q : State → Prop} {cc : ByteArray} {nL : Nat} {ret : Option FieldType} {g : gG} {A : Nat → Prop} {ad : Nat → Nat} {q : xR} {pc : Nat} {ls : Array Slot} {rest : List Value} {lv : List (Nat × Value)} {σr : cS} {r : Int32} {σ : cS} {v2 : Int32} (X : MX p s m args meth c cc nL RX0 ret g A) (hW : WB g A s.heap xIds ad (xE g ad q σ) H locs) (had : xI_ ad) {rs : List RS} (hrs : RSok q.1 g rs) (hf : x_worthFrom_1 σ rs v2 = some (σr, r)) (hR : 411 ≤ R.frames ∧ 16475 ≤ R.locals) (hl : lv_has ls nL lv) (hcat : (rest.map fun v => v.category).sum ≤ 8) (hdg : decode cc pc = .ok (.invokevirtual 279, 3)) (kk : ∀ (H1 : Heap) (l1 : List Loc), WB g A s.heap xIds ad (xE g ad q σr) H1 l1 → W p l e R s m args below meth c H1 l1 0 0 Q (F0 m (pc + 3) ls (.int r :: rest))) : W p l e R s m args below meth c H locs 0 0 Q (F0 m pc ls (.int v2 :: .int 1 :: .ref (ad 999) :: rest)) :=
  r_callV X hW Sub.all (w_x_worthFrom_1 l had hrs hf) (lw_V q1022 q1024 qs38 q120 q1025) ⟨rfl, by decide, by decide, by decide +kernel⟩ xm_999 rfl rfl (n := 2) hR hl rfl rfl hcat ⟨Nat.zero_le _, Nat.zero_le _⟩ hdg kk
-- worthFrom_0
noncomputable def x_worthFrom_0_33 {ρ : Type} (rs : List RS) (v2 : Int32) (K : cS → Int32 → Option ρ) : Nat → cS → Int32 → Int32 → Option ρ
  | 0, _, _, _ => none
  | n + 1, σ, v4, v5 => gd (nz (σ.1 999 0)) (if (σ.1 1999 0) ≤ v5 then (K σ v4) else (if v5 = (-1) then (((d_standsAs (vw2 σ 4000 3000)).bind fun σ_7 => ((if v5 = (-1) then (some ((pb2 σ 4000 3000 σ_7))) else (((d_pushes (vw (pb2 σ 4000 3000 σ_7) 4000) v5 1).bind fun σ_26 => some ((pb (pb2 σ 4000 3000 σ_7) 4000 σ_26)))) : Option (cS)).bind fun σ_8 => (((x_law σ_8 rs).bind fun R_11 => ((d_goes (vw σ_8 4000) R_11).bind fun (σ_14, r_13) => ((x_worthFrom_1 (pb σ_8 4000 σ_14) rs v2).bind fun (σ_17, r_16) => if v5 = (-1) then (x_worthFrom_0_33 rs v2 K n (si σ_17 999 19 v5) r_16 (v5 + 1)) else (if v4 < r_16 then (x_worthFrom_0_33 rs v2 K n (si σ_17 999 19 v5) r_16 (v5 + 1)) else (x_worthFrom_0_33 rs v2 K n σ_17 v4 (v5 + 1)))))))))) else (((d_isBaked (vw σ 1000) v5).bind fun r_28 => if r_28 = 0 then (((d_standsAs (vw2 σ 4000 3000)).bind fun σ_31 => ((if v5 = (-1) then (some ((pb2 σ 4000 3000 σ_31))) else (((d_pushes (vw (pb2 σ 4000 3000 σ_31) 4000) v5 1).bind fun σ_50 => some ((pb (pb2 σ 4000 3000 σ_31) 4000 σ_50)))) : Option (cS)).bind fun σ_32 => (((x_law σ_32 rs).bind fun R_35 => ((d_goes (vw σ_32 4000) R_35).bind fun (σ_38, r_37) => ((x_worthFrom_1 (pb σ_32 4000 σ_38) rs v2).bind fun (σ_41, r_40) => if v5 = (-1) then (x_worthFrom_0_33 rs v2 K n (si σ_41 999 19 v5) r_40 (v5 + 1)) else (if v4 < r_40 then (x_worthFrom_0_33 rs v2 K n (si σ_41 999 19 v5) r_40 (v5 + 1)) else (x_worthFrom_0_33 rs v2 K n σ_41 v4 (v5 + 1)))))))))) else (x_worthFrom_0_33 rs v2 K n σ v4 (v5 + 1))))))
set_option maxHeartbeats 4000000 in
theorem wx_worthFrom_0_33 {p : Program} {l : Launch} {e : Env} {s : State} {m : MethodId} {args : Array Value} {below : List Frame} {meth : Method} {c : Code} {g : gG} {A : Nat → Prop} {ad : Nat → Nat} {q : xR} (X : MX p s m args meth c cX0_worthFrom 8 RX0 (some .int) g A) (had : xI_ ad) {rs : List RS} (hrs : RSok q.1 g rs) {ρ : Type} {res : ρ} {Q : State → Prop} {v2 : Int32}  {K : cS → Int32 → Option ρ}
    (hK : ∀ (σ : cS) (k4 : Int32) (H : Heap) (locs : List Loc) (ls : Array Slot), WB g A s.heap xIds ad (xE g ad q σ) H locs → lv_has ls 8 [(4, .int k4)] → K σ k4 = some res → W p l e (rm_ 411 16475) s m args below meth c H locs 0 0 Q (F0 m 177 ls [])) :
    ∀ (n : Nat) (σ : cS) (v4 : Int32) (v5 : Int32) (H : Heap) (locs : List Loc) (ls : Array Slot), WB g A s.heap xIds ad (xE g ad q σ) H locs → lv_has ls 8 [(0, .ref (ad 999)), (1, .int 0), (2, .int v2), (3, .int 1), (4, .int v4), (5, .int v5)] → x_worthFrom_0_33 rs v2 K n σ v4 v5 = some res → W p l e (rm_ 411 16475) s m args below meth c H locs 0 0 Q (F0 m 33 ls []) := by
  have hx := X.1.1
  have hb := X.1.2.1
  intro n
  induction n with
  | zero =>
    intro σ v4 v5 H locs ls hW hl hf
    rw [x_worthFrom_0_33] at hf
    cases hf
  | succ n ih =>
    intro σ v4 v5 H locs ls hW hl hf
    rw [x_worthFrom_0_33] at hf
    refine lv_iload hx hb dX0_worthFrom_33 (lv_at hl 5 rfl) ?_
    refine lv_aload_n hx hb dX0_worthFrom_35 rfl (lv_at hl 0 rfl) ?_
    obtain ⟨z_3, hf⟩ := gd_e hf
    replace z_3 := nz_e z_3
    refine xg_0s X hW xm_999 z_3 dX0_worthFrom_36 ?_
    refine xg_1000 X hW xm_1999 dX0_worthFrom_39 ?_
    refine lv_icmp_ge (tgt := 177) hx hb dX0_worthFrom_42 (by decide) (fun c_4 => ?_) (fun c_4 => ?_)
    · replace hf := ip hf c_4
      exact hK _ _ _ _ _ hW (lv_sub hl [4] rfl) hf
    · replace hf := ine hf c_4
      refine lv_iload hx hb dX0_worthFrom_45 (lv_at hl 5 rfl) ?_
      refine lv_iconst (v := (-1)) hx hb dX0_worthFrom_47 (by decide) ?_
      refine lv_icmp_eq (tgt := 66) hx hb dX0_worthFrom_48 (by decide) (fun c_5 => ?_) (fun c_5 => ?_)
      · replace hf := ip hf c_5
        refine lv_aload_n hx hb dX0_worthFrom_66 rfl (lv_at hl 0 rfl) ?_
        refine xg_3 X hW xm_999 dX0_worthFrom_67 ?_
        refine lv_iload_n hx hb dX0_worthFrom_70 rfl (lv_at hl 1 rfl) ?_
        refine lv_iconst (v := 1) hx hb dX0_worthFrom_71 (by decide) ?_
        refine r_iaddv (v := 1) hx hb dX0_worthFrom_72 (by decide) ?_
        refine r_aald X hW (t0 := 4) xm_3 rfl rfl (by decide) (v := .ref (ad 4999)) rfl dX0_worthFrom_73 ?_
        refine lv_aload_n hx hb dX0_worthFrom_74 rfl (lv_at hl 0 rfl) ?_
        refine xg_3 X hW xm_999 dX0_worthFrom_75 ?_
        refine lv_iload_n hx hb dX0_worthFrom_78 rfl (lv_at hl 1 rfl) ?_
        refine r_aald X hW (t0 := 4) xm_3 rfl rfl (by decide) (v := .ref (ad 3999)) rfl dX0_worthFrom_79 ?_
        obtain ⟨σ_7, h_6, hf⟩ := bd_e hf
        refine kx_standsAs X hW had (b := 4000) (c2 := 3000) (by decide) (by decide) (by decide) h_6 (by decide) hl (Nat.le_of_ble_eq_true rfl) dX0_worthFrom_80 (fun H locs hW => ?_)
        refine lv_astore (lv' := [(6, .ref (ad 4999)), (0, .ref (ad 999)), (1, .int 0), (2, .int v2), (3, .int 1), (4, .int v4), (5, .int v5)]) hx hb dX0_worthFrom_83 hl (by decide) rfl (fun ls hl => ?_)
        refine lv_iload hx hb dX0_worthFrom_85 (lv_at hl 6 rfl) ?_
        refine lv_iconst (v := (-1)) hx hb dX0_worthFrom_87 (by decide) ?_
        obtain ⟨σ_8, hD_9, hf⟩ := bd_e hf
        have hJ : ∀ (H : Heap) (locs : List Loc) (ls : Array Slot), WB g A s.heap xIds ad (xE g ad q σ_8) H locs → lv_has ls 8 [(0, .ref (ad 999)), (1, .int 0), (2, .int v2), (3, .int 1), (4, .int v4), (5, .int v5), (6, .ref (ad 4999))] → W p l e (rm_ 411 16475) s m args below meth c H locs 0 0 Q (F0 m 107 ls []) := by
          intro H locs ls hW hl
          refine lv_aload hx hb dX0_worthFrom_107 (lv_at hl 6 rfl) ?_
          refine lv_aload_n hx hb dX0_worthFrom_109 rfl (lv_at hl 0 rfl) ?_
          obtain ⟨R_11, h_10, hf⟩ := bd_e hf
          refine kx_law X hW had hrs h_10 (by decide) hl (Nat.le_of_ble_eq_true rfl) dX0_worthFrom_110 (fun q_R_11 hq_R_11 H locs hW => ?_)
          obtain ⟨⟨σ_14, r_13⟩, h_12, hf⟩ := bd_e hf
          refine kx_goes X hW had (b := 4000) (by decide) hq_R_11 h_12 (by decide) hl (Nat.le_of_ble_eq_true rfl) dX0_worthFrom_113 (fun H locs hW => ?_)
          refine lv_pop hx hb dX0_worthFrom_116 rfl ?_
          refine lv_aload_n hx hb dX0_worthFrom_117 rfl (lv_at hl 0 rfl) ?_
          refine lv_iload_n hx hb dX0_worthFrom_118 rfl (lv_at hl 1 rfl) ?_
          refine lv_iconst (v := 1) hx hb dX0_worthFrom_119 (by decide) ?_
          refine r_iaddv (v := 1) hx hb dX0_worthFrom_120 (by decide) ?_
          refine lv_iload_n hx hb dX0_worthFrom_121 rfl (lv_at hl 2 rfl) ?_
          obtain ⟨⟨σ_17, r_16⟩, h_15, hf⟩ := bd_e hf
          refine kx_worthFrom_1 X hW had hrs h_15 (by decide) hl (Nat.le_of_ble_eq_true rfl) dX0_worthFrom_122 (fun H locs hW => ?_)
          refine lv_istore (lv' := [(7, .int r_16), (0, .ref (ad 999)), (1, .int 0), (2, .int v2), (3, .int 1), (4, .int v4), (5, .int v5), (6, .ref (ad 4999))]) hx hb dX0_worthFrom_125 hl (by decide) rfl (fun ls hl => ?_)
          refine lv_iload hx hb dX0_worthFrom_127 (lv_at hl 6 rfl) ?_
          refine lv_iconst (v := (-1)) hx hb dX0_worthFrom_129 (by decide) ?_
          refine lv_icmp_eq (tgt := 157) hx hb dX0_worthFrom_130 (by decide) (fun c_18 => ?_) (fun c_18 => ?_)
          · replace hf := ip hf c_18
            refine lv_iload hx hb dX0_worthFrom_157 (lv_at hl 0 rfl) ?_
            refine lv_istore (lv' := [(4, .int r_16), (7, .int r_16), (0, .ref (ad 999)), (1, .int 0), (2, .int v2), (3, .int 1), (5, .int v5), (6, .ref (ad 4999))]) hx hb dX0_worthFrom_159 hl (by decide) rfl (fun ls hl => ?_)
            refine lv_iload_n hx hb dX0_worthFrom_161 rfl (lv_at hl 3 rfl) ?_
            refine lv_if_ne (tgt := 171) hx hb dX0_worthFrom_162 (by decide) (fun c_19 => absurd c_19 (by decide)) (fun c_19 => ?_)
            refine lv_aload_n hx hb dX0_worthFrom_165 rfl (lv_at hl 2 rfl) ?_
            refine lv_iload hx hb dX0_worthFrom_166 (lv_at hl 6 rfl) ?_
            refine xp_19 X hW xm_999 dX0_worthFrom_168 (fun H locs hW => ?_)
            refine lv_iinc (v := (v5 + 1)) (lv' := [(5, .int (v5 + 1)), (4, .int r_16), (7, .int r_16), (0, .ref (ad 999)), (1, .int 0), (2, .int v2), (3, .int 1), (6, .ref (ad 4999))]) hx hb dX0_worthFrom_171 hl (k := 6) rfl (ii_v _ _ _ (by decide)) (by decide) rfl (fun ls hl => ?_)
            refine lv_goto (tgt := 33) hx hb dX0_worthFrom_174 (by decide) ?_
            exact ih _ _ _ _ _ _ hW (lv_sub hl [3, 4, 5, 6, 1, 0] rfl) hf
          · replace hf := ine hf c_18
            refine lv_iload_n hx hb dX0_worthFrom_133 rfl (lv_at hl 4 rfl) ?_
            refine lv_if_eq (tgt := 147) hx hb dX0_worthFrom_134 (by decide) (fun c_20 => absurd c_20 (by decide)) (fun c_20 => ?_)
            refine lv_iload hx hb dX0_worthFrom_137 (lv_at hl 0 rfl) ?_
            refine lv_iload hx hb dX0_worthFrom_139 (lv_at hl 5 rfl) ?_
            refine lv_icmp_gt (tgt := 157) hx hb dX0_worthFrom_141 (by decide) (fun c_21 => ?_) (fun c_21 => ?_)
            · replace hf := ip hf c_21
              refine lv_iload hx hb dX0_worthFrom_157 (lv_at hl 0 rfl) ?_
              refine lv_istore (lv' := [(4, .int r_16), (7, .int r_16), (0, .ref (ad 999)), (1, .int 0), (2, .int v2), (3, .int 1), (5, .int v5), (6, .ref (ad 4999))]) hx hb dX0_worthFrom_159 hl (by decide) rfl (fun ls hl => ?_)
              refine lv_iload_n hx hb dX0_worthFrom_161 rfl (lv_at hl 3 rfl) ?_
              refine lv_if_ne (tgt := 171) hx hb dX0_worthFrom_162 (by decide) (fun c_22 => absurd c_22 (by decide)) (fun c_22 => ?_)
              refine lv_aload_n hx hb dX0_worthFrom_165 rfl (lv_at hl 2 rfl) ?_
              refine lv_iload hx hb dX0_worthFrom_166 (lv_at hl 6 rfl) ?_
              refine xp_19 X hW xm_999 dX0_worthFrom_168 (fun H locs hW => ?_)
              refine lv_iinc (v := (v5 + 1)) (lv' := [(5, .int (v5 + 1)), (4, .int r_16), (7, .int r_16), (0, .ref (ad 999)), (1, .int 0), (2, .int v2), (3, .int 1), (6, .ref (ad 4999))]) hx hb dX0_worthFrom_171 hl (k := 6) rfl (ii_v _ _ _ (by decide)) (by decide) rfl (fun ls hl => ?_)
              refine lv_goto (tgt := 33) hx hb dX0_worthFrom_174 (by decide) ?_
              exact ih _ _ _ _ _ _ hW (lv_sub hl [3, 4, 5, 6, 1, 0] rfl) hf
            · replace hf := ine hf c_21
              refine lv_goto (tgt := 171) hx hb dX0_worthFrom_144 (by decide) ?_
              refine lv_iinc (v := (v5 + 1)) (lv' := [(5, .int (v5 + 1)), (7, .int r_16), (0, .ref (ad 999)), (1, .int 0), (2, .int v2), (3, .int 1), (4, .int v4), (6, .ref (ad 4999))]) hx hb dX0_worthFrom_171 hl (k := 6) rfl (ii_v _ _ _ (by decide)) (by decide) rfl (fun ls hl => ?_)
              refine lv_goto (tgt := 33) hx hb dX0_worthFrom_174 (by decide) ?_
              exact ih _ _ _ _ _ _ hW (lv_sub hl [2, 3, 4, 5, 6, 0] rfl) hf
        clear hf
        refine lv_icmp_eq (tgt := 107) hx hb dX0_worthFrom_88 (by decide) (fun c_23 => ?_) (fun c_23 => ?_)
        · replace hD_9 := ip hD_9 c_23
          cases hD_9
          exact hJ _ _ _ hW (lv_sub hl [1, 2, 3, 4, 5, 6, 0] rfl)
        · replace hD_9 := ine hD_9 c_23
          refine lv_aload hx hb dX0_worthFrom_91 (lv_at hl 0 rfl) ?_
          refine lv_iload hx hb dX0_worthFrom_93 (lv_at hl 6 rfl) ?_
          refine lv_iload_n hx hb dX0_worthFrom_95 rfl (lv_at hl 4 rfl) ?_
          refine lv_if_eq (tgt := 103) hx hb dX0_worthFrom_96 (by decide) (fun c_24 => absurd c_24 (by decide)) (fun c_24 => ?_)
          refine lv_iconst (v := 1) hx hb dX0_worthFrom_99 (by decide) ?_
          refine lv_goto (tgt := 104) hx hb dX0_worthFrom_100 (by decide) ?_
          obtain ⟨σ_26, h_25, hD_9⟩ := bd_e hD_9
          refine kx_pushes X hW had (b := 4000) (by decide) h_25 (by decide) hl (Nat.le_of_ble_eq_true rfl) dX0_worthFrom_104 (fun H locs hW => ?_)
          cases hD_9
          exact hJ _ _ _ hW (lv_sub hl [1, 2, 3, 4, 5, 6, 0] rfl)
      · replace hf := ine hf c_5
        refine lv_aload_n hx hb dX0_worthFrom_51 rfl (lv_at hl 0 rfl) ?_
        refine xg_0s X hW xm_999 z_3 dX0_worthFrom_52 ?_
        refine lv_iload hx hb dX0_worthFrom_55 (lv_at hl 5 rfl) ?_
        obtain ⟨r_28, h_27, hf⟩ := bd_e hf
        refine kx_isBaked X hW had (b := 1000) (by decide) h_27 (by decide) hl (Nat.le_of_ble_eq_true rfl) dX0_worthFrom_57 (fun H locs hW => ?_)
        refine lv_if_eq (tgt := 66) hx hb dX0_worthFrom_60 (by decide) (fun c_29 => ?_) (fun c_29 => ?_)
        · replace hf := ip hf c_29
          refine lv_aload_n hx hb dX0_worthFrom_66 rfl (lv_at hl 0 rfl) ?_
          refine xg_3 X hW xm_999 dX0_worthFrom_67 ?_
          refine lv_iload_n hx hb dX0_worthFrom_70 rfl (lv_at hl 1 rfl) ?_
          refine lv_iconst (v := 1) hx hb dX0_worthFrom_71 (by decide) ?_
          refine r_iaddv (v := 1) hx hb dX0_worthFrom_72 (by decide) ?_
          refine r_aald X hW (t0 := 4) xm_3 rfl rfl (by decide) (v := .ref (ad 4999)) rfl dX0_worthFrom_73 ?_
          refine lv_aload_n hx hb dX0_worthFrom_74 rfl (lv_at hl 0 rfl) ?_
          refine xg_3 X hW xm_999 dX0_worthFrom_75 ?_
          refine lv_iload_n hx hb dX0_worthFrom_78 rfl (lv_at hl 1 rfl) ?_
          refine r_aald X hW (t0 := 4) xm_3 rfl rfl (by decide) (v := .ref (ad 3999)) rfl dX0_worthFrom_79 ?_
          obtain ⟨σ_31, h_30, hf⟩ := bd_e hf
          refine kx_standsAs X hW had (b := 4000) (c2 := 3000) (by decide) (by decide) (by decide) h_30 (by decide) hl (Nat.le_of_ble_eq_true rfl) dX0_worthFrom_80 (fun H locs hW => ?_)
          refine lv_astore (lv' := [(6, .ref (ad 4999)), (0, .ref (ad 999)), (1, .int 0), (2, .int v2), (3, .int 1), (4, .int v4), (5, .int v5)]) hx hb dX0_worthFrom_83 hl (by decide) rfl (fun ls hl => ?_)
          refine lv_iload hx hb dX0_worthFrom_85 (lv_at hl 6 rfl) ?_
          refine lv_iconst (v := (-1)) hx hb dX0_worthFrom_87 (by decide) ?_
          obtain ⟨σ_32, hD_33, hf⟩ := bd_e hf
          have hJ : ∀ (H : Heap) (locs : List Loc) (ls : Array Slot), WB g A s.heap xIds ad (xE g ad q σ_32) H locs → lv_has ls 8 [(0, .ref (ad 999)), (1, .int 0), (2, .int v2), (3, .int 1), (4, .int v4), (5, .int v5), (6, .ref (ad 4999))] → W p l e (rm_ 411 16475) s m args below meth c H locs 0 0 Q (F0 m 107 ls []) := by
            intro H locs ls hW hl
            refine lv_aload hx hb dX0_worthFrom_107 (lv_at hl 6 rfl) ?_
            refine lv_aload_n hx hb dX0_worthFrom_109 rfl (lv_at hl 0 rfl) ?_
            obtain ⟨R_35, h_34, hf⟩ := bd_e hf
            refine kx_law X hW had hrs h_34 (by decide) hl (Nat.le_of_ble_eq_true rfl) dX0_worthFrom_110 (fun q_R_35 hq_R_35 H locs hW => ?_)
            obtain ⟨⟨σ_38, r_37⟩, h_36, hf⟩ := bd_e hf
            refine kx_goes X hW had (b := 4000) (by decide) hq_R_35 h_36 (by decide) hl (Nat.le_of_ble_eq_true rfl) dX0_worthFrom_113 (fun H locs hW => ?_)
            refine lv_pop hx hb dX0_worthFrom_116 rfl ?_
            refine lv_aload_n hx hb dX0_worthFrom_117 rfl (lv_at hl 0 rfl) ?_
            refine lv_iload_n hx hb dX0_worthFrom_118 rfl (lv_at hl 1 rfl) ?_
            refine lv_iconst (v := 1) hx hb dX0_worthFrom_119 (by decide) ?_
            refine r_iaddv (v := 1) hx hb dX0_worthFrom_120 (by decide) ?_
            refine lv_iload_n hx hb dX0_worthFrom_121 rfl (lv_at hl 2 rfl) ?_
            obtain ⟨⟨σ_41, r_40⟩, h_39, hf⟩ := bd_e hf
            refine kx_worthFrom_1 X hW had hrs h_39 (by decide) hl (Nat.le_of_ble_eq_true rfl) dX0_worthFrom_122 (fun H locs hW => ?_)
            refine lv_istore (lv' := [(7, .int r_40), (0, .ref (ad 999)), (1, .int 0), (2, .int v2), (3, .int 1), (4, .int v4), (5, .int v5), (6, .ref (ad 4999))]) hx hb dX0_worthFrom_125 hl (by decide) rfl (fun ls hl => ?_)
            refine lv_iload hx hb dX0_worthFrom_127 (lv_at hl 6 rfl) ?_
            refine lv_iconst (v := (-1)) hx hb dX0_worthFrom_129 (by decide) ?_
            refine lv_icmp_eq (tgt := 157) hx hb dX0_worthFrom_130 (by decide) (fun c_42 => ?_) (fun c_42 => ?_)
            · replace hf := ip hf c_42
              refine lv_iload hx hb dX0_worthFrom_157 (lv_at hl 0 rfl) ?_
              refine lv_istore (lv' := [(4, .int r_40), (7, .int r_40), (0, .ref (ad 999)), (1, .int 0), (2, .int v2), (3, .int 1), (5, .int v5), (6, .ref (ad 4999))]) hx hb dX0_worthFrom_159 hl (by decide) rfl (fun ls hl => ?_)
              refine lv_iload_n hx hb dX0_worthFrom_161 rfl (lv_at hl 3 rfl) ?_
              refine lv_if_ne (tgt := 171) hx hb dX0_worthFrom_162 (by decide) (fun c_43 => absurd c_43 (by decide)) (fun c_43 => ?_)
              refine lv_aload_n hx hb dX0_worthFrom_165 rfl (lv_at hl 2 rfl) ?_
              refine lv_iload hx hb dX0_worthFrom_166 (lv_at hl 6 rfl) ?_
              refine xp_19 X hW xm_999 dX0_worthFrom_168 (fun H locs hW => ?_)
              refine lv_iinc (v := (v5 + 1)) (lv' := [(5, .int (v5 + 1)), (4, .int r_40), (7, .int r_40), (0, .ref (ad 999)), (1, .int 0), (2, .int v2), (3, .int 1), (6, .ref (ad 4999))]) hx hb dX0_worthFrom_171 hl (k := 6) rfl (ii_v _ _ _ (by decide)) (by decide) rfl (fun ls hl => ?_)
              refine lv_goto (tgt := 33) hx hb dX0_worthFrom_174 (by decide) ?_
              exact ih _ _ _ _ _ _ hW (lv_sub hl [3, 4, 5, 6, 1, 0] rfl) hf
            · replace hf := ine hf c_42
              refine lv_iload_n hx hb dX0_worthFrom_133 rfl (lv_at hl 4 rfl) ?_
              refine lv_if_eq (tgt := 147) hx hb dX0_worthFrom_134 (by decide) (fun c_44 => absurd c_44 (by decide)) (fun c_44 => ?_)
              refine lv_iload hx hb dX0_worthFrom_137 (lv_at hl 0 rfl) ?_
              refine lv_iload hx hb dX0_worthFrom_139 (lv_at hl 5 rfl) ?_
              refine lv_icmp_gt (tgt := 157) hx hb dX0_worthFrom_141 (by decide) (fun c_45 => ?_) (fun c_45 => ?_)
              · replace hf := ip hf c_45
                refine lv_iload hx hb dX0_worthFrom_157 (lv_at hl 0 rfl) ?_
                refine lv_istore (lv' := [(4, .int r_40), (7, .int r_40), (0, .ref (ad 999)), (1, .int 0), (2, .int v2), (3, .int 1), (5, .int v5), (6, .ref (ad 4999))]) hx hb dX0_worthFrom_159 hl (by decide) rfl (fun ls hl => ?_)
                refine lv_iload_n hx hb dX0_worthFrom_161 rfl (lv_at hl 3 rfl) ?_
                refine lv_if_ne (tgt := 171) hx hb dX0_worthFrom_162 (by decide) (fun c_46 => absurd c_46 (by decide)) (fun c_46 => ?_)
                refine lv_aload_n hx hb dX0_worthFrom_165 rfl (lv_at hl 2 rfl) ?_
                refine lv_iload hx hb dX0_worthFrom_166 (lv_at hl 6 rfl) ?_
                refine xp_19 X hW xm_999 dX0_worthFrom_168 (fun H locs hW => ?_)
                refine lv_iinc (v := (v5 + 1)) (lv' := [(5, .int (v5 + 1)), (4, .int r_40), (7, .int r_40), (0, .ref (ad 999)), (1, .int 0), (2, .int v2), (3, .int 1), (6, .ref (ad 4999))]) hx hb dX0_worthFrom_171 hl (k := 6) rfl (ii_v _ _ _ (by decide)) (by decide) rfl (fun ls hl => ?_)
                refine lv_goto (tgt := 33) hx hb dX0_worthFrom_174 (by decide) ?_
                exact ih _ _ _ _ _ _ hW (lv_sub hl [3, 4, 5, 6, 1, 0] rfl) hf
              · replace hf := ine hf c_45
                refine lv_goto (tgt := 171) hx hb dX0_worthFrom_144 (by decide) ?_
                refine lv_iinc (v := (v5 + 1)) (lv' := [(5, .int (v5 + 1)), (7, .int r_40), (0, .ref (ad 999)), (1, .int 0), (2, .int v2), (3, .int 1), (4, .int v4), (6, .ref (ad 4999))]) hx hb dX0_worthFrom_171 hl (k := 6) rfl (ii_v _ _ _ (by decide)) (by decide) rfl (fun ls hl => ?_)
                refine lv_goto (tgt := 33) hx hb dX0_worthFrom_174 (by decide) ?_
                exact ih _ _ _ _ _ _ hW (lv_sub hl [2, 3, 4, 5, 6, 0] rfl) hf
          clear hf
          refine lv_icmp_eq (tgt := 107) hx hb dX0_worthFrom_88 (by decide) (fun c_47 => ?_) (fun c_47 => ?_)
          · replace hD_33 := ip hD_33 c_47
            cases hD_33
            exact hJ _ _ _ hW (lv_sub hl [1, 2, 3, 4, 5, 6, 0] rfl)
          · replace hD_33 := ine hD_33 c_47
            refine lv_aload hx hb dX0_worthFrom_91 (lv_at hl 0 rfl) ?_
            refine lv_iload hx hb dX0_worthFrom_93 (lv_at hl 6 rfl) ?_
            refine lv_iload_n hx hb dX0_worthFrom_95 rfl (lv_at hl 4 rfl) ?_
            refine lv_if_eq (tgt := 103) hx hb dX0_worthFrom_96 (by decide) (fun c_48 => absurd c_48 (by decide)) (fun c_48 => ?_)
            refine lv_iconst (v := 1) hx hb dX0_worthFrom_99 (by decide) ?_
            refine lv_goto (tgt := 104) hx hb dX0_worthFrom_100 (by decide) ?_
            obtain ⟨σ_50, h_49, hD_33⟩ := bd_e hD_33
            refine kx_pushes X hW had (b := 4000) (by decide) h_49 (by decide) hl (Nat.le_of_ble_eq_true rfl) dX0_worthFrom_104 (fun H locs hW => ?_)
            cases hD_33
            exact hJ _ _ _ hW (lv_sub hl [1, 2, 3, 4, 5, 6, 0] rfl)
        · replace hf := ine hf c_29
          refine lv_goto (tgt := 171) hx hb dX0_worthFrom_63 (by decide) ?_
          refine lv_iinc (v := (v5 + 1)) (lv' := [(5, .int (v5 + 1)), (0, .ref (ad 999)), (1, .int 0), (2, .int v2), (3, .int 1), (4, .int v4)]) hx hb dX0_worthFrom_171 hl (k := 5) rfl (ii_v _ _ _ (by decide)) (by decide) rfl (fun ls hl => ?_)
          refine lv_goto (tgt := 33) hx hb dX0_worthFrom_174 (by decide) ?_
          exact ih _ _ _ _ _ _ hW (lv_sub hl [1, 2, 3, 4, 5, 0] rfl) hf
noncomputable def x_worthFrom_0 (σ : cS) (rs : List RS) (v2 : Int32) : Option (cS × Int32) :=
  if 0 = v2 then (((d_west (vw σ 3000)).bind fun r_55 => some (σ, r_55))) else (((some () : Option (Unit)).bind fun _ => (x_worthFrom_0_33 rs v2 (fun σ_51 v_52 => (some (σ_51, v_52))) FU σ 0 (-1))))
set_option maxHeartbeats 4000000 in
theorem wb_x_worthFrom_0 {p : Program} {l : Launch} {e : Env} {s : State} {m : MethodId} {args : Array Value} {below : List Frame} {meth : Method} {c : Code} {g : gG} {A : Nat → Prop} {ad : Nat → Nat} {q : xR} (X : MX p s m args meth c cX0_worthFrom 8 RX0 (some .int) g A) (had : xI_ ad) {rs : List RS} (hrs : RSok q.1 g rs) {σr : cS} {r : Int32} {σ : cS} {v2 : Int32} {H : Heap} {locs : List Loc} {ls : Array Slot} (hW : WB g A s.heap xIds ad (xE g ad q σ) H locs) (hl : lv_has ls 8 [(0, .ref (ad 999)), (1, .int 0), (2, .int v2)]) (hf : x_worthFrom_0 σ rs v2 = some (σr, r)) : W p l e (rm_ 411 16475) s m args below meth c H locs 0 0 (Qm below g xIds ad (xE g ad q σr) (some (.int r)) A args s) (F0 m 0 ls []) := by
  have hx := X.1.1
  have hb := X.1.2.1
  unfold x_worthFrom_0 at hf
  refine lv_iload_n hx hb dX0_worthFrom_0 rfl (lv_at hl 1 rfl) ?_
  refine lv_iload_n hx hb dX0_worthFrom_1 rfl (lv_at hl 2 rfl) ?_
  refine lv_icmp_ne (tgt := 15) hx hb dX0_worthFrom_2 (by decide) (fun c_1 => ?_) (fun c_1 => ?_)
  · replace hf := ine hf c_1
    refine lv_iload_n hx hb dX0_worthFrom_15 rfl (lv_at hl 1 rfl) ?_
    refine lv_iconst (v := 2) hx hb dX0_worthFrom_16 (by decide) ?_
    refine r_iremv (v := 0) hx hb dX0_worthFrom_17 (by decide) (by decide) ?_
    obtain ⟨_, hD_2, hf⟩ := bd_e hf
    have hJ : ∀ (H : Heap) (locs : List Loc) (ls : Array Slot), WB g A s.heap xIds ad (xE g ad q σ) H locs → lv_has ls 8 [(0, .ref (ad 999)), (1, .int 0), (2, .int v2)] → W p l e (rm_ 411 16475) s m args below meth c H locs 0 0 (Qm below g xIds ad (xE g ad q σr) (some (.int r)) A args s) (F0 m 26 ls [.int 1]) := by
      intro H locs ls hW hl
      refine lv_istore_n (lv' := [(3, .int 1), (0, .ref (ad 999)), (1, .int 0), (2, .int v2)]) hx hb dX0_worthFrom_26 rfl hl (by decide) rfl (fun ls hl => ?_)
      refine lv_iconst (v := 0) hx hb dX0_worthFrom_27 (by decide) ?_
      refine lv_istore (lv' := [(4, .int 0), (3, .int 1), (0, .ref (ad 999)), (1, .int 0), (2, .int v2)]) hx hb dX0_worthFrom_28 hl (by decide) rfl (fun ls hl => ?_)
      refine lv_iconst (v := (-1)) hx hb dX0_worthFrom_30 (by decide) ?_
      refine lv_istore (lv' := [(5, .int (-1)), (4, .int 0), (3, .int 1), (0, .ref (ad 999)), (1, .int 0), (2, .int v2)]) hx hb dX0_worthFrom_31 hl (by decide) rfl (fun ls hl => ?_)
      refine wx_worthFrom_0_33 X had hrs (fun σ_51 v_52 H locs ls hW hl hf => ?_) _ _ _ _ _ _ _ hW (lv_sub hl [3, 4, 5, 2, 1, 0] rfl) hf
      refine lv_iload hx hb dX0_worthFrom_177 (lv_at hl 0 rfl) ?_
      exact x_iret X hW hf dX0_worthFrom_179
    clear hf
    refine lv_if_ne (tgt := 25) hx hb dX0_worthFrom_18 (by decide) (fun c_53 => absurd c_53 (by decide)) (fun c_53 => ?_)
    refine lv_iconst (v := 1) hx hb dX0_worthFrom_21 (by decide) ?_
    refine lv_goto (tgt := 26) hx hb dX0_worthFrom_22 (by decide) ?_
    cases hD_2
    exact hJ _ _ _ hW (lv_sub hl [0, 1, 2] rfl)
  · replace hf := ip hf c_1
    refine lv_aload_n hx hb dX0_worthFrom_5 rfl (lv_at hl 0 rfl) ?_
    refine xg_3 X hW xm_999 dX0_worthFrom_6 ?_
    refine lv_iload_n hx hb dX0_worthFrom_9 rfl (lv_at hl 1 rfl) ?_
    refine r_aald X hW (t0 := 4) xm_3 rfl rfl (by decide) (v := .ref (ad 3999)) rfl dX0_worthFrom_10 ?_
    obtain ⟨r_55, h_54, hf⟩ := bd_e hf
    refine kx_west X hW had (b := 3000) (by decide) h_54 (by decide) hl (Nat.le_of_ble_eq_true rfl) dX0_worthFrom_11 (fun H locs hW => ?_)
    exact x_iret X hW hf dX0_worthFrom_14
theorem w_x_worthFrom_0 (l : Launch) {g : gG} {ad : Nat → Nat} {q : xR} (had : xI_ ad) {rs : List RS} (hrs : RSok q.1 g rs) {σr : cS} {r : Int32} {σ : cS} {v2 : Int32} (hf : x_worthFrom_0 σ rs v2 = some (σr, r)) : MC l yX0_worthFrom cX0_worthFrom 8 (some .int) 411 16475 g xIds ad (xE g ad q σ) (xE g ad q σr) [.ref (ad 999), .int 0, .int v2] (some (.int r)) :=
  MC.of (by decide) xIds_nd had (Nat.le_of_ble_eq_true rfl) (fun p e s m below meth c A ls X hW hl => wb_x_worthFrom_0 X had hrs hW hl hf)
theorem kx_worthFrom_0 {p : Program} {l : Launch} {e : Env} {R : Room} {s : State} {m : MethodId} {args : Array Value} {below : List Frame} {meth : Method} {c : Code} {H : Heap} {locs : List Loc} {Q : State → Prop} {cc : ByteArray} {nL : Nat} {ret : Option FieldType} {g : gG} {A : Nat → Prop} {ad : Nat → Nat} {q : xR} {pc : Nat} {ls : Array Slot} {rest : List Value} {lv : List (Nat × Value)} {σr : cS} {r : Int32} {σ : cS} {v2 : Int32} (X : MX p s m args meth c cc nL RX0 ret g A) (hW : WB g A s.heap xIds ad (xE g ad q σ) H locs) (had : xI_ ad) {rs : List RS} (hrs : RSok q.1 g rs) (hf : x_worthFrom_0 σ rs v2 = some (σr, r)) (hR : 412 ≤ R.frames ∧ 16502 ≤ R.locals) (hl : lv_has ls nL lv) (hcat : (rest.map fun v => v.category).sum ≤ 8) (hdg : decode cc pc = .ok (.invokevirtual 279, 3)) (kk : ∀ (H1 : Heap) (l1 : List Loc), WB g A s.heap xIds ad (xE g ad q σr) H1 l1 → W p l e R s m args below meth c H1 l1 0 0 Q (F0 m (pc + 3) ls (.int r :: rest))) : W p l e R s m args below meth c H locs 0 0 Q (F0 m pc ls (.int v2 :: .int 0 :: .ref (ad 999) :: rest)) :=
  r_callV X hW Sub.all (w_x_worthFrom_0 l had hrs hf) (lw_V q1022 q1024 qs38 q120 q1025) ⟨rfl, by decide, by decide, by decide +kernel⟩ xm_999 rfl rfl (n := 2) hR hl rfl rfl hcat ⟨Nat.zero_le _, Nat.zero_le _⟩ hdg kk
-- dukes
noncomputable def x_dukes (σ : cS) (rs : List RS) (v1 : Int32) (v2 : Int32) : Option (cS × Int32) :=
  if (σ.1 999 0) = 0 then (some (σ, (-100))) else (((x_in v1.toInt64 1 4).bind fun r_3 => if r_3 = 0 then (some (σ, (-100))) else (((x_in v2.toInt64 0 1).bind fun r_6 => if r_6 = 0 then (some (σ, (-100))) else (((x_preparesDeep σ v1).bind fun σ_9 => ((x_worthFrom_0 σ_9 rs v1).bind fun (σ_12, r_11) => if v2 = 0 then (some (σ_12, r_11)) else (some (σ_12, (σ_12.1 999 19))))))))))
set_option maxHeartbeats 4000000 in
theorem wb_x_dukes {p : Program} {l : Launch} {e : Env} {s : State} {m : MethodId} {args : Array Value} {below : List Frame} {meth : Method} {c : Code} {g : gG} {A : Nat → Prop} {ad : Nat → Nat} {q : xR} (X : MX p s m args meth c cX0_dukes 4 RX0 (some .int) g A) (had : xI_ ad) {rs : List RS} (hrs : RSok q.1 g rs) {σr : cS} {r : Int32} {σ : cS} {v1 : Int32} {v2 : Int32} {H : Heap} {locs : List Loc} {ls : Array Slot} (hW : WB g A s.heap xIds ad (xE g ad q σ) H locs) (hl : lv_has ls 4 [(0, .ref (ad 999)), (1, .int v1), (2, .int v2)]) (hf : x_dukes σ rs v1 v2 = some (σr, r)) : W p l e (rm_ 412 16502) s m args below meth c H locs 0 0 (Qm below g xIds ad (xE g ad q σr) (some (.int r)) A args s) (F0 m 0 ls []) := by
  have hx := X.1.1
  have hb := X.1.2.1
  unfold x_dukes at hf
  refine lv_aload_n hx hb dX0_dukes_0 rfl (lv_at hl 0 rfl) ?_
  refine xg_0 X hW xm_999 dX0_dukes_1 ?_
  by_cases c_1 : (σ.1 999 0) = 0
  · replace hf := ip hf c_1
    rw [dn_n c_1]
    refine lv_ifnullN (tgt := 29) hx hb dX0_dukes_4 (by decide) ?_
    refine lv_bipush (v := (-100)) hx hb dX0_dukes_29 (by decide) ?_
    exact x_iret X hW hf dX0_dukes_31
  · replace hf := ine hf c_1
    rw [dn_s c_1]
    refine lv_ifnull (x := ad 1999) hx hb dX0_dukes_4 ?_
    refine lv_iload_n hx hb dX0_dukes_7 rfl (lv_at hl 1 rfl) ?_
    refine lv_i2l (v := v1.toInt64) hx hb dX0_dukes_8 rfl ?_
    refine lv_lconst (v := 1) hx hb dX0_dukes_9 (by decide) ?_
    refine lv_ldc2 (v := 4) hx hb X.1.2.2.2.1 (X.1.2.2.2.2 _ q1021) dX0_dukes_10 ?_
    obtain ⟨r_3, h_2, hf⟩ := bd_e hf
    refine kh_in X hW h_2 (by decide) hl (Nat.le_of_ble_eq_true rfl) dX0_dukes_13 (fun H locs hW => ?_)
    refine lv_if_eq (tgt := 29) hx hb dX0_dukes_16 (by decide) (fun c_4 => ?_) (fun c_4 => ?_)
    · replace hf := ip hf c_4
      refine lv_bipush (v := (-100)) hx hb dX0_dukes_29 (by decide) ?_
      exact x_iret X hW hf dX0_dukes_31
    · replace hf := ine hf c_4
      refine lv_iload_n hx hb dX0_dukes_19 rfl (lv_at hl 2 rfl) ?_
      refine lv_i2l (v := v2.toInt64) hx hb dX0_dukes_20 rfl ?_
      refine lv_lconst (v := 0) hx hb dX0_dukes_21 (by decide) ?_
      refine lv_lconst (v := 1) hx hb dX0_dukes_22 (by decide) ?_
      obtain ⟨r_6, h_5, hf⟩ := bd_e hf
      refine kh_in X hW h_5 (by decide) hl (Nat.le_of_ble_eq_true rfl) dX0_dukes_23 (fun H locs hW => ?_)
      refine lv_if_ne (tgt := 32) hx hb dX0_dukes_26 (by decide) (fun c_7 => ?_) (fun c_7 => ?_)
      · replace hf := ine hf c_7
        refine lv_aload_n hx hb dX0_dukes_32 rfl (lv_at hl 0 rfl) ?_
        refine lv_iload_n hx hb dX0_dukes_33 rfl (lv_at hl 1 rfl) ?_
        obtain ⟨σ_9, h_8, hf⟩ := bd_e hf
        refine kx_preparesDeep X hW had h_8 (by decide) hl (Nat.le_of_ble_eq_true rfl) dX0_dukes_34 (fun H locs hW => ?_)
        refine lv_aload_n hx hb dX0_dukes_37 rfl (lv_at hl 0 rfl) ?_
        refine lv_iconst (v := 0) hx hb dX0_dukes_38 (by decide) ?_
        refine lv_iload_n hx hb dX0_dukes_39 rfl (lv_at hl 1 rfl) ?_
        obtain ⟨⟨σ_12, r_11⟩, h_10, hf⟩ := bd_e hf
        refine kx_worthFrom_0 X hW had hrs h_10 (by decide) hl (Nat.le_of_ble_eq_true rfl) dX0_dukes_40 (fun H locs hW => ?_)
        refine lv_istore_n (lv' := [(3, .int r_11), (0, .ref (ad 999)), (1, .int v1), (2, .int v2)]) hx hb dX0_dukes_43 rfl hl (by decide) rfl (fun ls hl => ?_)
        refine lv_iload_n hx hb dX0_dukes_44 rfl (lv_at hl 3 rfl) ?_
        refine lv_if_ne (tgt := 52) hx hb dX0_dukes_45 (by decide) (fun c_13 => ?_) (fun c_13 => ?_)
        · replace hf := ine hf c_13
          refine lv_aload_n hx hb dX0_dukes_52 rfl (lv_at hl 1 rfl) ?_
          refine xg_19 X hW xm_999 dX0_dukes_53 ?_
          exact x_iret X hW hf dX0_dukes_56
        · replace hf := ip hf c_13
          refine lv_iload_n hx hb dX0_dukes_48 rfl (lv_at hl 0 rfl) ?_
          refine lv_goto (tgt := 56) hx hb dX0_dukes_49 (by decide) ?_
          exact x_iret X hW hf dX0_dukes_56
      · replace hf := ip hf c_7
        refine lv_bipush (v := (-100)) hx hb dX0_dukes_29 (by decide) ?_
        exact x_iret X hW hf dX0_dukes_31
theorem w_x_dukes (l : Launch) {g : gG} {ad : Nat → Nat} {q : xR} (had : xI_ ad) {rs : List RS} (hrs : RSok q.1 g rs) {σr : cS} {r : Int32} {σ : cS} {v1 : Int32} {v2 : Int32} (hf : x_dukes σ rs v1 v2 = some (σr, r)) : MC l yX0_dukes cX0_dukes 4 (some .int) 412 16502 g xIds ad (xE g ad q σ) (xE g ad q σr) [.ref (ad 999), .int v1, .int v2] (some (.int r)) :=
  MC.of (by decide) xIds_nd had (Nat.le_of_ble_eq_true rfl) (fun p e s m below meth c A ls X hW hl => wb_x_dukes X had hrs hW hl hf)
-- log
noncomputable def x_log (σ : cS) (v1 : Int32) (v2 : Int32) (v3 : Int32) : Option (cS × Int32) :=
  if v1 = (-1) then (if (σ.1 999 0) = 0 then (some (σ, 0)) else (some ((si σ 1999 4 0), 0))) else (((x_in v1.toInt64 0 30).bind fun r_3 => if r_3 = 0 then (some (σ, (-2))) else (((x_isMile σ v2).bind fun r_6 => if r_6 = 0 then (some (σ, (-2))) else (((x_in v3.toInt64 0 99).bind fun r_9 => if r_9 = 0 then (some (σ, (-2))) else (gd (nz (σ.1 999 0)) (if (σ.1 1999 4) = 10 then (some (σ, (-2))) else (gd (inb (3 * (σ.1 1999 4)) 30) (gd (nz ((si σ 1015 (ix (3 * (σ.1 1999 4))) v1).1 999 0)) (nmb (si σ 1015 (ix (3 * (σ.1 1999 4))) v1) fun σ_15 => (gd (inb ((3 * (σ.1 1999 4)) + 1) 30) (gd (nz ((si σ_15 1015 (ix ((3 * (σ.1 1999 4)) + 1)) v2).1 999 0)) (nmb (si σ_15 1015 (ix ((3 * (σ.1 1999 4)) + 1)) v2) fun σ_19 => (gd (inb ((3 * (σ.1 1999 4)) + 2) 30) (gd (nz ((si σ_19 1015 (ix ((3 * (σ.1 1999 4)) + 2)) v3).1 999 0)) (nmb (si σ_19 1015 (ix ((3 * (σ.1 1999 4)) + 2)) v3) fun σ_23 => (gd (nz ((si σ_23 1999 4 (((si σ_19 1015 (ix ((3 * (σ.1 1999 4)) + 2)) v3).1 1999 4) + 1)).1 999 0)) (some ((si σ_23 1999 4 (((si σ_19 1015 (ix ((3 * (σ.1 1999 4)) + 2)) v3).1 1999 4) + 1)), ((si σ_23 1999 4 (((si σ_19 1015 (ix ((3 * (σ.1 1999 4)) + 2)) v3).1 1999 4) + 1)).1 1999 4)))))))))))))))))))))
set_option maxHeartbeats 4000000 in
theorem wb_x_log {p : Program} {l : Launch} {e : Env} {s : State} {m : MethodId} {args : Array Value} {below : List Frame} {meth : Method} {c : Code} {g : gG} {A : Nat → Prop} {ad : Nat → Nat} {q : xR} (X : MX p s m args meth c cX0_log 5 RX0 (some .int) g A) (had : xI_ ad) {σr : cS} {r : Int32} {σ : cS} {v1 : Int32} {v2 : Int32} {v3 : Int32} {H : Heap} {locs : List Loc} {ls : Array Slot} (hW : WB g A s.heap xIds ad (xE g ad q σ) H locs) (hl : lv_has ls 5 [(0, .ref (ad 999)), (1, .int v1), (2, .int v2), (3, .int v3)]) (hf : x_log σ v1 v2 v3 = some (σr, r)) : W p l e (rm_ 4 100) s m args below meth c H locs 0 0 (Qm below g xIds ad (xE g ad q σr) (some (.int r)) A args s) (F0 m 0 ls []) := by
  have hx := X.1.1
  have hb := X.1.2.1
  unfold x_log at hf
  refine lv_iload_n hx hb dX0_log_0 rfl (lv_at hl 1 rfl) ?_
  refine lv_iconst (v := (-1)) hx hb dX0_log_1 (by decide) ?_
  refine lv_icmp_ne (tgt := 22) hx hb dX0_log_2 (by decide) (fun c_1 => ?_) (fun c_1 => ?_)
  · replace hf := ine hf c_1
    refine lv_iload_n hx hb dX0_log_22 rfl (lv_at hl 1 rfl) ?_
    refine lv_i2l (v := v1.toInt64) hx hb dX0_log_23 rfl ?_
    refine lv_lconst (v := 0) hx hb dX0_log_24 (by decide) ?_
    refine lv_ldc2 (v := 30) hx hb X.1.2.2.2.1 (X.1.2.2.2.2 _ q1034) dX0_log_25 ?_
    obtain ⟨r_3, h_2, hf⟩ := bd_e hf
    refine kh_in X hW h_2 (by decide) hl (Nat.le_of_ble_eq_true rfl) dX0_log_28 (fun H locs hW => ?_)
    refine lv_if_eq (tgt := 66) hx hb dX0_log_31 (by decide) (fun c_4 => ?_) (fun c_4 => ?_)
    · replace hf := ip hf c_4
      refine lv_bipush (v := (-2)) hx hb dX0_log_66 (by decide) ?_
      exact x_iret X hW hf dX0_log_68
    · replace hf := ine hf c_4
      refine lv_aload_n hx hb dX0_log_34 rfl (lv_at hl 0 rfl) ?_
      refine lv_iload_n hx hb dX0_log_35 rfl (lv_at hl 2 rfl) ?_
      obtain ⟨r_6, h_5, hf⟩ := bd_e hf
      refine kx_isMile X hW had h_5 (by decide) hl (Nat.le_of_ble_eq_true rfl) dX0_log_36 (fun H locs hW => ?_)
      refine lv_if_eq (tgt := 66) hx hb dX0_log_39 (by decide) (fun c_7 => ?_) (fun c_7 => ?_)
      · replace hf := ip hf c_7
        refine lv_bipush (v := (-2)) hx hb dX0_log_66 (by decide) ?_
        exact x_iret X hW hf dX0_log_68
      · replace hf := ine hf c_7
        refine lv_iload_n hx hb dX0_log_42 rfl (lv_at hl 3 rfl) ?_
        refine lv_i2l (v := v3.toInt64) hx hb dX0_log_43 rfl ?_
        refine lv_lconst (v := 0) hx hb dX0_log_44 (by decide) ?_
        refine lv_ldc2 (v := 99) hx hb X.1.2.2.2.1 (X.1.2.2.2.2 _ q981) dX0_log_45 ?_
        obtain ⟨r_9, h_8, hf⟩ := bd_e hf
        refine kh_in X hW h_8 (by decide) hl (Nat.le_of_ble_eq_true rfl) dX0_log_48 (fun H locs hW => ?_)
        refine lv_if_eq (tgt := 66) hx hb dX0_log_51 (by decide) (fun c_10 => ?_) (fun c_10 => ?_)
        · replace hf := ip hf c_10
          refine lv_bipush (v := (-2)) hx hb dX0_log_66 (by decide) ?_
          exact x_iret X hW hf dX0_log_68
        · replace hf := ine hf c_10
          refine lv_aload_n hx hb dX0_log_54 rfl (lv_at hl 0 rfl) ?_
          obtain ⟨z_11, hf⟩ := gd_e hf
          replace z_11 := nz_e z_11
          refine xg_0s X hW xm_999 z_11 dX0_log_55 ?_
          refine xg_1004 X hW xm_1999 dX0_log_58 ?_
          refine lv_bipush (v := 10) hx hb dX0_log_61 (by decide) ?_
          refine lv_icmp_ne (tgt := 69) hx hb dX0_log_63 (by decide) (fun c_12 => ?_) (fun c_12 => ?_)
          · replace hf := ine hf c_12
            refine lv_iconst (v := 3) hx hb dX0_log_69 (by decide) ?_
            refine lv_aload_n hx hb dX0_log_70 rfl (lv_at hl 0 rfl) ?_
            refine xg_0s X hW xm_999 z_11 dX0_log_71 ?_
            refine xg_1004 X hW xm_1999 dX0_log_74 ?_
            refine lv_imul hx hb dX0_log_77 ?_
            refine lv_istore (lv' := [(4, .int (3 * (σ.1 1999 4))), (0, .ref (ad 999)), (1, .int v1), (2, .int v2), (3, .int v3)]) hx hb dX0_log_78 hl (by decide) rfl (fun ls hl => ?_)
            refine lv_aload_n hx hb dX0_log_80 rfl (lv_at hl 1 rfl) ?_
            refine xg_0s X hW xm_999 z_11 dX0_log_81 ?_
            refine xg_1015 X hW xm_1999 dX0_log_84 ?_
            refine lv_iload hx hb dX0_log_87 (lv_at hl 0 rfl) ?_
            refine lv_iload_n hx hb dX0_log_89 rfl (lv_at hl 2 rfl) ?_
            obtain ⟨h_13, hf⟩ := gd_e hf
            refine xs_1015 X hW xm_1015 h_13 dX0_log_90 (fun H locs hW => ?_)
            refine lv_aload_n hx hb dX0_log_91 rfl (lv_at hl 1 rfl) ?_
            obtain ⟨z_14, hf⟩ := gd_e hf
            replace z_14 := nz_e z_14
            refine xg_0s X hW xm_999 z_14 dX0_log_92 ?_
            refine xg_1015 X hW xm_1999 dX0_log_95 ?_
            refine lv_iload hx hb dX0_log_98 (lv_at hl 0 rfl) ?_
            refine lv_iconst (v := 1) hx hb dX0_log_100 (by decide) ?_
            refine lv_iadd hx hb dX0_log_101 ?_
            refine lv_iload_n hx hb dX0_log_102 rfl (lv_at hl 3 rfl) ?_
            obtain ⟨σ_15, e_16, hf⟩ := nmb_e hf
            rw [← e_16] at hW
            clear e_16
            obtain ⟨h_17, hf⟩ := gd_e hf
            refine xs_1015 X hW xm_1015 h_17 dX0_log_103 (fun H locs hW => ?_)
            refine lv_aload_n hx hb dX0_log_104 rfl (lv_at hl 1 rfl) ?_
            obtain ⟨z_18, hf⟩ := gd_e hf
            replace z_18 := nz_e z_18
            refine xg_0s X hW xm_999 z_18 dX0_log_105 ?_
            refine xg_1015 X hW xm_1999 dX0_log_108 ?_
            refine lv_iload hx hb dX0_log_111 (lv_at hl 0 rfl) ?_
            refine lv_iconst (v := 2) hx hb dX0_log_113 (by decide) ?_
            refine lv_iadd hx hb dX0_log_114 ?_
            refine lv_iload_n hx hb dX0_log_115 rfl (lv_at hl 4 rfl) ?_
            obtain ⟨σ_19, e_20, hf⟩ := nmb_e hf
            rw [← e_20] at hW
            clear e_20
            obtain ⟨h_21, hf⟩ := gd_e hf
            refine xs_1015 X hW xm_1015 h_21 dX0_log_116 (fun H locs hW => ?_)
            refine lv_aload_n hx hb dX0_log_117 rfl (lv_at hl 1 rfl) ?_
            obtain ⟨z_22, hf⟩ := gd_e hf
            replace z_22 := nz_e z_22
            refine xg_0s X hW xm_999 z_22 dX0_log_118 ?_
            refine lv_dup hx hb dX0_log_121 rfl ?_
            refine xg_1004 X hW xm_1999 dX0_log_122 ?_
            refine lv_iconst (v := 1) hx hb dX0_log_125 (by decide) ?_
            refine lv_iadd hx hb dX0_log_126 ?_
            obtain ⟨σ_23, e_24, hf⟩ := nmb_e hf
            rw [← e_24] at hW
            clear e_24
            refine xp_1004 X hW xm_1999 dX0_log_127 (fun H locs hW => ?_)
            refine lv_aload_n hx hb dX0_log_130 rfl (lv_at hl 1 rfl) ?_
            obtain ⟨z_25, hf⟩ := gd_e hf
            replace z_25 := nz_e z_25
            refine xg_0s X hW xm_999 z_25 dX0_log_131 ?_
            refine xg_1004 X hW xm_1999 dX0_log_134 ?_
            exact x_iret X hW hf dX0_log_137
          · replace hf := ip hf c_12
            refine lv_bipush (v := (-2)) hx hb dX0_log_66 (by decide) ?_
            exact x_iret X hW hf dX0_log_68
  · replace hf := ip hf c_1
    refine lv_aload_n hx hb dX0_log_5 rfl (lv_at hl 0 rfl) ?_
    refine xg_0 X hW xm_999 dX0_log_6 ?_
    by_cases c_26 : (σ.1 999 0) = 0
    · replace hf := ip hf c_26
      rw [dn_n c_26]
      refine lv_ifnullN (tgt := 20) hx hb dX0_log_9 (by decide) ?_
      refine lv_iconst (v := 0) hx hb dX0_log_20 (by decide) ?_
      exact x_iret X hW hf dX0_log_21
    · replace hf := ine hf c_26
      rw [dn_s c_26]
      refine lv_ifnull (x := ad 1999) hx hb dX0_log_9 ?_
      refine lv_aload_n hx hb dX0_log_12 rfl (lv_at hl 0 rfl) ?_
      refine xg_0s X hW xm_999 c_26 dX0_log_13 ?_
      refine lv_iconst (v := 0) hx hb dX0_log_16 (by decide) ?_
      refine xp_1004 X hW xm_1999 dX0_log_17 (fun H locs hW => ?_)
      refine lv_iconst (v := 0) hx hb dX0_log_20 (by decide) ?_
      exact x_iret X hW hf dX0_log_21
theorem w_x_log (l : Launch) {g : gG} {ad : Nat → Nat} {q : xR} (had : xI_ ad) {σr : cS} {r : Int32} {σ : cS} {v1 : Int32} {v2 : Int32} {v3 : Int32} (hf : x_log σ v1 v2 v3 = some (σr, r)) : MC l yX0_log cX0_log 5 (some .int) 4 100 g xIds ad (xE g ad q σ) (xE g ad q σr) [.ref (ad 999), .int v1, .int v2, .int v3] (some (.int r)) :=
  MC.of (by decide) xIds_nd had (Nat.le_of_ble_eq_true rfl) (fun p e s m below meth c A ls X hW hl => wb_x_log X had hW hl hf)
-- doughAt
noncomputable def x_doughAt_14 (σ : cS) (v1 : Int32) (v2 : Int32) (v3 : Int32) (v4 : Int32) (v5 : Int32) (K : Int32 → Option (Int32)) : Nat → Int32 → Int32 → Option (Int32)
  | 0, _, _ => none
  | n + 1, v6, v7 => if v2 < v7 then (K v6) else (((if v7 ≤ 0 then (some (v6)) else (gd (nz (σ.1 999 0)) (((x_has (σ.1 1999 6) v1).bind fun r_14 => if r_14 = 0 then (gd (inb (v7 - 1) 100) (some ((jmin 99 (v6 + (σ.1 1010 (ix (v7 - 1)))))))) else (some (v6))))) : Option (Int32)).bind fun v_4 => (((if v1 = v3 then (if v7 = v4 then (some ((v_4 - v5))) else (some (v_4))) else (some (v_4)) : Option (Int32)).bind fun v_6 => (if 0 ≤ v_6 then (x_doughAt_14 σ v1 v2 v3 v4 v5 K n v_6 (v7 + 1)) else (some (-1)))))))
set_option maxHeartbeats 4000000 in
theorem wx_doughAt_14 {p : Program} {l : Launch} {e : Env} {s : State} {m : MethodId} {args : Array Value} {below : List Frame} {meth : Method} {c : Code} {g : gG} {A : Nat → Prop} {ad : Nat → Nat} {q : xR} (X : MX p s m args meth c cX0_doughAt 8 RX0 (some .int) g A) (had : xI_ ad) {r : Int32} {v1 : Int32} {v2 : Int32} {v3 : Int32} {v4 : Int32} {v5 : Int32} {σ : cS}  {K : Int32 → Option (Int32)}
    (hK : ∀ (k6 : Int32) (H : Heap) (locs : List Loc) (ls : Array Slot), WB g A s.heap xIds ad (xE g ad q σ) H locs → lv_has ls 8 [(6, .int k6)] → K k6 = some r → W p l e (rm_ 4 100) s m args below meth c H locs 0 0 (Qm below g xIds ad (xE g ad q σ) (some (.int r)) A args s) (F0 m 93 ls [])) :
    ∀ (n : Nat) (v6 : Int32) (v7 : Int32) (H : Heap) (locs : List Loc) (ls : Array Slot), WB g A s.heap xIds ad (xE g ad q σ) H locs → lv_has ls 8 [(0, .ref (ad 999)), (1, .int v1), (2, .int v2), (3, .int v3), (4, .int v4), (5, .int v5), (6, .int v6), (7, .int v7)] → x_doughAt_14 σ v1 v2 v3 v4 v5 K n v6 v7 = some r → W p l e (rm_ 4 100) s m args below meth c H locs 0 0 (Qm below g xIds ad (xE g ad q σ) (some (.int r)) A args s) (F0 m 14 ls []) := by
  have hx := X.1.1
  have hb := X.1.2.1
  intro n
  induction n with
  | zero =>
    intro v6 v7 H locs ls hW hl hf
    rw [x_doughAt_14] at hf
    cases hf
  | succ n ih =>
    intro v6 v7 H locs ls hW hl hf
    rw [x_doughAt_14] at hf
    refine lv_iload hx hb dX0_doughAt_14 (lv_at hl 7 rfl) ?_
    refine lv_iload_n hx hb dX0_doughAt_16 rfl (lv_at hl 2 rfl) ?_
    refine lv_icmp_gt (tgt := 93) hx hb dX0_doughAt_17 (by decide) (fun c_3 => ?_) (fun c_3 => ?_)
    · replace hf := ip hf c_3
      exact hK _ _ _ _ hW (lv_sub hl [6] rfl) hf
    · replace hf := ine hf c_3
      refine lv_iload hx hb dX0_doughAt_20 (lv_at hl 7 rfl) ?_
      obtain ⟨v_4, hD_5, hf⟩ := bd_e hf
      have hJ : ∀ (H : Heap) (locs : List Loc) (ls : Array Slot), WB g A s.heap xIds ad (xE g ad q σ) H locs → lv_has ls 8 [(0, .ref (ad 999)), (1, .int v1), (2, .int v2), (3, .int v3), (4, .int v4), (5, .int v5), (6, .int v_4), (7, .int v7)] → W p l e (rm_ 4 100) s m args below meth c H locs 0 0 (Qm below g xIds ad (xE g ad q σ) (some (.int r)) A args s) (F0 m 61 ls []) := by
        intro H locs ls hW hl
        refine lv_iload_n hx hb dX0_doughAt_61 rfl (lv_at hl 1 rfl) ?_
        refine lv_iload_n hx hb dX0_doughAt_62 rfl (lv_at hl 3 rfl) ?_
        obtain ⟨v_6, hD_7, hf⟩ := bd_e hf
        have hJ : ∀ (H : Heap) (locs : List Loc) (ls : Array Slot), WB g A s.heap xIds ad (xE g ad q σ) H locs → lv_has ls 8 [(0, .ref (ad 999)), (1, .int v1), (2, .int v2), (3, .int v3), (4, .int v4), (5, .int v5), (6, .int v_6), (7, .int v7)] → W p l e (rm_ 4 100) s m args below meth c H locs 0 0 (Qm below g xIds ad (xE g ad q σ) (some (.int r)) A args s) (F0 m 80 ls []) := by
          intro H locs ls hW hl
          refine lv_iload hx hb dX0_doughAt_80 (lv_at hl 6 rfl) ?_
          refine lv_if_ge (tgt := 87) hx hb dX0_doughAt_82 (by decide) (fun c_8 => ?_) (fun c_8 => ?_)
          · replace hf := ip hf c_8
            refine lv_iinc (v := (v7 + 1)) (lv' := [(7, .int (v7 + 1)), (0, .ref (ad 999)), (1, .int v1), (2, .int v2), (3, .int v3), (4, .int v4), (5, .int v5), (6, .int v_6)]) hx hb dX0_doughAt_87 hl (k := 7) rfl (ii_v _ _ _ (by decide)) (by decide) rfl (fun ls hl => ?_)
            refine lv_goto (tgt := 14) hx hb dX0_doughAt_90 (by decide) ?_
            exact ih _ _ _ _ _ hW (lv_sub hl [1, 2, 3, 4, 5, 6, 7, 0] rfl) hf
          · replace hf := ine hf c_8
            refine lv_iconst (v := (-1)) hx hb dX0_doughAt_85 (by decide) ?_
            exact p_iret X hW hf dX0_doughAt_86
        clear hf
        refine lv_icmp_ne (tgt := 80) hx hb dX0_doughAt_63 (by decide) (fun c_9 => ?_) (fun c_9 => ?_)
        · replace hD_7 := ine hD_7 c_9
          cases hD_7
          exact hJ _ _ _ hW (lv_sub hl [0, 1, 2, 3, 4, 5, 6, 7] rfl)
        · replace hD_7 := ip hD_7 c_9
          refine lv_iload hx hb dX0_doughAt_66 (lv_at hl 7 rfl) ?_
          refine lv_iload hx hb dX0_doughAt_68 (lv_at hl 4 rfl) ?_
          refine lv_icmp_ne (tgt := 80) hx hb dX0_doughAt_70 (by decide) (fun c_10 => ?_) (fun c_10 => ?_)
          · replace hD_7 := ine hD_7 c_10
            cases hD_7
            exact hJ _ _ _ hW (lv_sub hl [0, 1, 2, 3, 4, 5, 6, 7] rfl)
          · replace hD_7 := ip hD_7 c_10
            refine lv_iload hx hb dX0_doughAt_73 (lv_at hl 6 rfl) ?_
            refine lv_iload hx hb dX0_doughAt_75 (lv_at hl 5 rfl) ?_
            refine lv_isub hx hb dX0_doughAt_77 ?_
            refine lv_istore (lv' := [(6, .int (v_4 - v5)), (0, .ref (ad 999)), (1, .int v1), (2, .int v2), (3, .int v3), (4, .int v4), (5, .int v5), (7, .int v7)]) hx hb dX0_doughAt_78 hl (by decide) rfl (fun ls hl => ?_)
            cases hD_7
            exact hJ _ _ _ hW (lv_sub hl [1, 2, 3, 4, 5, 6, 0, 7] rfl)
      clear hf
      refine lv_if_le (tgt := 61) hx hb dX0_doughAt_22 (by decide) (fun c_11 => ?_) (fun c_11 => ?_)
      · replace hD_5 := ip hD_5 c_11
        cases hD_5
        exact hJ _ _ _ hW (lv_sub hl [0, 1, 2, 3, 4, 5, 6, 7] rfl)
      · replace hD_5 := ine hD_5 c_11
        refine lv_aload_n hx hb dX0_doughAt_25 rfl (lv_at hl 0 rfl) ?_
        obtain ⟨z_12, hD_5⟩ := gd_e hD_5
        replace z_12 := nz_e z_12
        refine xg_0s X hW xm_999 z_12 dX0_doughAt_26 ?_
        refine xg_1006 X hW xm_1999 dX0_doughAt_29 ?_
        refine lv_iload_n hx hb dX0_doughAt_32 rfl (lv_at hl 1 rfl) ?_
        obtain ⟨r_14, h_13, hD_5⟩ := bd_e hD_5
        refine kh_has X hW h_13 (by decide) hl (Nat.le_of_ble_eq_true rfl) dX0_doughAt_33 (fun H locs hW => ?_)
        refine lv_if_ne (tgt := 61) hx hb dX0_doughAt_36 (by decide) (fun c_15 => ?_) (fun c_15 => ?_)
        · replace hD_5 := ine hD_5 c_15
          cases hD_5
          exact hJ _ _ _ hW (lv_sub hl [0, 1, 2, 3, 4, 5, 6, 7] rfl)
        · replace hD_5 := ip hD_5 c_15
          refine lv_bipush (v := 99) hx hb dX0_doughAt_39 (by decide) ?_
          refine lv_iload hx hb dX0_doughAt_41 (lv_at hl 6 rfl) ?_
          refine lv_aload_n hx hb dX0_doughAt_43 rfl (lv_at hl 0 rfl) ?_
          refine xg_0s X hW xm_999 z_12 dX0_doughAt_44 ?_
          refine xg_1010 X hW xm_1999 dX0_doughAt_47 ?_
          refine lv_iload hx hb dX0_doughAt_50 (lv_at hl 7 rfl) ?_
          refine lv_iconst (v := 1) hx hb dX0_doughAt_52 (by decide) ?_
          refine lv_isub hx hb dX0_doughAt_53 ?_
          obtain ⟨h_16, hD_5⟩ := gd_e hD_5
          refine xl_1010 X hW xm_1010 h_16 dX0_doughAt_54 ?_
          refine lv_iadd hx hb dX0_doughAt_55 ?_
          refine r_min X hl q886 (by decide) (Nat.le_of_ble_eq_true rfl) dX0_doughAt_56 ?_
          refine lv_istore (lv' := [(6, .int (jmin 99 (v6 + (σ.1 1010 (ix (v7 - 1)))))), (0, .ref (ad 999)), (1, .int v1), (2, .int v2), (3, .int v3), (4, .int v4), (5, .int v5), (7, .int v7)]) hx hb dX0_doughAt_59 hl (by decide) rfl (fun ls hl => ?_)
          cases hD_5
          exact hJ _ _ _ hW (lv_sub hl [1, 2, 3, 4, 5, 6, 0, 7] rfl)
noncomputable def x_doughAt (σ : cS) (v1 : Int32) (v2 : Int32) (v3 : Int32) (v4 : Int32) (v5 : Int32) : Option (Int32) :=
  gd (nz (σ.1 999 0)) (gd (inb v1 10) (x_doughAt_14 σ v1 v2 v3 v4 v5 (fun v_17 => (some v_17)) FU (σ.1 1009 (ix v1)) 0))
set_option maxHeartbeats 4000000 in
theorem wb_x_doughAt {p : Program} {l : Launch} {e : Env} {s : State} {m : MethodId} {args : Array Value} {below : List Frame} {meth : Method} {c : Code} {g : gG} {A : Nat → Prop} {ad : Nat → Nat} {q : xR} (X : MX p s m args meth c cX0_doughAt 8 RX0 (some .int) g A) (had : xI_ ad) {r : Int32} {σ : cS} {v1 : Int32} {v2 : Int32} {v3 : Int32} {v4 : Int32} {v5 : Int32} {H : Heap} {locs : List Loc} {ls : Array Slot} (hW : WB g A s.heap xIds ad (xE g ad q σ) H locs) (hl : lv_has ls 8 [(0, .ref (ad 999)), (1, .int v1), (2, .int v2), (3, .int v3), (4, .int v4), (5, .int v5)]) (hf : x_doughAt σ v1 v2 v3 v4 v5 = some r) : W p l e (rm_ 4 100) s m args below meth c H locs 0 0 (Qm below g xIds ad (xE g ad q σ) (some (.int r)) A args s) (F0 m 0 ls []) := by
  have hx := X.1.1
  have hb := X.1.2.1
  unfold x_doughAt at hf
  refine lv_aload_n hx hb dX0_doughAt_0 rfl (lv_at hl 0 rfl) ?_
  obtain ⟨z_1, hf⟩ := gd_e hf
  replace z_1 := nz_e z_1
  refine xg_0s X hW xm_999 z_1 dX0_doughAt_1 ?_
  refine xg_1009 X hW xm_1999 dX0_doughAt_4 ?_
  refine lv_iload_n hx hb dX0_doughAt_7 rfl (lv_at hl 1 rfl) ?_
  obtain ⟨h_2, hf⟩ := gd_e hf
  refine xl_1009 X hW xm_1009 h_2 dX0_doughAt_8 ?_
  refine lv_istore (lv' := [(6, .int (σ.1 1009 (ix v1))), (0, .ref (ad 999)), (1, .int v1), (2, .int v2), (3, .int v3), (4, .int v4), (5, .int v5)]) hx hb dX0_doughAt_9 hl (by decide) rfl (fun ls hl => ?_)
  refine lv_iconst (v := 0) hx hb dX0_doughAt_11 (by decide) ?_
  refine lv_istore (lv' := [(7, .int 0), (6, .int (σ.1 1009 (ix v1))), (0, .ref (ad 999)), (1, .int v1), (2, .int v2), (3, .int v3), (4, .int v4), (5, .int v5)]) hx hb dX0_doughAt_12 hl (by decide) rfl (fun ls hl => ?_)
  refine wx_doughAt_14 X had (fun v_17 H locs ls hW hl hf => ?_) _ _ _ _ _ _ hW (lv_sub hl [2, 3, 4, 5, 6, 7, 1, 0] rfl) hf
  refine lv_iload hx hb dX0_doughAt_93 (lv_at hl 0 rfl) ?_
  exact p_iret X hW hf dX0_doughAt_95
theorem w_x_doughAt (l : Launch) {g : gG} {ad : Nat → Nat} {q : xR} (had : xI_ ad) {r : Int32} {σ : cS} {v1 : Int32} {v2 : Int32} {v3 : Int32} {v4 : Int32} {v5 : Int32} (hf : x_doughAt σ v1 v2 v3 v4 v5 = some r) : MC l yX0_doughAt cX0_doughAt 8 (some .int) 4 100 g xIds ad (xE g ad q σ) (xE g ad q σ) [.ref (ad 999), .int v1, .int v2, .int v3, .int v4, .int v5] (some (.int r)) :=
  MC.of (by decide) xIds_nd had (Nat.le_of_ble_eq_true rfl) (fun p e s m below meth c A ls X hW hl => wb_x_doughAt X had hW hl hf)
theorem kx_doughAt {p : Program} {l : Launch} {e : Env} {R : Room} {s : State} {m : MethodId} {args : Array Value} {below : List Frame} {meth : Method} {c : Code} {H : Heap} {locs : List Loc} {Q : State → Prop} {cc : ByteArray} {nL : Nat} {ret : Option FieldType} {g : gG} {A : Nat → Prop} {ad : Nat → Nat} {q : xR} {pc : Nat} {ls : Array Slot} {rest : List Value} {lv : List (Nat × Value)} {r : Int32} {σ : cS} {v1 : Int32} {v2 : Int32} {v3 : Int32} {v4 : Int32} {v5 : Int32} (X : MX p s m args meth c cc nL RX0 ret g A) (hW : WB g A s.heap xIds ad (xE g ad q σ) H locs) (had : xI_ ad) (hf : x_doughAt σ v1 v2 v3 v4 v5 = some r) (hR : 5 ≤ R.frames ∧ 127 ≤ R.locals) (hl : lv_has ls nL lv) (hcat : (rest.map fun v => v.category).sum ≤ 8) (hdg : decode cc pc = .ok (.invokevirtual 307, 3)) (kk : ∀ (H1 : Heap) (l1 : List Loc), WB g A s.heap xIds ad (xE g ad q σ) H1 l1 → W p l e R s m args below meth c H1 l1 0 0 Q (F0 m (pc + 3) ls (.int r :: rest))) : W p l e R s m args below meth c H locs 0 0 Q (F0 m pc ls (.int v5 :: .int v4 :: .int v3 :: .int v2 :: .int v1 :: .ref (ad 999) :: rest)) :=
  r_callV X hW Sub.all (w_x_doughAt l had hf) (lw_V q1048 q1050 qs41 q120 q1051) ⟨rfl, by decide, by decide, by decide +kernel⟩ xm_999 rfl rfl (n := 5) hR hl rfl rfl hcat ⟨Nat.zero_le _, Nat.zero_le _⟩ hdg kk
-- canBeTheft
noncomputable def x_canBeTheft_32 (σ : cS) (v1 : Int32) (v2 : Int32) (v3 : Int32) (K : Option (Int32)) : Nat → Int32 → Option (Int32)
  | 0, _ => none
  | n + 1, v4 => gd (nz (σ.1 999 0)) (if (3 * (σ.1 1999 4)) ≤ v4 then (K) else (gd (inb (v4 + 1) 30) (gd (inb v4 30) (((x_doughAt σ (σ.1 1015 (ix (v4 + 1))) (σ.1 1015 (ix v4)) v1 v2 v3).bind fun r_13 => gd (inb (v4 + 2) 30) (if r_13 = (σ.1 1015 (ix (v4 + 2))) then (x_canBeTheft_32 σ v1 v2 v3 K n (v4 + 3)) else (some 0)))))))
set_option maxHeartbeats 4000000 in
theorem wx_canBeTheft_32 {p : Program} {l : Launch} {e : Env} {s : State} {m : MethodId} {args : Array Value} {below : List Frame} {meth : Method} {c : Code} {g : gG} {A : Nat → Prop} {ad : Nat → Nat} {q : xR} (X : MX p s m args meth c cX0_canBeTheft 5 RX0 (some .boolean) g A) (had : xI_ ad) {r : Int32} {v1 : Int32} {v2 : Int32} {v3 : Int32} {σ : cS}  {K : Option (Int32)}
    (hK : ∀  (H : Heap) (locs : List Loc) (ls : Array Slot), WB g A s.heap xIds ad (xE g ad q σ) H locs → lv_has ls 5 [] → K = some r → W p l e (rm_ 5 127) s m args below meth c H locs 0 0 (Qm below g xIds ad (xE g ad q σ) (some (.int r)) A args s) (F0 m 98 ls [])) :
    ∀ (n : Nat) (v4 : Int32) (H : Heap) (locs : List Loc) (ls : Array Slot), WB g A s.heap xIds ad (xE g ad q σ) H locs → lv_has ls 5 [(0, .ref (ad 999)), (1, .int v1), (2, .int v2), (3, .int v3), (4, .int v4)] → x_canBeTheft_32 σ v1 v2 v3 K n v4 = some r → W p l e (rm_ 5 127) s m args below meth c H locs 0 0 (Qm below g xIds ad (xE g ad q σ) (some (.int r)) A args s) (F0 m 32 ls []) := by
  have hx := X.1.1
  have hb := X.1.2.1
  intro n
  induction n with
  | zero =>
    intro v4 H locs ls hW hl hf
    rw [x_canBeTheft_32] at hf
    cases hf
  | succ n ih =>
    intro v4 H locs ls hW hl hf
    rw [x_canBeTheft_32] at hf
    refine lv_iload hx hb dX0_canBeTheft_32 (lv_at hl 4 rfl) ?_
    refine lv_iconst (v := 3) hx hb dX0_canBeTheft_34 (by decide) ?_
    refine lv_aload_n hx hb dX0_canBeTheft_35 rfl (lv_at hl 0 rfl) ?_
    obtain ⟨z_8, hf⟩ := gd_e hf
    replace z_8 := nz_e z_8
    refine xg_0s X hW xm_999 z_8 dX0_canBeTheft_36 ?_
    refine xg_1004 X hW xm_1999 dX0_canBeTheft_39 ?_
    refine lv_imul hx hb dX0_canBeTheft_42 ?_
    refine lv_icmp_ge (tgt := 98) hx hb dX0_canBeTheft_43 (by decide) (fun c_9 => ?_) (fun c_9 => ?_)
    · replace hf := ip hf c_9
      exact hK  _ _ _ hW (lv_sub hl [] rfl) hf
    · replace hf := ine hf c_9
      refine lv_aload_n hx hb dX0_canBeTheft_46 rfl (lv_at hl 0 rfl) ?_
      refine lv_aload_n hx hb dX0_canBeTheft_47 rfl (lv_at hl 0 rfl) ?_
      refine xg_0s X hW xm_999 z_8 dX0_canBeTheft_48 ?_
      refine xg_1015 X hW xm_1999 dX0_canBeTheft_51 ?_
      refine lv_iload hx hb dX0_canBeTheft_54 (lv_at hl 4 rfl) ?_
      refine lv_iconst (v := 1) hx hb dX0_canBeTheft_56 (by decide) ?_
      refine lv_iadd hx hb dX0_canBeTheft_57 ?_
      obtain ⟨h_10, hf⟩ := gd_e hf
      refine xl_1015 X hW xm_1015 h_10 dX0_canBeTheft_58 ?_
      refine lv_aload_n hx hb dX0_canBeTheft_59 rfl (lv_at hl 0 rfl) ?_
      refine xg_0s X hW xm_999 z_8 dX0_canBeTheft_60 ?_
      refine xg_1015 X hW xm_1999 dX0_canBeTheft_63 ?_
      refine lv_iload hx hb dX0_canBeTheft_66 (lv_at hl 4 rfl) ?_
      obtain ⟨h_11, hf⟩ := gd_e hf
      refine xl_1015 X hW xm_1015 h_11 dX0_canBeTheft_68 ?_
      refine lv_iload_n hx hb dX0_canBeTheft_69 rfl (lv_at hl 1 rfl) ?_
      refine lv_iload_n hx hb dX0_canBeTheft_70 rfl (lv_at hl 2 rfl) ?_
      refine lv_iload_n hx hb dX0_canBeTheft_71 rfl (lv_at hl 3 rfl) ?_
      obtain ⟨r_13, h_12, hf⟩ := bd_e hf
      refine kx_doughAt X hW had h_12 (by decide) hl (Nat.le_of_ble_eq_true rfl) dX0_canBeTheft_72 (fun H locs hW => ?_)
      refine lv_aload_n hx hb dX0_canBeTheft_75 rfl (lv_at hl 0 rfl) ?_
      refine xg_0s X hW xm_999 z_8 dX0_canBeTheft_76 ?_
      refine xg_1015 X hW xm_1999 dX0_canBeTheft_79 ?_
      refine lv_iload hx hb dX0_canBeTheft_82 (lv_at hl 4 rfl) ?_
      refine lv_iconst (v := 2) hx hb dX0_canBeTheft_84 (by decide) ?_
      refine lv_iadd hx hb dX0_canBeTheft_85 ?_
      obtain ⟨h_14, hf⟩ := gd_e hf
      refine xl_1015 X hW xm_1015 h_14 dX0_canBeTheft_86 ?_
      refine lv_icmp_eq (tgt := 92) hx hb dX0_canBeTheft_87 (by decide) (fun c_15 => ?_) (fun c_15 => ?_)
      · replace hf := ip hf c_15
        refine lv_iinc (v := (v4 + 3)) (lv' := [(4, .int (v4 + 3)), (0, .ref (ad 999)), (1, .int v1), (2, .int v2), (3, .int v3)]) hx hb dX0_canBeTheft_92 hl (k := 4) rfl (ii_v _ _ _ (by decide)) (by decide) rfl (fun ls hl => ?_)
        refine lv_goto (tgt := 32) hx hb dX0_canBeTheft_95 (by decide) ?_
        exact ih _ _ _ _ hW (lv_sub hl [1, 2, 3, 4, 0] rfl) hf
      · replace hf := ine hf c_15
        refine lv_iconst (v := 0) hx hb dX0_canBeTheft_90 (by decide) ?_
        exact p_zret X hW hf (by decide) dX0_canBeTheft_91
noncomputable def x_canBeTheft (σ : cS) (v1 : Int32) (v2 : Int32) (v3 : Int32) : Option (Int32) :=
  gd (nz (σ.1 999 0)) (((x_has (σ.1 1999 6) v1).bind fun r_3 => if r_3 = 0 then (((x_doughAt σ v1 v2 v1 v2 v3).bind fun r_6 => if r_6 = (-1) then (some 0) else (x_canBeTheft_32 σ v1 v2 v3 (some 1) FU 0))) else (some 0)))
set_option maxHeartbeats 4000000 in
theorem wb_x_canBeTheft {p : Program} {l : Launch} {e : Env} {s : State} {m : MethodId} {args : Array Value} {below : List Frame} {meth : Method} {c : Code} {g : gG} {A : Nat → Prop} {ad : Nat → Nat} {q : xR} (X : MX p s m args meth c cX0_canBeTheft 5 RX0 (some .boolean) g A) (had : xI_ ad) {r : Int32} {σ : cS} {v1 : Int32} {v2 : Int32} {v3 : Int32} {H : Heap} {locs : List Loc} {ls : Array Slot} (hW : WB g A s.heap xIds ad (xE g ad q σ) H locs) (hl : lv_has ls 5 [(0, .ref (ad 999)), (1, .int v1), (2, .int v2), (3, .int v3)]) (hf : x_canBeTheft σ v1 v2 v3 = some r) : W p l e (rm_ 5 127) s m args below meth c H locs 0 0 (Qm below g xIds ad (xE g ad q σ) (some (.int r)) A args s) (F0 m 0 ls []) := by
  have hx := X.1.1
  have hb := X.1.2.1
  unfold x_canBeTheft at hf
  refine lv_aload_n hx hb dX0_canBeTheft_0 rfl (lv_at hl 0 rfl) ?_
  obtain ⟨z_1, hf⟩ := gd_e hf
  replace z_1 := nz_e z_1
  refine xg_0s X hW xm_999 z_1 dX0_canBeTheft_1 ?_
  refine xg_1006 X hW xm_1999 dX0_canBeTheft_4 ?_
  refine lv_iload_n hx hb dX0_canBeTheft_7 rfl (lv_at hl 1 rfl) ?_
  obtain ⟨r_3, h_2, hf⟩ := bd_e hf
  refine kh_has X hW h_2 (by decide) hl (Nat.le_of_ble_eq_true rfl) dX0_canBeTheft_8 (fun H locs hW => ?_)
  refine lv_if_ne (tgt := 27) hx hb dX0_canBeTheft_11 (by decide) (fun c_4 => ?_) (fun c_4 => ?_)
  · replace hf := ine hf c_4
    refine lv_iconst (v := 0) hx hb dX0_canBeTheft_27 (by decide) ?_
    exact p_zret X hW hf (by decide) dX0_canBeTheft_28
  · replace hf := ip hf c_4
    refine lv_aload_n hx hb dX0_canBeTheft_14 rfl (lv_at hl 0 rfl) ?_
    refine lv_iload_n hx hb dX0_canBeTheft_15 rfl (lv_at hl 1 rfl) ?_
    refine lv_iload_n hx hb dX0_canBeTheft_16 rfl (lv_at hl 2 rfl) ?_
    refine lv_iload_n hx hb dX0_canBeTheft_17 rfl (lv_at hl 1 rfl) ?_
    refine lv_iload_n hx hb dX0_canBeTheft_18 rfl (lv_at hl 2 rfl) ?_
    refine lv_iload_n hx hb dX0_canBeTheft_19 rfl (lv_at hl 3 rfl) ?_
    obtain ⟨r_6, h_5, hf⟩ := bd_e hf
    refine kx_doughAt X hW had h_5 (by decide) hl (Nat.le_of_ble_eq_true rfl) dX0_canBeTheft_20 (fun H locs hW => ?_)
    refine lv_iconst (v := (-1)) hx hb dX0_canBeTheft_23 (by decide) ?_
    refine lv_icmp_ne (tgt := 29) hx hb dX0_canBeTheft_24 (by decide) (fun c_7 => ?_) (fun c_7 => ?_)
    · replace hf := ine hf c_7
      refine lv_iconst (v := 0) hx hb dX0_canBeTheft_29 (by decide) ?_
      refine lv_istore (lv' := [(4, .int 0), (0, .ref (ad 999)), (1, .int v1), (2, .int v2), (3, .int v3)]) hx hb dX0_canBeTheft_30 hl (by decide) rfl (fun ls hl => ?_)
      refine wx_canBeTheft_32 X had (fun H locs ls hW hl hf => ?_) _ _ _ _ _ hW (lv_sub hl [1, 2, 3, 4, 0] rfl) hf
      refine lv_iconst (v := 1) hx hb dX0_canBeTheft_98 (by decide) ?_
      exact p_zret X hW hf (by decide) dX0_canBeTheft_99
    · replace hf := ip hf c_7
      refine lv_iconst (v := 0) hx hb dX0_canBeTheft_27 (by decide) ?_
      exact p_zret X hW hf (by decide) dX0_canBeTheft_28
theorem w_x_canBeTheft (l : Launch) {g : gG} {ad : Nat → Nat} {q : xR} (had : xI_ ad) {r : Int32} {σ : cS} {v1 : Int32} {v2 : Int32} {v3 : Int32} (hf : x_canBeTheft σ v1 v2 v3 = some r) : MC l yX0_canBeTheft cX0_canBeTheft 5 (some .boolean) 5 127 g xIds ad (xE g ad q σ) (xE g ad q σ) [.ref (ad 999), .int v1, .int v2, .int v3] (some (.int r)) :=
  MC.of (by decide) xIds_nd had (Nat.le_of_ble_eq_true rfl) (fun p e s m below meth c A ls X hW hl => wb_x_canBeTheft X had hW hl hf)
theorem kx_canBeTheft {p : Program} {l : Launch} {e : Env} {R : Room} {s : State} {m : MethodId} {args : Array Value} {below : List Frame} {meth : Method} {c : Code} {H : Heap} {locs : List Loc} {Q : State → Prop} {cc : ByteArray} {nL : Nat} {ret : Option FieldType} {g : gG} {A : Nat → Prop} {ad : Nat → Nat} {q : xR} {pc : Nat} {ls : Array Slot} {rest : List Value} {lv : List (Nat × Value)} {r : Int32} {σ : cS} {v1 : Int32} {v2 : Int32} {v3 : Int32} (X : MX p s m args meth c cc nL RX0 ret g A) (hW : WB g A s.heap xIds ad (xE g ad q σ) H locs) (had : xI_ ad) (hf : x_canBeTheft σ v1 v2 v3 = some r) (hR : 6 ≤ R.frames ∧ 151 ≤ R.locals) (hl : lv_has ls nL lv) (hcat : (rest.map fun v => v.category).sum ≤ 8) (hdg : decode cc pc = .ok (.invokevirtual 314, 3)) (kk : ∀ (H1 : Heap) (l1 : List Loc), WB g A s.heap xIds ad (xE g ad q σ) H1 l1 → W p l e R s m args below meth c H1 l1 0 0 Q (F0 m (pc + 3) ls (.int r :: rest))) : W p l e R s m args below meth c H locs 0 0 Q (F0 m pc ls (.int v3 :: .int v2 :: .int v1 :: .ref (ad 999) :: rest)) :=
  r_callV X hW Sub.all (w_x_canBeTheft l had hf) (lw_V q1043 q1045 qs40 q120 q1046) ⟨rfl, by decide, by decide, by decide +kernel⟩ xm_999 rfl rfl (n := 3) hR hl rfl rfl hcat ⟨Nat.zero_le _, Nat.zero_le _⟩ hdg kk
-- gathersThefts
noncomputable def x_gathersThefts_7 {ρ : Type} (v1 : Int32) (K : cS → Option ρ) : Nat → cS → Int32 → Option ρ
  | 0, _, _ => none
  | n + 1, σ, v2 => gd (nz (σ.1 999 0)) (if (30 * (σ.1 1999 0)) ≤ v2 then (K σ) else (((x_canBeTheft σ (v2 / 30) (v2 - v2 / 30 * 30) v1).bind fun r_4 => if r_4 = 0 then (x_gathersThefts_7 v1 K n σ (v2 + 1)) else (gd (inb (σ.1 999 21) 300) (nmb (si σ 20 (ix (σ.1 999 21)) v2) fun σ_7 => (x_gathersThefts_7 v1 K n (si σ_7 999 21 (((si σ 20 (ix (σ.1 999 21)) v2).1 999 21) + 1)) (v2 + 1)))))))
set_option maxHeartbeats 4000000 in
theorem wx_gathersThefts_7 {p : Program} {l : Launch} {e : Env} {s : State} {m : MethodId} {args : Array Value} {below : List Frame} {meth : Method} {c : Code} {g : gG} {A : Nat → Prop} {ad : Nat → Nat} {q : xR} (X : MX p s m args meth c cX0_gathersThefts 3 RX0 none g A) (had : xI_ ad) {ρ : Type} {res : ρ} {Q : State → Prop} {v1 : Int32}  {K : cS → Option ρ}
    (hK : ∀ (σ : cS) (H : Heap) (locs : List Loc) (ls : Array Slot), WB g A s.heap xIds ad (xE g ad q σ) H locs → lv_has ls 3 [] → K σ = some res → W p l e (rm_ 6 151) s m args below meth c H locs 0 0 Q (F0 m 66 ls [])) :
    ∀ (n : Nat) (σ : cS) (v2 : Int32) (H : Heap) (locs : List Loc) (ls : Array Slot), WB g A s.heap xIds ad (xE g ad q σ) H locs → lv_has ls 3 [(0, .ref (ad 999)), (1, .int v1), (2, .int v2)] → x_gathersThefts_7 v1 K n σ v2 = some res → W p l e (rm_ 6 151) s m args below meth c H locs 0 0 Q (F0 m 7 ls []) := by
  have hx := X.1.1
  have hb := X.1.2.1
  intro n
  induction n with
  | zero =>
    intro σ v2 H locs ls hW hl hf
    rw [x_gathersThefts_7] at hf
    cases hf
  | succ n ih =>
    intro σ v2 H locs ls hW hl hf
    rw [x_gathersThefts_7] at hf
    refine lv_iload_n hx hb dX0_gathersThefts_7 rfl (lv_at hl 2 rfl) ?_
    refine lv_bipush (v := 30) hx hb dX0_gathersThefts_8 (by decide) ?_
    refine lv_aload_n hx hb dX0_gathersThefts_10 rfl (lv_at hl 0 rfl) ?_
    obtain ⟨z_1, hf⟩ := gd_e hf
    replace z_1 := nz_e z_1
    refine xg_0s X hW xm_999 z_1 dX0_gathersThefts_11 ?_
    refine xg_1000 X hW xm_1999 dX0_gathersThefts_14 ?_
    refine lv_imul hx hb dX0_gathersThefts_17 ?_
    refine lv_icmp_ge (tgt := 66) hx hb dX0_gathersThefts_18 (by decide) (fun c_2 => ?_) (fun c_2 => ?_)
    · replace hf := ip hf c_2
      exact hK _ _ _ _ hW (lv_sub hl [] rfl) hf
    · replace hf := ine hf c_2
      refine lv_aload_n hx hb dX0_gathersThefts_21 rfl (lv_at hl 0 rfl) ?_
      refine lv_iload_n hx hb dX0_gathersThefts_22 rfl (lv_at hl 2 rfl) ?_
      refine lv_bipush (v := 30) hx hb dX0_gathersThefts_23 (by decide) ?_
      refine lv_idiv hx hb dX0_gathersThefts_25 (by decide) ?_
      refine lv_iload_n hx hb dX0_gathersThefts_26 rfl (lv_at hl 2 rfl) ?_
      refine lv_bipush (v := 30) hx hb dX0_gathersThefts_27 (by decide) ?_
      refine lv_irem hx hb dX0_gathersThefts_29 (by decide) ?_
      refine lv_iload_n hx hb dX0_gathersThefts_30 rfl (lv_at hl 1 rfl) ?_
      obtain ⟨r_4, h_3, hf⟩ := bd_e hf
      refine kx_canBeTheft X hW had h_3 (by decide) hl (Nat.le_of_ble_eq_true rfl) dX0_gathersThefts_31 (fun H locs hW => ?_)
      refine lv_if_ne (tgt := 40) hx hb dX0_gathersThefts_34 (by decide) (fun c_5 => ?_) (fun c_5 => ?_)
      · replace hf := ine hf c_5
        refine lv_aload_n hx hb dX0_gathersThefts_40 rfl (lv_at hl 0 rfl) ?_
        refine xg_20 X hW xm_999 dX0_gathersThefts_41 ?_
        refine lv_aload_n hx hb dX0_gathersThefts_44 rfl (lv_at hl 0 rfl) ?_
        refine xg_21 X hW xm_999 dX0_gathersThefts_45 ?_
        refine lv_iload_n hx hb dX0_gathersThefts_48 rfl (lv_at hl 2 rfl) ?_
        obtain ⟨h_6, hf⟩ := gd_e hf
        refine xs_20 X hW xm_20 h_6 dX0_gathersThefts_49 (fun H locs hW => ?_)
        refine lv_aload_n hx hb dX0_gathersThefts_50 rfl (lv_at hl 0 rfl) ?_
        refine lv_dup hx hb dX0_gathersThefts_51 rfl ?_
        refine xg_21 X hW xm_999 dX0_gathersThefts_52 ?_
        refine lv_iconst (v := 1) hx hb dX0_gathersThefts_55 (by decide) ?_
        refine lv_iadd hx hb dX0_gathersThefts_56 ?_
        obtain ⟨σ_7, e_8, hf⟩ := nmb_e hf
        rw [← e_8] at hW
        clear e_8
        refine xp_21 X hW xm_999 dX0_gathersThefts_57 (fun H locs hW => ?_)
        refine lv_iinc (v := (v2 + 1)) (lv' := [(2, .int (v2 + 1)), (0, .ref (ad 999)), (1, .int v1)]) hx hb dX0_gathersThefts_60 hl (k := 2) rfl (ii_v _ _ _ (by decide)) (by decide) rfl (fun ls hl => ?_)
        refine lv_goto (tgt := 7) hx hb dX0_gathersThefts_63 (by decide) ?_
        exact ih _ _ _ _ _ hW (lv_sub hl [1, 2, 0] rfl) hf
      · replace hf := ip hf c_5
        refine lv_goto (tgt := 60) hx hb dX0_gathersThefts_37 (by decide) ?_
        refine lv_iinc (v := (v2 + 1)) (lv' := [(2, .int (v2 + 1)), (0, .ref (ad 999)), (1, .int v1)]) hx hb dX0_gathersThefts_60 hl (k := 2) rfl (ii_v _ _ _ (by decide)) (by decide) rfl (fun ls hl => ?_)
        refine lv_goto (tgt := 7) hx hb dX0_gathersThefts_63 (by decide) ?_
        exact ih _ _ _ _ _ hW (lv_sub hl [1, 2, 0] rfl) hf
noncomputable def x_gathersThefts (σ : cS) (v1 : Int32) : Option (cS) :=
  x_gathersThefts_7 v1 (fun σ_9 => (some σ_9)) FU (si σ 999 21 0) 0
set_option maxHeartbeats 4000000 in
theorem wb_x_gathersThefts {p : Program} {l : Launch} {e : Env} {s : State} {m : MethodId} {args : Array Value} {below : List Frame} {meth : Method} {c : Code} {g : gG} {A : Nat → Prop} {ad : Nat → Nat} {q : xR} (X : MX p s m args meth c cX0_gathersThefts 3 RX0 none g A) (had : xI_ ad) {σr : cS}  {σ : cS} {v1 : Int32} {H : Heap} {locs : List Loc} {ls : Array Slot} (hW : WB g A s.heap xIds ad (xE g ad q σ) H locs) (hl : lv_has ls 3 [(0, .ref (ad 999)), (1, .int v1)]) (hf : x_gathersThefts σ v1 = some σr) : W p l e (rm_ 6 151) s m args below meth c H locs 0 0 (Qm below g xIds ad (xE g ad q σr) none A args s) (F0 m 0 ls []) := by
  have hx := X.1.1
  have hb := X.1.2.1
  unfold x_gathersThefts at hf
  refine lv_aload_n hx hb dX0_gathersThefts_0 rfl (lv_at hl 0 rfl) ?_
  refine lv_iconst (v := 0) hx hb dX0_gathersThefts_1 (by decide) ?_
  refine xp_21 X hW xm_999 dX0_gathersThefts_2 (fun H locs hW => ?_)
  refine lv_iconst (v := 0) hx hb dX0_gathersThefts_5 (by decide) ?_
  refine lv_istore_n (lv' := [(2, .int 0), (0, .ref (ad 999)), (1, .int v1)]) hx hb dX0_gathersThefts_6 rfl hl (by decide) rfl (fun ls hl => ?_)
  refine wx_gathersThefts_7 X had (fun σ_9 H locs ls hW hl hf => ?_) _ _ _ _ _ _ hW (lv_sub hl [1, 2, 0] rfl) hf
  exact x_vret X hW hf dX0_gathersThefts_66
theorem w_x_gathersThefts (l : Launch) {g : gG} {ad : Nat → Nat} {q : xR} (had : xI_ ad) {σr : cS}  {σ : cS} {v1 : Int32} (hf : x_gathersThefts σ v1 = some σr) : MC l yX0_gathersThefts cX0_gathersThefts 3 none 6 151 g xIds ad (xE g ad q σ) (xE g ad q σr) [.ref (ad 999), .int v1] none :=
  MC.of (by decide) xIds_nd had (Nat.le_of_ble_eq_true rfl) (fun p e s m below meth c A ls X hW hl => wb_x_gathersThefts X had hW hl hf)
theorem kx_gathersThefts {p : Program} {l : Launch} {e : Env} {R : Room} {s : State} {m : MethodId} {args : Array Value} {below : List Frame} {meth : Method} {c : Code} {H : Heap} {locs : List Loc} {Q : State → Prop} {cc : ByteArray} {nL : Nat} {ret : Option FieldType} {g : gG} {A : Nat → Prop} {ad : Nat → Nat} {q : xR} {pc : Nat} {ls : Array Slot} {rest : List Value} {lv : List (Nat × Value)} {σr : cS}  {σ : cS} {v1 : Int32} (X : MX p s m args meth c cc nL RX0 ret g A) (hW : WB g A s.heap xIds ad (xE g ad q σ) H locs) (had : xI_ ad) (hf : x_gathersThefts σ v1 = some σr) (hR : 7 ≤ R.frames ∧ 173 ≤ R.locals) (hl : lv_has ls nL lv) (hcat : (rest.map fun v => v.category).sum ≤ 8) (hdg : decode cc pc = .ok (.invokevirtual 318, 3)) (kk : ∀ (H1 : Heap) (l1 : List Loc), WB g A s.heap xIds ad (xE g ad q σr) H1 l1 → W p l e R s m args below meth c H1 l1 0 0 Q (F0 m (pc + 3) ls (rest))) : W p l e R s m args below meth c H locs 0 0 Q (F0 m pc ls (.int v1 :: .ref (ad 999) :: rest)) :=
  r_callV X hW Sub.all (w_x_gathersThefts l had hf) (lw_V q1039 q1041 qs39 q120 q1042) ⟨rfl, by decide, by decide, by decide +kernel⟩ xm_999 rfl rfl (n := 1) hR hl rfl rfl hcat ⟨Nat.zero_le _, Nat.zero_le _⟩ hdg kk
-- theft
noncomputable def x_theft (σ : cS) (v1 : Int32) (v2 : Int32) : Option (cS × Int32) :=
  if (σ.1 999 0) = 0 then (some (σ, (-1))) else (((x_in v1.toInt64 1 99).bind fun r_3 => if r_3 = 0 then (some (σ, (-1))) else (((x_in v2.toInt64 0 2).bind fun r_6 => if r_6 = 0 then (some (σ, (-1))) else (((x_gathersThefts σ v1).bind fun σ_9 => if v2 = 0 then (some (σ_9, (σ_9.1 999 21))) else (if (σ_9.1 999 21) = 0 then (some (σ_9, (-2))) else (if v2 = 1 then (some (σ_9, ((σ_9.1 20 (ix 0)) / 30))) else (some (σ_9, ((σ_9.1 20 (ix 0)) - (σ_9.1 20 (ix 0)) / 30 * 30)))))))))))
set_option maxHeartbeats 4000000 in
theorem wb_x_theft {p : Program} {l : Launch} {e : Env} {s : State} {m : MethodId} {args : Array Value} {below : List Frame} {meth : Method} {c : Code} {g : gG} {A : Nat → Prop} {ad : Nat → Nat} {q : xR} (X : MX p s m args meth c cX0_theft 3 RX0 (some .int) g A) (had : xI_ ad) {σr : cS} {r : Int32} {σ : cS} {v1 : Int32} {v2 : Int32} {H : Heap} {locs : List Loc} {ls : Array Slot} (hW : WB g A s.heap xIds ad (xE g ad q σ) H locs) (hl : lv_has ls 3 [(0, .ref (ad 999)), (1, .int v1), (2, .int v2)]) (hf : x_theft σ v1 v2 = some (σr, r)) : W p l e (rm_ 7 173) s m args below meth c H locs 0 0 (Qm below g xIds ad (xE g ad q σr) (some (.int r)) A args s) (F0 m 0 ls []) := by
  have hx := X.1.1
  have hb := X.1.2.1
  unfold x_theft at hf
  refine lv_aload_n hx hb dX0_theft_0 rfl (lv_at hl 0 rfl) ?_
  refine xg_0 X hW xm_999 dX0_theft_1 ?_
  by_cases c_1 : (σ.1 999 0) = 0
  · replace hf := ip hf c_1
    rw [dn_n c_1]
    refine lv_ifnullN (tgt := 31) hx hb dX0_theft_4 (by decide) ?_
    refine lv_iconst (v := (-1)) hx hb dX0_theft_31 (by decide) ?_
    exact x_iret X hW hf dX0_theft_32
  · replace hf := ine hf c_1
    rw [dn_s c_1]
    refine lv_ifnull (x := ad 1999) hx hb dX0_theft_4 ?_
    refine lv_iload_n hx hb dX0_theft_7 rfl (lv_at hl 1 rfl) ?_
    refine lv_i2l (v := v1.toInt64) hx hb dX0_theft_8 rfl ?_
    refine lv_lconst (v := 1) hx hb dX0_theft_9 (by decide) ?_
    refine lv_ldc2 (v := 99) hx hb X.1.2.2.2.1 (X.1.2.2.2.2 _ q981) dX0_theft_10 ?_
    obtain ⟨r_3, h_2, hf⟩ := bd_e hf
    refine kh_in X hW h_2 (by decide) hl (Nat.le_of_ble_eq_true rfl) dX0_theft_13 (fun H locs hW => ?_)
    refine lv_if_eq (tgt := 31) hx hb dX0_theft_16 (by decide) (fun c_4 => ?_) (fun c_4 => ?_)
    · replace hf := ip hf c_4
      refine lv_iconst (v := (-1)) hx hb dX0_theft_31 (by decide) ?_
      exact x_iret X hW hf dX0_theft_32
    · replace hf := ine hf c_4
      refine lv_iload_n hx hb dX0_theft_19 rfl (lv_at hl 2 rfl) ?_
      refine lv_i2l (v := v2.toInt64) hx hb dX0_theft_20 rfl ?_
      refine lv_lconst (v := 0) hx hb dX0_theft_21 (by decide) ?_
      refine lv_ldc2 (v := 2) hx hb X.1.2.2.2.1 (X.1.2.2.2.2 _ q991) dX0_theft_22 ?_
      obtain ⟨r_6, h_5, hf⟩ := bd_e hf
      refine kh_in X hW h_5 (by decide) hl (Nat.le_of_ble_eq_true rfl) dX0_theft_25 (fun H locs hW => ?_)
      refine lv_if_ne (tgt := 33) hx hb dX0_theft_28 (by decide) (fun c_7 => ?_) (fun c_7 => ?_)
      · replace hf := ine hf c_7
        refine lv_aload_n hx hb dX0_theft_33 rfl (lv_at hl 0 rfl) ?_
        refine lv_iload_n hx hb dX0_theft_34 rfl (lv_at hl 1 rfl) ?_
        obtain ⟨σ_9, h_8, hf⟩ := bd_e hf
        refine kx_gathersThefts X hW had h_8 (by decide) hl (Nat.le_of_ble_eq_true rfl) dX0_theft_35 (fun H locs hW => ?_)
        refine lv_iload_n hx hb dX0_theft_38 rfl (lv_at hl 2 rfl) ?_
        refine lv_if_ne (tgt := 47) hx hb dX0_theft_39 (by decide) (fun c_10 => ?_) (fun c_10 => ?_)
        · replace hf := ine hf c_10
          refine lv_aload_n hx hb dX0_theft_47 rfl (lv_at hl 0 rfl) ?_
          refine xg_21 X hW xm_999 dX0_theft_48 ?_
          refine lv_if_ne (tgt := 59) hx hb dX0_theft_51 (by decide) (fun c_11 => ?_) (fun c_11 => ?_)
          · replace hf := ine hf c_11
            refine lv_iload_n hx hb dX0_theft_59 rfl (lv_at hl 2 rfl) ?_
            refine lv_iconst (v := 1) hx hb dX0_theft_60 (by decide) ?_
            refine lv_icmp_ne (tgt := 76) hx hb dX0_theft_61 (by decide) (fun c_12 => ?_) (fun c_12 => ?_)
            · replace hf := ine hf c_12
              refine lv_aload_n hx hb dX0_theft_76 rfl (lv_at hl 0 rfl) ?_
              refine xg_20 X hW xm_999 dX0_theft_77 ?_
              refine lv_iconst (v := 0) hx hb dX0_theft_80 (by decide) ?_
              refine xl_20 X hW xm_20 (by decide) dX0_theft_81 ?_
              refine lv_bipush (v := 30) hx hb dX0_theft_82 (by decide) ?_
              refine lv_irem hx hb dX0_theft_84 (by decide) ?_
              exact x_iret X hW hf dX0_theft_85
            · replace hf := ip hf c_12
              refine lv_aload_n hx hb dX0_theft_64 rfl (lv_at hl 0 rfl) ?_
              refine xg_20 X hW xm_999 dX0_theft_65 ?_
              refine lv_iconst (v := 0) hx hb dX0_theft_68 (by decide) ?_
              refine xl_20 X hW xm_20 (by decide) dX0_theft_69 ?_
              refine lv_bipush (v := 30) hx hb dX0_theft_70 (by decide) ?_
              refine lv_idiv hx hb dX0_theft_72 (by decide) ?_
              refine lv_goto (tgt := 85) hx hb dX0_theft_73 (by decide) ?_
              exact x_iret X hW hf dX0_theft_85
          · replace hf := ip hf c_11
            refine lv_bipush (v := (-2)) hx hb dX0_theft_54 (by decide) ?_
            refine lv_goto (tgt := 85) hx hb dX0_theft_56 (by decide) ?_
            exact x_iret X hW hf dX0_theft_85
        · replace hf := ip hf c_10
          refine lv_aload_n hx hb dX0_theft_42 rfl (lv_at hl 0 rfl) ?_
          refine xg_21 X hW xm_999 dX0_theft_43 ?_
          exact x_iret X hW hf dX0_theft_46
      · replace hf := ip hf c_7
        refine lv_iconst (v := (-1)) hx hb dX0_theft_31 (by decide) ?_
        exact x_iret X hW hf dX0_theft_32
theorem w_x_theft (l : Launch) {g : gG} {ad : Nat → Nat} {q : xR} (had : xI_ ad) {σr : cS} {r : Int32} {σ : cS} {v1 : Int32} {v2 : Int32} (hf : x_theft σ v1 v2 = some (σr, r)) : MC l yX0_theft cX0_theft 3 (some .int) 7 173 g xIds ad (xE g ad q σ) (xE g ad q σr) [.ref (ad 999), .int v1, .int v2] (some (.int r)) :=
  MC.of (by decide) xIds_nd had (Nat.le_of_ble_eq_true rfl) (fun p e s m below meth c A ls X hW hl => wb_x_theft X had hW hl hf)
-- alikeAt
noncomputable def x_alikeAt_6 {ρ : Type} (v1 : Int32) (v2 : Int32) (v3 : Int32) (K : cS → Option ρ) : Nat → cS → Int32 → Option ρ
  | 0, _, _ => none
  | n + 1, σ, v5 => if 100 ≤ v5 then (K σ) else (gd (inb v5 100) (x_alikeAt_6 v1 v2 v3 K n (si σ 22 (ix v5) 0) (v5 + 1)))
set_option maxHeartbeats 4000000 in
theorem wx_alikeAt_6 {p : Program} {l : Launch} {e : Env} {s : State} {m : MethodId} {args : Array Value} {below : List Frame} {meth : Method} {c : Code} {g : gG} {A : Nat → Prop} {ad : Nat → Nat} {q : xR} (X : MX p s m args meth c cX0_alikeAt 7 RX0 (some .int) g A) (had : xI_ ad) {ρ : Type} {res : ρ} {Q : State → Prop} {v1 : Int32} {v2 : Int32} {v3 : Int32}  {K : cS → Option ρ}
    (hK : ∀ (σ : cS) (H : Heap) (locs : List Loc) (ls : Array Slot), WB g A s.heap xIds ad (xE g ad q σ) H locs → lv_has ls 7 [(0, .ref (ad 999)), (1, .int v1), (2, .int v2), (3, .int v3), (4, .int 0)] → K σ = some res → W p l e (rm_ 5 127) s m args below meth c H locs 0 0 Q (F0 m 27 ls [])) :
    ∀ (n : Nat) (σ : cS) (v5 : Int32) (H : Heap) (locs : List Loc) (ls : Array Slot), WB g A s.heap xIds ad (xE g ad q σ) H locs → lv_has ls 7 [(0, .ref (ad 999)), (1, .int v1), (2, .int v2), (3, .int v3), (4, .int 0), (5, .int v5)] → x_alikeAt_6 v1 v2 v3 K n σ v5 = some res → W p l e (rm_ 5 127) s m args below meth c H locs 0 0 Q (F0 m 6 ls []) := by
  have hx := X.1.1
  have hb := X.1.2.1
  intro n
  induction n with
  | zero =>
    intro σ v5 H locs ls hW hl hf
    rw [x_alikeAt_6] at hf
    cases hf
  | succ n ih =>
    intro σ v5 H locs ls hW hl hf
    rw [x_alikeAt_6] at hf
    refine lv_iload hx hb dX0_alikeAt_6 (lv_at hl 5 rfl) ?_
    refine lv_bipush (v := 100) hx hb dX0_alikeAt_8 (by decide) ?_
    refine lv_icmp_ge (tgt := 27) hx hb dX0_alikeAt_10 (by decide) (fun c_1 => ?_) (fun c_1 => ?_)
    · replace hf := ip hf c_1
      exact hK _ _ _ _ hW (lv_sub hl [0, 1, 2, 3, 4] rfl) hf
    · replace hf := ine hf c_1
      refine lv_aload_n hx hb dX0_alikeAt_13 rfl (lv_at hl 0 rfl) ?_
      refine xg_22 X hW xm_999 dX0_alikeAt_14 ?_
      refine lv_iload hx hb dX0_alikeAt_17 (lv_at hl 5 rfl) ?_
      refine lv_iconst (v := 0) hx hb dX0_alikeAt_19 (by decide) ?_
      obtain ⟨h_2, hf⟩ := gd_e hf
      refine xs_22 X hW xm_22 h_2 dX0_alikeAt_20 (fun H locs hW => ?_)
      refine lv_iinc (v := (v5 + 1)) (lv' := [(5, .int (v5 + 1)), (0, .ref (ad 999)), (1, .int v1), (2, .int v2), (3, .int v3), (4, .int 0)]) hx hb dX0_alikeAt_21 hl (k := 5) rfl (ii_v _ _ _ (by decide)) (by decide) rfl (fun ls hl => ?_)
      refine lv_goto (tgt := 6) hx hb dX0_alikeAt_24 (by decide) ?_
      exact ih _ _ _ _ _ hW (lv_sub hl [1, 2, 3, 4, 5, 0] rfl) hf
noncomputable def x_alikeAt_30 {ρ : Type} (v1 : Int32) (v2 : Int32) (v3 : Int32) (K : cS → Int32 → Option ρ) : Nat → cS → Int32 → Int32 → Option ρ
  | 0, _, _, _ => none
  | n + 1, σ, v4, v5 => if (σ.1 999 21) ≤ v5 then (K σ v4) else (gd (inb v5 300) (((x_doughAt σ v1 v2 ((σ.1 20 (ix v5)) / 30) ((σ.1 20 (ix v5)) - (σ.1 20 (ix v5)) / 30 * 30) v3).bind fun r_7 => gd (inb r_7 100) (x_alikeAt_30 v1 v2 v3 K n (si σ 22 (ix r_7) ((σ.1 22 (ix r_7)) + 1)) (jmax v4 ((si σ 22 (ix r_7) ((σ.1 22 (ix r_7)) + 1)).1 22 (ix r_7))) (v5 + 1)))))
set_option maxHeartbeats 4000000 in
theorem wx_alikeAt_30 {p : Program} {l : Launch} {e : Env} {s : State} {m : MethodId} {args : Array Value} {below : List Frame} {meth : Method} {c : Code} {g : gG} {A : Nat → Prop} {ad : Nat → Nat} {q : xR} (X : MX p s m args meth c cX0_alikeAt 7 RX0 (some .int) g A) (had : xI_ ad) {ρ : Type} {res : ρ} {Q : State → Prop} {v1 : Int32} {v2 : Int32} {v3 : Int32}  {K : cS → Int32 → Option ρ}
    (hK : ∀ (σ : cS) (k4 : Int32) (H : Heap) (locs : List Loc) (ls : Array Slot), WB g A s.heap xIds ad (xE g ad q σ) H locs → lv_has ls 7 [(4, .int k4)] → K σ k4 = some res → W p l e (rm_ 5 127) s m args below meth c H locs 0 0 Q (F0 m 99 ls [])) :
    ∀ (n : Nat) (σ : cS) (v4 : Int32) (v5 : Int32) (H : Heap) (locs : List Loc) (ls : Array Slot), WB g A s.heap xIds ad (xE g ad q σ) H locs → lv_has ls 7 [(0, .ref (ad 999)), (1, .int v1), (2, .int v2), (3, .int v3), (4, .int v4), (5, .int v5)] → x_alikeAt_30 v1 v2 v3 K n σ v4 v5 = some res → W p l e (rm_ 5 127) s m args below meth c H locs 0 0 Q (F0 m 30 ls []) := by
  have hx := X.1.1
  have hb := X.1.2.1
  intro n
  induction n with
  | zero =>
    intro σ v4 v5 H locs ls hW hl hf
    rw [x_alikeAt_30] at hf
    cases hf
  | succ n ih =>
    intro σ v4 v5 H locs ls hW hl hf
    rw [x_alikeAt_30] at hf
    refine lv_iload hx hb dX0_alikeAt_30 (lv_at hl 5 rfl) ?_
    refine lv_aload_n hx hb dX0_alikeAt_32 rfl (lv_at hl 0 rfl) ?_
    refine xg_21 X hW xm_999 dX0_alikeAt_33 ?_
    refine lv_icmp_ge (tgt := 99) hx hb dX0_alikeAt_36 (by decide) (fun c_4 => ?_) (fun c_4 => ?_)
    · replace hf := ip hf c_4
      exact hK _ _ _ _ _ hW (lv_sub hl [4] rfl) hf
    · replace hf := ine hf c_4
      refine lv_aload_n hx hb dX0_alikeAt_39 rfl (lv_at hl 0 rfl) ?_
      refine lv_iload_n hx hb dX0_alikeAt_40 rfl (lv_at hl 1 rfl) ?_
      refine lv_iload_n hx hb dX0_alikeAt_41 rfl (lv_at hl 2 rfl) ?_
      refine lv_aload_n hx hb dX0_alikeAt_42 rfl (lv_at hl 0 rfl) ?_
      refine xg_20 X hW xm_999 dX0_alikeAt_43 ?_
      refine lv_iload hx hb dX0_alikeAt_46 (lv_at hl 5 rfl) ?_
      obtain ⟨h_5, hf⟩ := gd_e hf
      refine xl_20 X hW xm_20 h_5 dX0_alikeAt_48 ?_
      refine lv_bipush (v := 30) hx hb dX0_alikeAt_49 (by decide) ?_
      refine lv_idiv hx hb dX0_alikeAt_51 (by decide) ?_
      refine lv_aload_n hx hb dX0_alikeAt_52 rfl (lv_at hl 0 rfl) ?_
      refine xg_20 X hW xm_999 dX0_alikeAt_53 ?_
      refine lv_iload hx hb dX0_alikeAt_56 (lv_at hl 5 rfl) ?_
      refine xl_20 X hW xm_20 h_5 dX0_alikeAt_58 ?_
      refine lv_bipush (v := 30) hx hb dX0_alikeAt_59 (by decide) ?_
      refine lv_irem hx hb dX0_alikeAt_61 (by decide) ?_
      refine lv_iload_n hx hb dX0_alikeAt_62 rfl (lv_at hl 3 rfl) ?_
      obtain ⟨r_7, h_6, hf⟩ := bd_e hf
      refine kx_doughAt X hW had h_6 (by decide) hl (Nat.le_of_ble_eq_true rfl) dX0_alikeAt_63 (fun H locs hW => ?_)
      refine lv_istore (lv' := [(6, .int r_7), (0, .ref (ad 999)), (1, .int v1), (2, .int v2), (3, .int v3), (4, .int v4), (5, .int v5)]) hx hb dX0_alikeAt_66 hl (by decide) rfl (fun ls hl => ?_)
      refine lv_aload_n hx hb dX0_alikeAt_68 rfl (lv_at hl 1 rfl) ?_
      refine xg_22 X hW xm_999 dX0_alikeAt_69 ?_
      refine lv_iload hx hb dX0_alikeAt_72 (lv_at hl 0 rfl) ?_
      refine lv_dup2_11 hx hb dX0_alikeAt_74 rfl rfl ?_
      obtain ⟨h_8, hf⟩ := gd_e hf
      refine xl_22 X hW xm_22 h_8 dX0_alikeAt_75 ?_
      refine lv_iconst (v := 1) hx hb dX0_alikeAt_76 (by decide) ?_
      refine lv_iadd hx hb dX0_alikeAt_77 ?_
      refine xs_22 X hW xm_22 h_8 dX0_alikeAt_78 (fun H locs hW => ?_)
      refine lv_iload hx hb dX0_alikeAt_79 (lv_at hl 5 rfl) ?_
      refine lv_aload_n hx hb dX0_alikeAt_81 rfl (lv_at hl 1 rfl) ?_
      refine xg_22 X hW xm_999 dX0_alikeAt_82 ?_
      refine lv_iload hx hb dX0_alikeAt_85 (lv_at hl 0 rfl) ?_
      refine xl_22 X hW xm_22 h_8 dX0_alikeAt_87 ?_
      refine r_max X hl q887 (by decide) (Nat.le_of_ble_eq_true rfl) dX0_alikeAt_88 ?_
      refine lv_istore (lv' := [(4, .int (jmax v4 ((si σ 22 (ix r_7) ((σ.1 22 (ix r_7)) + 1)).1 22 (ix r_7)))), (6, .int r_7), (0, .ref (ad 999)), (1, .int v1), (2, .int v2), (3, .int v3), (5, .int v5)]) hx hb dX0_alikeAt_91 hl (by decide) rfl (fun ls hl => ?_)
      refine lv_iinc (v := (v5 + 1)) (lv' := [(5, .int (v5 + 1)), (4, .int (jmax v4 ((si σ 22 (ix r_7) ((σ.1 22 (ix r_7)) + 1)).1 22 (ix r_7)))), (6, .int r_7), (0, .ref (ad 999)), (1, .int v1), (2, .int v2), (3, .int v3)]) hx hb dX0_alikeAt_93 hl (k := 6) rfl (ii_v _ _ _ (by decide)) (by decide) rfl (fun ls hl => ?_)
      refine lv_goto (tgt := 30) hx hb dX0_alikeAt_96 (by decide) ?_
      exact ih _ _ _ _ _ _ hW (lv_sub hl [3, 4, 5, 6, 1, 0] rfl) hf
noncomputable def x_alikeAt (σ : cS) (v1 : Int32) (v2 : Int32) (v3 : Int32) : Option (cS × Int32) :=
  x_alikeAt_6 v1 v2 v3 (fun σ_3 => (x_alikeAt_30 v1 v2 v3 (fun σ_9 v_10 => (some (σ_9, v_10))) FU σ_3 0 0)) FU σ 0
set_option maxHeartbeats 4000000 in
theorem wb_x_alikeAt {p : Program} {l : Launch} {e : Env} {s : State} {m : MethodId} {args : Array Value} {below : List Frame} {meth : Method} {c : Code} {g : gG} {A : Nat → Prop} {ad : Nat → Nat} {q : xR} (X : MX p s m args meth c cX0_alikeAt 7 RX0 (some .int) g A) (had : xI_ ad) {σr : cS} {r : Int32} {σ : cS} {v1 : Int32} {v2 : Int32} {v3 : Int32} {H : Heap} {locs : List Loc} {ls : Array Slot} (hW : WB g A s.heap xIds ad (xE g ad q σ) H locs) (hl : lv_has ls 7 [(0, .ref (ad 999)), (1, .int v1), (2, .int v2), (3, .int v3)]) (hf : x_alikeAt σ v1 v2 v3 = some (σr, r)) : W p l e (rm_ 5 127) s m args below meth c H locs 0 0 (Qm below g xIds ad (xE g ad q σr) (some (.int r)) A args s) (F0 m 0 ls []) := by
  have hx := X.1.1
  have hb := X.1.2.1
  unfold x_alikeAt at hf
  refine lv_iconst (v := 0) hx hb dX0_alikeAt_0 (by decide) ?_
  refine lv_istore (lv' := [(4, .int 0), (0, .ref (ad 999)), (1, .int v1), (2, .int v2), (3, .int v3)]) hx hb dX0_alikeAt_1 hl (by decide) rfl (fun ls hl => ?_)
  refine lv_iconst (v := 0) hx hb dX0_alikeAt_3 (by decide) ?_
  refine lv_istore (lv' := [(5, .int 0), (4, .int 0), (0, .ref (ad 999)), (1, .int v1), (2, .int v2), (3, .int v3)]) hx hb dX0_alikeAt_4 hl (by decide) rfl (fun ls hl => ?_)
  refine wx_alikeAt_6 X had (fun σ_3 H locs ls hW hl hf => ?_) _ _ _ _ _ _ hW (lv_sub hl [2, 3, 4, 5, 1, 0] rfl) hf
  refine lv_iconst (v := 0) hx hb dX0_alikeAt_27 (by decide) ?_
  refine lv_istore (lv' := [(5, .int 0), (0, .ref (ad 999)), (1, .int v1), (2, .int v2), (3, .int v3), (4, .int 0)]) hx hb dX0_alikeAt_28 hl (by decide) rfl (fun ls hl => ?_)
  refine wx_alikeAt_30 X had (fun σ_9 v_10 H locs ls hW hl hf => ?_) _ _ _ _ _ _ _ hW (lv_sub hl [1, 2, 3, 4, 5, 0] rfl) hf
  refine lv_iload hx hb dX0_alikeAt_99 (lv_at hl 0 rfl) ?_
  exact x_iret X hW hf dX0_alikeAt_101
theorem w_x_alikeAt (l : Launch) {g : gG} {ad : Nat → Nat} {q : xR} (had : xI_ ad) {σr : cS} {r : Int32} {σ : cS} {v1 : Int32} {v2 : Int32} {v3 : Int32} (hf : x_alikeAt σ v1 v2 v3 = some (σr, r)) : MC l yX0_alikeAt cX0_alikeAt 7 (some .int) 5 127 g xIds ad (xE g ad q σ) (xE g ad q σr) [.ref (ad 999), .int v1, .int v2, .int v3] (some (.int r)) :=
  MC.of (by decide) xIds_nd had (Nat.le_of_ble_eq_true rfl) (fun p e s m below meth c A ls X hW hl => wb_x_alikeAt X had hW hl hf)
theorem kx_alikeAt {p : Program} {l : Launch} {e : Env} {R : Room} {s : State} {m : MethodId} {args : Array Value} {below : List Frame} {meth : Method} {c : Code} {H : Heap} {locs : List Loc} {Q : State → Prop} {cc : ByteArray} {nL : Nat} {ret : Option FieldType} {g : gG} {A : Nat → Prop} {ad : Nat → Nat} {q : xR} {pc : Nat} {ls : Array Slot} {rest : List Value} {lv : List (Nat × Value)} {σr : cS} {r : Int32} {σ : cS} {v1 : Int32} {v2 : Int32} {v3 : Int32} (X : MX p s m args meth c cc nL RX0 ret g A) (hW : WB g A s.heap xIds ad (xE g ad q σ) H locs) (had : xI_ ad) (hf : x_alikeAt σ v1 v2 v3 = some (σr, r)) (hR : 6 ≤ R.frames ∧ 153 ≤ R.locals) (hl : lv_has ls nL lv) (hcat : (rest.map fun v => v.category).sum ≤ 8) (hdg : decode cc pc = .ok (.invokevirtual 321, 3)) (kk : ∀ (H1 : Heap) (l1 : List Loc), WB g A s.heap xIds ad (xE g ad q σr) H1 l1 → W p l e R s m args below meth c H1 l1 0 0 Q (F0 m (pc + 3) ls (.int r :: rest))) : W p l e R s m args below meth c H locs 0 0 Q (F0 m pc ls (.int v3 :: .int v2 :: .int v1 :: .ref (ad 999) :: rest)) :=
  r_callV X hW Sub.all (w_x_alikeAt l had hf) (lw_V q1056 q1058 qs42 q120 q1059) ⟨rfl, by decide, by decide, by decide +kernel⟩ xm_999 rfl rfl (n := 3) hR hl rfl rfl hcat ⟨Nat.zero_le _, Nat.zero_le _⟩ hdg kk
-- weigh
noncomputable def x_weigh_73 {ρ : Type} (v1 : Int32) (v2 : Int32) (v3 : Int32) (K : cS → Int32 → Int32 → Option ρ) : Nat → cS → Int32 → Int32 → Int32 → Option ρ
  | 0, _, _, _, _ => none
  | n + 1, σ, v4, v5, v6 => gd (nz (σ.1 999 0)) (if (σ.1 1999 0) ≤ v6 then (K σ v4 v5) else (((x_alikeAt σ v6 v2 v1).bind fun (σ_21, r_20) => if r_20 < v5 then (x_weigh_73 v1 v2 v3 K n σ_21 v6 r_20 (v6 + 1)) else (x_weigh_73 v1 v2 v3 K n σ_21 v4 v5 (v6 + 1)))))
set_option maxHeartbeats 4000000 in
theorem wx_weigh_73 {p : Program} {l : Launch} {e : Env} {s : State} {m : MethodId} {args : Array Value} {below : List Frame} {meth : Method} {c : Code} {g : gG} {A : Nat → Prop} {ad : Nat → Nat} {q : xR} (X : MX p s m args meth c cX0_weigh 8 RX0 (some .int) g A) (had : xI_ ad) {ρ : Type} {res : ρ} {Q : State → Prop} {v1 : Int32} {v2 : Int32} {v3 : Int32}  {K : cS → Int32 → Int32 → Option ρ}
    (hK : ∀ (σ : cS) (k4 : Int32) (k5 : Int32) (H : Heap) (locs : List Loc) (ls : Array Slot), WB g A s.heap xIds ad (xE g ad q σ) H locs → lv_has ls 8 [(3, .int v3), (4, .int k4), (5, .int k5)] → K σ k4 k5 = some res → W p l e (rm_ 7 173) s m args below meth c H locs 0 0 Q (F0 m 119 ls [])) :
    ∀ (n : Nat) (σ : cS) (v4 : Int32) (v5 : Int32) (v6 : Int32) (H : Heap) (locs : List Loc) (ls : Array Slot), WB g A s.heap xIds ad (xE g ad q σ) H locs → lv_has ls 8 [(0, .ref (ad 999)), (1, .int v1), (2, .int v2), (3, .int v3), (4, .int v4), (5, .int v5), (6, .int v6)] → x_weigh_73 v1 v2 v3 K n σ v4 v5 v6 = some res → W p l e (rm_ 7 173) s m args below meth c H locs 0 0 Q (F0 m 73 ls []) := by
  have hx := X.1.1
  have hb := X.1.2.1
  intro n
  induction n with
  | zero =>
    intro σ v4 v5 v6 H locs ls hW hl hf
    rw [x_weigh_73] at hf
    cases hf
  | succ n ih =>
    intro σ v4 v5 v6 H locs ls hW hl hf
    rw [x_weigh_73] at hf
    refine lv_iload hx hb dX0_weigh_73 (lv_at hl 6 rfl) ?_
    refine lv_aload_n hx hb dX0_weigh_75 rfl (lv_at hl 0 rfl) ?_
    obtain ⟨z_17, hf⟩ := gd_e hf
    replace z_17 := nz_e z_17
    refine xg_0s X hW xm_999 z_17 dX0_weigh_76 ?_
    refine xg_1000 X hW xm_1999 dX0_weigh_79 ?_
    refine lv_icmp_ge (tgt := 119) hx hb dX0_weigh_82 (by decide) (fun c_18 => ?_) (fun c_18 => ?_)
    · replace hf := ip hf c_18
      exact hK _ _ _ _ _ _ hW (lv_sub hl [3, 4, 5] rfl) hf
    · replace hf := ine hf c_18
      refine lv_aload_n hx hb dX0_weigh_85 rfl (lv_at hl 0 rfl) ?_
      refine lv_iload hx hb dX0_weigh_86 (lv_at hl 6 rfl) ?_
      refine lv_iload_n hx hb dX0_weigh_88 rfl (lv_at hl 2 rfl) ?_
      refine lv_iload_n hx hb dX0_weigh_89 rfl (lv_at hl 1 rfl) ?_
      obtain ⟨⟨σ_21, r_20⟩, h_19, hf⟩ := bd_e hf
      refine kx_alikeAt X hW had h_19 (by decide) hl (Nat.le_of_ble_eq_true rfl) dX0_weigh_90 (fun H locs hW => ?_)
      refine lv_istore (lv' := [(7, .int r_20), (0, .ref (ad 999)), (1, .int v1), (2, .int v2), (3, .int v3), (4, .int v4), (5, .int v5), (6, .int v6)]) hx hb dX0_weigh_93 hl (by decide) rfl (fun ls hl => ?_)
      refine lv_iload hx hb dX0_weigh_95 (lv_at hl 0 rfl) ?_
      refine lv_iload hx hb dX0_weigh_97 (lv_at hl 6 rfl) ?_
      refine lv_icmp_lt (tgt := 105) hx hb dX0_weigh_99 (by decide) (fun c_22 => ?_) (fun c_22 => ?_)
      · replace hf := ip hf c_22
        refine lv_iload hx hb dX0_weigh_105 (lv_at hl 7 rfl) ?_
        refine lv_istore (lv' := [(4, .int v6), (7, .int r_20), (0, .ref (ad 999)), (1, .int v1), (2, .int v2), (3, .int v3), (5, .int v5), (6, .int v6)]) hx hb dX0_weigh_107 hl (by decide) rfl (fun ls hl => ?_)
        refine lv_iload hx hb dX0_weigh_109 (lv_at hl 1 rfl) ?_
        refine lv_istore (lv' := [(5, .int r_20), (4, .int v6), (7, .int r_20), (0, .ref (ad 999)), (1, .int v1), (2, .int v2), (3, .int v3), (6, .int v6)]) hx hb dX0_weigh_111 hl (by decide) rfl (fun ls hl => ?_)
        refine lv_iinc (v := (v6 + 1)) (lv' := [(6, .int (v6 + 1)), (5, .int r_20), (4, .int v6), (7, .int r_20), (0, .ref (ad 999)), (1, .int v1), (2, .int v2), (3, .int v3)]) hx hb dX0_weigh_113 hl (k := 7) rfl (ii_v _ _ _ (by decide)) (by decide) rfl (fun ls hl => ?_)
        refine lv_goto (tgt := 73) hx hb dX0_weigh_116 (by decide) ?_
        exact ih _ _ _ _ _ _ _ hW (lv_sub hl [4, 5, 6, 7, 2, 1, 0] rfl) hf
      · replace hf := ine hf c_22
        refine lv_goto (tgt := 113) hx hb dX0_weigh_102 (by decide) ?_
        refine lv_iinc (v := (v6 + 1)) (lv' := [(6, .int (v6 + 1)), (7, .int r_20), (0, .ref (ad 999)), (1, .int v1), (2, .int v2), (3, .int v3), (4, .int v4), (5, .int v5)]) hx hb dX0_weigh_113 hl (k := 7) rfl (ii_v _ _ _ (by decide)) (by decide) rfl (fun ls hl => ?_)
        refine lv_goto (tgt := 73) hx hb dX0_weigh_116 (by decide) ?_
        exact ih _ _ _ _ _ _ _ hW (lv_sub hl [2, 3, 4, 5, 6, 7, 0] rfl) hf
noncomputable def x_weigh (σ : cS) (v1 : Int32) (v2 : Int32) (v3 : Int32) : Option (cS × Int32) :=
  if (σ.1 999 0) = 0 then (some (σ, (-1))) else (((x_in v1.toInt64 1 99).bind fun r_3 => if r_3 = 0 then (some (σ, (-1))) else (((x_in v2.toInt64 0 30).bind fun r_6 => if r_6 = 0 then (some (σ, (-1))) else (((x_in v3.toInt64 0 1).bind fun r_9 => if r_9 = 0 then (some (σ, (-1))) else (((x_gathersThefts σ v1).bind fun σ_12 => if (σ_12.1 999 21) = 0 then (some (σ_12, (-2))) else (((x_alikeAt σ_12 0 v2 v1).bind fun (σ_16, r_15) => x_weigh_73 v1 v2 v3 (fun σ_23 v_24 v_25 => (if v3 = 0 then (some (σ_23, v_24)) else (some (σ_23, v_25)))) FU σ_16 0 r_15 1))))))))))
set_option maxHeartbeats 4000000 in
theorem wb_x_weigh {p : Program} {l : Launch} {e : Env} {s : State} {m : MethodId} {args : Array Value} {below : List Frame} {meth : Method} {c : Code} {g : gG} {A : Nat → Prop} {ad : Nat → Nat} {q : xR} (X : MX p s m args meth c cX0_weigh 8 RX0 (some .int) g A) (had : xI_ ad) {σr : cS} {r : Int32} {σ : cS} {v1 : Int32} {v2 : Int32} {v3 : Int32} {H : Heap} {locs : List Loc} {ls : Array Slot} (hW : WB g A s.heap xIds ad (xE g ad q σ) H locs) (hl : lv_has ls 8 [(0, .ref (ad 999)), (1, .int v1), (2, .int v2), (3, .int v3)]) (hf : x_weigh σ v1 v2 v3 = some (σr, r)) : W p l e (rm_ 7 173) s m args below meth c H locs 0 0 (Qm below g xIds ad (xE g ad q σr) (some (.int r)) A args s) (F0 m 0 ls []) := by
  have hx := X.1.1
  have hb := X.1.2.1
  unfold x_weigh at hf
  refine lv_aload_n hx hb dX0_weigh_0 rfl (lv_at hl 0 rfl) ?_
  refine xg_0 X hW xm_999 dX0_weigh_1 ?_
  by_cases c_1 : (σ.1 999 0) = 0
  · replace hf := ip hf c_1
    rw [dn_n c_1]
    refine lv_ifnullN (tgt := 41) hx hb dX0_weigh_4 (by decide) ?_
    refine lv_iconst (v := (-1)) hx hb dX0_weigh_41 (by decide) ?_
    exact x_iret X hW hf dX0_weigh_42
  · replace hf := ine hf c_1
    rw [dn_s c_1]
    refine lv_ifnull (x := ad 1999) hx hb dX0_weigh_4 ?_
    refine lv_iload_n hx hb dX0_weigh_7 rfl (lv_at hl 1 rfl) ?_
    refine lv_i2l (v := v1.toInt64) hx hb dX0_weigh_8 rfl ?_
    refine lv_lconst (v := 1) hx hb dX0_weigh_9 (by decide) ?_
    refine lv_ldc2 (v := 99) hx hb X.1.2.2.2.1 (X.1.2.2.2.2 _ q981) dX0_weigh_10 ?_
    obtain ⟨r_3, h_2, hf⟩ := bd_e hf
    refine kh_in X hW h_2 (by decide) hl (Nat.le_of_ble_eq_true rfl) dX0_weigh_13 (fun H locs hW => ?_)
    refine lv_if_eq (tgt := 41) hx hb dX0_weigh_16 (by decide) (fun c_4 => ?_) (fun c_4 => ?_)
    · replace hf := ip hf c_4
      refine lv_iconst (v := (-1)) hx hb dX0_weigh_41 (by decide) ?_
      exact x_iret X hW hf dX0_weigh_42
    · replace hf := ine hf c_4
      refine lv_iload_n hx hb dX0_weigh_19 rfl (lv_at hl 2 rfl) ?_
      refine lv_i2l (v := v2.toInt64) hx hb dX0_weigh_20 rfl ?_
      refine lv_lconst (v := 0) hx hb dX0_weigh_21 (by decide) ?_
      refine lv_ldc2 (v := 30) hx hb X.1.2.2.2.1 (X.1.2.2.2.2 _ q1034) dX0_weigh_22 ?_
      obtain ⟨r_6, h_5, hf⟩ := bd_e hf
      refine kh_in X hW h_5 (by decide) hl (Nat.le_of_ble_eq_true rfl) dX0_weigh_25 (fun H locs hW => ?_)
      refine lv_if_eq (tgt := 41) hx hb dX0_weigh_28 (by decide) (fun c_7 => ?_) (fun c_7 => ?_)
      · replace hf := ip hf c_7
        refine lv_iconst (v := (-1)) hx hb dX0_weigh_41 (by decide) ?_
        exact x_iret X hW hf dX0_weigh_42
      · replace hf := ine hf c_7
        refine lv_iload_n hx hb dX0_weigh_31 rfl (lv_at hl 3 rfl) ?_
        refine lv_i2l (v := v3.toInt64) hx hb dX0_weigh_32 rfl ?_
        refine lv_lconst (v := 0) hx hb dX0_weigh_33 (by decide) ?_
        refine lv_lconst (v := 1) hx hb dX0_weigh_34 (by decide) ?_
        obtain ⟨r_9, h_8, hf⟩ := bd_e hf
        refine kh_in X hW h_8 (by decide) hl (Nat.le_of_ble_eq_true rfl) dX0_weigh_35 (fun H locs hW => ?_)
        refine lv_if_ne (tgt := 43) hx hb dX0_weigh_38 (by decide) (fun c_10 => ?_) (fun c_10 => ?_)
        · replace hf := ine hf c_10
          refine lv_aload_n hx hb dX0_weigh_43 rfl (lv_at hl 0 rfl) ?_
          refine lv_iload_n hx hb dX0_weigh_44 rfl (lv_at hl 1 rfl) ?_
          obtain ⟨σ_12, h_11, hf⟩ := bd_e hf
          refine kx_gathersThefts X hW had h_11 (by decide) hl (Nat.le_of_ble_eq_true rfl) dX0_weigh_45 (fun H locs hW => ?_)
          refine lv_aload_n hx hb dX0_weigh_48 rfl (lv_at hl 0 rfl) ?_
          refine xg_21 X hW xm_999 dX0_weigh_49 ?_
          refine lv_if_ne (tgt := 58) hx hb dX0_weigh_52 (by decide) (fun c_13 => ?_) (fun c_13 => ?_)
          · replace hf := ine hf c_13
            refine lv_iconst (v := 0) hx hb dX0_weigh_58 (by decide) ?_
            refine lv_istore (lv' := [(4, .int 0), (0, .ref (ad 999)), (1, .int v1), (2, .int v2), (3, .int v3)]) hx hb dX0_weigh_59 hl (by decide) rfl (fun ls hl => ?_)
            refine lv_aload_n hx hb dX0_weigh_61 rfl (lv_at hl 1 rfl) ?_
            refine lv_iconst (v := 0) hx hb dX0_weigh_62 (by decide) ?_
            refine lv_iload_n hx hb dX0_weigh_63 rfl (lv_at hl 3 rfl) ?_
            refine lv_iload_n hx hb dX0_weigh_64 rfl (lv_at hl 2 rfl) ?_
            obtain ⟨⟨σ_16, r_15⟩, h_14, hf⟩ := bd_e hf
            refine kx_alikeAt X hW had h_14 (by decide) hl (Nat.le_of_ble_eq_true rfl) dX0_weigh_65 (fun H locs hW => ?_)
            refine lv_istore (lv' := [(5, .int r_15), (4, .int 0), (0, .ref (ad 999)), (1, .int v1), (2, .int v2), (3, .int v3)]) hx hb dX0_weigh_68 hl (by decide) rfl (fun ls hl => ?_)
            refine lv_iconst (v := 1) hx hb dX0_weigh_70 (by decide) ?_
            refine lv_istore (lv' := [(6, .int 1), (5, .int r_15), (4, .int 0), (0, .ref (ad 999)), (1, .int v1), (2, .int v2), (3, .int v3)]) hx hb dX0_weigh_71 hl (by decide) rfl (fun ls hl => ?_)
            refine wx_weigh_73 X had (fun σ_23 v_24 v_25 H locs ls hW hl hf => ?_) _ _ _ _ _ _ _ _ hW (lv_sub hl [3, 4, 5, 6, 2, 1, 0] rfl) hf
            refine lv_iload_n hx hb dX0_weigh_119 rfl (lv_at hl 0 rfl) ?_
            refine lv_if_ne (tgt := 128) hx hb dX0_weigh_120 (by decide) (fun c_26 => ?_) (fun c_26 => ?_)
            · replace hf := ine hf c_26
              refine lv_iload hx hb dX0_weigh_128 (lv_at hl 2 rfl) ?_
              exact x_iret X hW hf dX0_weigh_130
            · replace hf := ip hf c_26
              refine lv_iload hx hb dX0_weigh_123 (lv_at hl 1 rfl) ?_
              refine lv_goto (tgt := 130) hx hb dX0_weigh_125 (by decide) ?_
              exact x_iret X hW hf dX0_weigh_130
          · replace hf := ip hf c_13
            refine lv_bipush (v := (-2)) hx hb dX0_weigh_55 (by decide) ?_
            exact x_iret X hW hf dX0_weigh_57
        · replace hf := ip hf c_10
          refine lv_iconst (v := (-1)) hx hb dX0_weigh_41 (by decide) ?_
          exact x_iret X hW hf dX0_weigh_42
theorem w_x_weigh (l : Launch) {g : gG} {ad : Nat → Nat} {q : xR} (had : xI_ ad) {σr : cS} {r : Int32} {σ : cS} {v1 : Int32} {v2 : Int32} {v3 : Int32} (hf : x_weigh σ v1 v2 v3 = some (σr, r)) : MC l yX0_weigh cX0_weigh 8 (some .int) 7 173 g xIds ad (xE g ad q σ) (xE g ad q σr) [.ref (ad 999), .int v1, .int v2, .int v3] (some (.int r)) :=
  MC.of (by decide) xIds_nd had (Nat.le_of_ble_eq_true rfl) (fun p e s m below meth c A ls X hW hl => wb_x_weigh X had hW hl hf)
-- ownNights
noncomputable def x_ownNights_19 {ρ : Type} (rs : List RS) (v1 : Int32) (v2 : Int32) (v3 : Int32) (v4 : Int32) (K : cS → Int32 → Option ρ) : Nat → cS → Int32 → Int32 → Option ρ
  | 0, _, _, _ => none
  | n + 1, σ, v6, v7 => if v3 ≤ v7 then (K σ v6) else (((if v7 = v4 then (some ((si σ 2999 7 ((σ.1 2999 7) ||| (1 <<< (v1 &&& 31)))))) else (some (σ)) : Option (cS)).bind fun σ_5 => (((x_law σ_5 rs).bind fun R_8 => ((d_goes (vw σ_5 2000) R_8).bind fun (σ_11, r_10) => ((d_sideOf (vw (pb σ_5 2000 σ_11) 2000) v2).bind fun r_13 => gd (inb v2 8) (if r_13 = ((pb σ_5 2000 σ_11).1 2013 (ix v2)) then (x_ownNights_19 rs v1 v2 v3 v4 K n (pb σ_5 2000 σ_11) (v6 + 1) (v7 + 1)) else (x_ownNights_19 rs v1 v2 v3 v4 K n (pb σ_5 2000 σ_11) (v6 + 0) (v7 + 1)))))))))
set_option maxHeartbeats 4000000 in
theorem wx_ownNights_19 {p : Program} {l : Launch} {e : Env} {s : State} {m : MethodId} {args : Array Value} {below : List Frame} {meth : Method} {c : Code} {g : gG} {A : Nat → Prop} {ad : Nat → Nat} {q : xR} (X : MX p s m args meth c cX0_ownNights 8 RX0 (some .int) g A) (had : xI_ ad) {rs : List RS} (hrs : RSok q.1 g rs) {ρ : Type} {res : ρ} {Q : State → Prop} {v1 : Int32} {v2 : Int32} {v3 : Int32} {v4 : Int32}  {K : cS → Int32 → Option ρ}
    (hK : ∀ (σ : cS) (k6 : Int32) (H : Heap) (locs : List Loc) (ls : Array Slot), WB g A s.heap xIds ad (xE g ad q σ) H locs → lv_has ls 8 [(6, .int k6)] → K σ k6 = some res → W p l e (rm_ 407 16367) s m args below meth c H locs 0 0 Q (F0 m 87 ls [])) :
    ∀ (n : Nat) (σ : cS) (v6 : Int32) (v7 : Int32) (H : Heap) (locs : List Loc) (ls : Array Slot), WB g A s.heap xIds ad (xE g ad q σ) H locs → lv_has ls 8 [(0, .ref (ad 999)), (1, .int v1), (2, .int v2), (3, .int v3), (4, .int v4), (5, .ref (ad 2999)), (6, .int v6), (7, .int v7)] → x_ownNights_19 rs v1 v2 v3 v4 K n σ v6 v7 = some res → W p l e (rm_ 407 16367) s m args below meth c H locs 0 0 Q (F0 m 19 ls []) := by
  have hx := X.1.1
  have hb := X.1.2.1
  intro n
  induction n with
  | zero =>
    intro σ v6 v7 H locs ls hW hl hf
    rw [x_ownNights_19] at hf
    cases hf
  | succ n ih =>
    intro σ v6 v7 H locs ls hW hl hf
    rw [x_ownNights_19] at hf
    refine lv_iload hx hb dX0_ownNights_19 (lv_at hl 7 rfl) ?_
    refine lv_iload_n hx hb dX0_ownNights_21 rfl (lv_at hl 3 rfl) ?_
    refine lv_icmp_ge (tgt := 87) hx hb dX0_ownNights_22 (by decide) (fun c_4 => ?_) (fun c_4 => ?_)
    · replace hf := ip hf c_4
      exact hK _ _ _ _ _ hW (lv_sub hl [6] rfl) hf
    · replace hf := ine hf c_4
      refine lv_iload hx hb dX0_ownNights_25 (lv_at hl 7 rfl) ?_
      refine lv_iload hx hb dX0_ownNights_27 (lv_at hl 4 rfl) ?_
      obtain ⟨σ_5, hD_6, hf⟩ := bd_e hf
      have hJ : ∀ (H : Heap) (locs : List Loc) (ls : Array Slot), WB g A s.heap xIds ad (xE g ad q σ_5) H locs → lv_has ls 8 [(0, .ref (ad 999)), (1, .int v1), (2, .int v2), (3, .int v3), (4, .int v4), (5, .ref (ad 2999)), (6, .int v6), (7, .int v7)] → W p l e (rm_ 407 16367) s m args below meth c H locs 0 0 Q (F0 m 45 ls []) := by
        intro H locs ls hW hl
        refine lv_aload hx hb dX0_ownNights_45 (lv_at hl 5 rfl) ?_
        refine lv_aload_n hx hb dX0_ownNights_47 rfl (lv_at hl 0 rfl) ?_
        obtain ⟨R_8, h_7, hf⟩ := bd_e hf
        refine kx_law X hW had hrs h_7 (by decide) hl (Nat.le_of_ble_eq_true rfl) dX0_ownNights_48 (fun q_R_8 hq_R_8 H locs hW => ?_)
        obtain ⟨⟨σ_11, r_10⟩, h_9, hf⟩ := bd_e hf
        refine kx_goes X hW had (b := 2000) (by decide) hq_R_8 h_9 (by decide) hl (Nat.le_of_ble_eq_true rfl) dX0_ownNights_51 (fun H locs hW => ?_)
        refine lv_pop hx hb dX0_ownNights_54 rfl ?_
        refine lv_iload hx hb dX0_ownNights_55 (lv_at hl 6 rfl) ?_
        refine lv_aload hx hb dX0_ownNights_57 (lv_at hl 5 rfl) ?_
        refine lv_iload_n hx hb dX0_ownNights_59 rfl (lv_at hl 2 rfl) ?_
        obtain ⟨r_13, h_12, hf⟩ := bd_e hf
        refine kx_sideOf X hW had (b := 2000) (by decide) h_12 (by decide) hl (Nat.le_of_ble_eq_true rfl) dX0_ownNights_60 (fun H locs hW => ?_)
        refine lv_aload hx hb dX0_ownNights_63 (lv_at hl 5 rfl) ?_
        refine xg_2013 X hW xm_2999 dX0_ownNights_65 ?_
        refine lv_iload_n hx hb dX0_ownNights_68 rfl (lv_at hl 2 rfl) ?_
        obtain ⟨h_14, hf⟩ := gd_e hf
        refine xl_2013 X hW xm_2013 h_14 dX0_ownNights_69 ?_
        refine lv_icmp_ne (tgt := 77) hx hb dX0_ownNights_70 (by decide) (fun c_15 => ?_) (fun c_15 => ?_)
        · replace hf := ine hf c_15
          refine lv_iconst (v := 0) hx hb dX0_ownNights_77 (by decide) ?_
          refine lv_iadd hx hb dX0_ownNights_78 ?_
          refine lv_istore (lv' := [(6, .int (v6 + 0)), (0, .ref (ad 999)), (1, .int v1), (2, .int v2), (3, .int v3), (4, .int v4), (5, .ref (ad 2999)), (7, .int v7)]) hx hb dX0_ownNights_79 hl (by decide) rfl (fun ls hl => ?_)
          refine lv_iinc (v := (v7 + 1)) (lv' := [(7, .int (v7 + 1)), (6, .int (v6 + 0)), (0, .ref (ad 999)), (1, .int v1), (2, .int v2), (3, .int v3), (4, .int v4), (5, .ref (ad 2999))]) hx hb dX0_ownNights_81 hl (k := 7) rfl (ii_v _ _ _ (by decide)) (by decide) rfl (fun ls hl => ?_)
          refine lv_goto (tgt := 19) hx hb dX0_ownNights_84 (by decide) ?_
          exact ih _ _ _ _ _ _ hW (lv_sub hl [2, 3, 4, 5, 6, 7, 1, 0] rfl) hf
        · replace hf := ip hf c_15
          refine lv_iconst (v := 1) hx hb dX0_ownNights_73 (by decide) ?_
          refine lv_goto (tgt := 78) hx hb dX0_ownNights_74 (by decide) ?_
          refine lv_iadd hx hb dX0_ownNights_78 ?_
          refine lv_istore (lv' := [(6, .int (v6 + 1)), (0, .ref (ad 999)), (1, .int v1), (2, .int v2), (3, .int v3), (4, .int v4), (5, .ref (ad 2999)), (7, .int v7)]) hx hb dX0_ownNights_79 hl (by decide) rfl (fun ls hl => ?_)
          refine lv_iinc (v := (v7 + 1)) (lv' := [(7, .int (v7 + 1)), (6, .int (v6 + 1)), (0, .ref (ad 999)), (1, .int v1), (2, .int v2), (3, .int v3), (4, .int v4), (5, .ref (ad 2999))]) hx hb dX0_ownNights_81 hl (k := 7) rfl (ii_v _ _ _ (by decide)) (by decide) rfl (fun ls hl => ?_)
          refine lv_goto (tgt := 19) hx hb dX0_ownNights_84 (by decide) ?_
          exact ih _ _ _ _ _ _ hW (lv_sub hl [2, 3, 4, 5, 6, 7, 1, 0] rfl) hf
      clear hf
      refine lv_icmp_ne (tgt := 45) hx hb dX0_ownNights_29 (by decide) (fun c_16 => ?_) (fun c_16 => ?_)
      · replace hD_6 := ine hD_6 c_16
        cases hD_6
        exact hJ _ _ _ hW (lv_sub hl [0, 1, 2, 3, 4, 5, 6, 7] rfl)
      · replace hD_6 := ip hD_6 c_16
        refine lv_aload hx hb dX0_ownNights_32 (lv_at hl 5 rfl) ?_
        refine lv_dup hx hb dX0_ownNights_34 rfl ?_
        refine xg_2007 X hW xm_2999 dX0_ownNights_35 ?_
        refine lv_iconst (v := 1) hx hb dX0_ownNights_38 (by decide) ?_
        refine lv_iload_n hx hb dX0_ownNights_39 rfl (lv_at hl 1 rfl) ?_
        refine lv_ishl hx hb dX0_ownNights_40 ?_
        refine lv_ior hx hb dX0_ownNights_41 ?_
        refine xp_2007 X hW xm_2999 dX0_ownNights_42 (fun H locs hW => ?_)
        cases hD_6
        exact hJ _ _ _ hW (lv_sub hl [0, 1, 2, 3, 4, 5, 6, 7] rfl)
noncomputable def x_ownNights (σ : cS) (rs : List RS) (v1 : Int32) (v2 : Int32) (v3 : Int32) (v4 : Int32) : Option (cS × Int32) :=
  gd (nz (σ.1 999 0)) (((d_copies (vw2 σ 2000 1000)).bind fun σ_3 => x_ownNights_19 rs v1 v2 v3 v4 (fun σ_17 v_18 => (some (σ_17, v_18))) FU (pb2 σ 2000 1000 σ_3) 0 0))
set_option maxHeartbeats 4000000 in
theorem wb_x_ownNights {p : Program} {l : Launch} {e : Env} {s : State} {m : MethodId} {args : Array Value} {below : List Frame} {meth : Method} {c : Code} {g : gG} {A : Nat → Prop} {ad : Nat → Nat} {q : xR} (X : MX p s m args meth c cX0_ownNights 8 RX0 (some .int) g A) (had : xI_ ad) {rs : List RS} (hrs : RSok q.1 g rs) {σr : cS} {r : Int32} {σ : cS} {v1 : Int32} {v2 : Int32} {v3 : Int32} {v4 : Int32} {H : Heap} {locs : List Loc} {ls : Array Slot} (hW : WB g A s.heap xIds ad (xE g ad q σ) H locs) (hl : lv_has ls 8 [(0, .ref (ad 999)), (1, .int v1), (2, .int v2), (3, .int v3), (4, .int v4)]) (hf : x_ownNights σ rs v1 v2 v3 v4 = some (σr, r)) : W p l e (rm_ 407 16367) s m args below meth c H locs 0 0 (Qm below g xIds ad (xE g ad q σr) (some (.int r)) A args s) (F0 m 0 ls []) := by
  have hx := X.1.1
  have hb := X.1.2.1
  unfold x_ownNights at hf
  refine lv_aload_n hx hb dX0_ownNights_0 rfl (lv_at hl 0 rfl) ?_
  refine xg_2 X hW xm_999 dX0_ownNights_1 ?_
  refine lv_aload_n hx hb dX0_ownNights_4 rfl (lv_at hl 0 rfl) ?_
  obtain ⟨z_1, hf⟩ := gd_e hf
  replace z_1 := nz_e z_1
  refine xg_0s X hW xm_999 z_1 dX0_ownNights_5 ?_
  obtain ⟨σ_3, h_2, hf⟩ := bd_e hf
  refine kx_copies X hW had (b := 2000) (c2 := 1000) (by decide) (by decide) (by decide) h_2 (by decide) hl (Nat.le_of_ble_eq_true rfl) dX0_ownNights_8 (fun H locs hW => ?_)
  refine lv_astore (lv' := [(5, .ref (ad 2999)), (0, .ref (ad 999)), (1, .int v1), (2, .int v2), (3, .int v3), (4, .int v4)]) hx hb dX0_ownNights_11 hl (by decide) rfl (fun ls hl => ?_)
  refine lv_iconst (v := 0) hx hb dX0_ownNights_13 (by decide) ?_
  refine lv_istore (lv' := [(6, .int 0), (5, .ref (ad 2999)), (0, .ref (ad 999)), (1, .int v1), (2, .int v2), (3, .int v3), (4, .int v4)]) hx hb dX0_ownNights_14 hl (by decide) rfl (fun ls hl => ?_)
  refine lv_iconst (v := 0) hx hb dX0_ownNights_16 (by decide) ?_
  refine lv_istore (lv' := [(7, .int 0), (6, .int 0), (5, .ref (ad 2999)), (0, .ref (ad 999)), (1, .int v1), (2, .int v2), (3, .int v3), (4, .int v4)]) hx hb dX0_ownNights_17 hl (by decide) rfl (fun ls hl => ?_)
  refine wx_ownNights_19 X had hrs (fun σ_17 v_18 H locs ls hW hl hf => ?_) _ _ _ _ _ _ _ hW (lv_sub hl [3, 4, 5, 6, 7, 2, 1, 0] rfl) hf
  refine lv_iload hx hb dX0_ownNights_87 (lv_at hl 0 rfl) ?_
  exact x_iret X hW hf dX0_ownNights_89
theorem w_x_ownNights (l : Launch) {g : gG} {ad : Nat → Nat} {q : xR} (had : xI_ ad) {rs : List RS} (hrs : RSok q.1 g rs) {σr : cS} {r : Int32} {σ : cS} {v1 : Int32} {v2 : Int32} {v3 : Int32} {v4 : Int32} (hf : x_ownNights σ rs v1 v2 v3 v4 = some (σr, r)) : MC l yX0_ownNights cX0_ownNights 8 (some .int) 407 16367 g xIds ad (xE g ad q σ) (xE g ad q σr) [.ref (ad 999), .int v1, .int v2, .int v3, .int v4] (some (.int r)) :=
  MC.of (by decide) xIds_nd had (Nat.le_of_ble_eq_true rfl) (fun p e s m below meth c A ls X hW hl => wb_x_ownNights X had hrs hW hl hf)
theorem kx_ownNights {p : Program} {l : Launch} {e : Env} {R : Room} {s : State} {m : MethodId} {args : Array Value} {below : List Frame} {meth : Method} {c : Code} {H : Heap} {locs : List Loc} {Q : State → Prop} {cc : ByteArray} {nL : Nat} {ret : Option FieldType} {g : gG} {A : Nat → Prop} {ad : Nat → Nat} {q : xR} {pc : Nat} {ls : Array Slot} {rest : List Value} {lv : List (Nat × Value)} {σr : cS} {r : Int32} {σ : cS} {v1 : Int32} {v2 : Int32} {v3 : Int32} {v4 : Int32} (X : MX p s m args meth c cc nL RX0 ret g A) (hW : WB g A s.heap xIds ad (xE g ad q σ) H locs) (had : xI_ ad) {rs : List RS} (hrs : RSok q.1 g rs) (hf : x_ownNights σ rs v1 v2 v3 v4 = some (σr, r)) (hR : 408 ≤ R.frames ∧ 16394 ≤ R.locals) (hl : lv_has ls nL lv) (hcat : (rest.map fun v => v.category).sum ≤ 8) (hdg : decode cc pc = .ok (.invokevirtual 327, 3)) (kk : ∀ (H1 : Heap) (l1 : List Loc), WB g A s.heap xIds ad (xE g ad q σr) H1 l1 → W p l e R s m args below meth c H1 l1 0 0 Q (F0 m (pc + 3) ls (.int r :: rest))) : W p l e R s m args below meth c H locs 0 0 Q (F0 m pc ls (.int v4 :: .int v3 :: .int v2 :: .int v1 :: .ref (ad 999) :: rest)) :=
  r_callV X hW Sub.all (w_x_ownNights l had hrs hf) (lw_V q1065 q1067 qs43 q120 q1068) ⟨rfl, by decide, by decide, by decide +kernel⟩ xm_999 rfl rfl (n := 4) hR hl rfl rfl hcat ⟨Nat.zero_le _, Nat.zero_le _⟩ hdg kk
-- crust
noncomputable def x_crust_60 {ρ : Type} (rs : List RS) (v1 : Int32) (v2 : Int32) (v3 : Int32) (v4 : Int32) (K : cS → Int32 → Int32 → Option ρ) : Nat → cS → Int32 → Int32 → Int32 → Option ρ
  | 0, _, _, _, _ => none
  | n + 1, σ, v5, v6, v7 => if v7 < 0 then (K σ v5 v6) else (gd (nz (σ.1 999 0)) (((d_isBaked (vw σ 1000) v1).bind fun r_19 => if r_19 = 0 then (((x_ownNights σ rs v1 v2 v3 v7).bind fun (σ_23, r_22) => if v6 < r_22 then (x_crust_60 rs v1 v2 v3 v4 K n σ_23 v7 r_22 (v7 + (-1))) else (x_crust_60 rs v1 v2 v3 v4 K n σ_23 v5 v6 (v7 + (-1))))) else (K σ v5 v6))))
set_option maxHeartbeats 4000000 in
theorem wx_crust_60 {p : Program} {l : Launch} {e : Env} {s : State} {m : MethodId} {args : Array Value} {below : List Frame} {meth : Method} {c : Code} {g : gG} {A : Nat → Prop} {ad : Nat → Nat} {q : xR} (X : MX p s m args meth c cX0_crust 9 RX0 (some .int) g A) (had : xI_ ad) {rs : List RS} (hrs : RSok q.1 g rs) {ρ : Type} {res : ρ} {Q : State → Prop} {v1 : Int32} {v2 : Int32} {v3 : Int32} {v4 : Int32}  {K : cS → Int32 → Int32 → Option ρ}
    (hK : ∀ (σ : cS) (k5 : Int32) (k6 : Int32) (H : Heap) (locs : List Loc) (ls : Array Slot), WB g A s.heap xIds ad (xE g ad q σ) H locs → lv_has ls 9 [(0, .ref (ad 999)), (4, .int v4), (5, .int k5), (6, .int k6)] → K σ k5 k6 = some res → W p l e (rm_ 408 16394) s m args below meth c H locs 0 0 Q (F0 m 111 ls [])) :
    ∀ (n : Nat) (σ : cS) (v5 : Int32) (v6 : Int32) (v7 : Int32) (H : Heap) (locs : List Loc) (ls : Array Slot), WB g A s.heap xIds ad (xE g ad q σ) H locs → lv_has ls 9 [(0, .ref (ad 999)), (1, .int v1), (2, .int v2), (3, .int v3), (4, .int v4), (5, .int v5), (6, .int v6), (7, .int v7)] → x_crust_60 rs v1 v2 v3 v4 K n σ v5 v6 v7 = some res → W p l e (rm_ 408 16394) s m args below meth c H locs 0 0 Q (F0 m 60 ls []) := by
  have hx := X.1.1
  have hb := X.1.2.1
  intro n
  induction n with
  | zero =>
    intro σ v5 v6 v7 H locs ls hW hl hf
    rw [x_crust_60] at hf
    cases hf
  | succ n ih =>
    intro σ v5 v6 v7 H locs ls hW hl hf
    rw [x_crust_60] at hf
    refine lv_iload hx hb dX0_crust_60 (lv_at hl 7 rfl) ?_
    refine lv_if_lt (tgt := 111) hx hb dX0_crust_62 (by decide) (fun c_16 => ?_) (fun c_16 => ?_)
    · replace hf := ip hf c_16
      exact hK _ _ _ _ _ _ hW (lv_sub hl [0, 4, 5, 6] rfl) hf
    · replace hf := ine hf c_16
      refine lv_aload_n hx hb dX0_crust_65 rfl (lv_at hl 0 rfl) ?_
      obtain ⟨z_17, hf⟩ := gd_e hf
      replace z_17 := nz_e z_17
      refine xg_0s X hW xm_999 z_17 dX0_crust_66 ?_
      refine lv_iload_n hx hb dX0_crust_69 rfl (lv_at hl 1 rfl) ?_
      obtain ⟨r_19, h_18, hf⟩ := bd_e hf
      refine kx_isBaked X hW had (b := 1000) (by decide) h_18 (by decide) hl (Nat.le_of_ble_eq_true rfl) dX0_crust_70 (fun H locs hW => ?_)
      refine lv_if_ne (tgt := 111) hx hb dX0_crust_73 (by decide) (fun c_20 => ?_) (fun c_20 => ?_)
      · replace hf := ine hf c_20
        exact hK _ _ _ _ _ _ hW (lv_sub hl [0, 4, 5, 6] rfl) hf
      · replace hf := ip hf c_20
        refine lv_aload_n hx hb dX0_crust_76 rfl (lv_at hl 0 rfl) ?_
        refine lv_iload_n hx hb dX0_crust_77 rfl (lv_at hl 1 rfl) ?_
        refine lv_iload_n hx hb dX0_crust_78 rfl (lv_at hl 2 rfl) ?_
        refine lv_iload_n hx hb dX0_crust_79 rfl (lv_at hl 3 rfl) ?_
        refine lv_iload hx hb dX0_crust_80 (lv_at hl 7 rfl) ?_
        obtain ⟨⟨σ_23, r_22⟩, h_21, hf⟩ := bd_e hf
        refine kx_ownNights X hW had hrs h_21 (by decide) hl (Nat.le_of_ble_eq_true rfl) dX0_crust_82 (fun H locs hW => ?_)
        refine lv_istore (lv' := [(8, .int r_22), (0, .ref (ad 999)), (1, .int v1), (2, .int v2), (3, .int v3), (4, .int v4), (5, .int v5), (6, .int v6), (7, .int v7)]) hx hb dX0_crust_85 hl (by decide) rfl (fun ls hl => ?_)
        refine lv_iload hx hb dX0_crust_87 (lv_at hl 0 rfl) ?_
        refine lv_iload hx hb dX0_crust_89 (lv_at hl 7 rfl) ?_
        refine lv_icmp_gt (tgt := 97) hx hb dX0_crust_91 (by decide) (fun c_24 => ?_) (fun c_24 => ?_)
        · replace hf := ip hf c_24
          refine lv_iload hx hb dX0_crust_97 (lv_at hl 8 rfl) ?_
          refine lv_istore (lv' := [(5, .int v7), (8, .int r_22), (0, .ref (ad 999)), (1, .int v1), (2, .int v2), (3, .int v3), (4, .int v4), (6, .int v6), (7, .int v7)]) hx hb dX0_crust_99 hl (by decide) rfl (fun ls hl => ?_)
          refine lv_iload hx hb dX0_crust_101 (lv_at hl 1 rfl) ?_
          refine lv_istore (lv' := [(6, .int r_22), (5, .int v7), (8, .int r_22), (0, .ref (ad 999)), (1, .int v1), (2, .int v2), (3, .int v3), (4, .int v4), (7, .int v7)]) hx hb dX0_crust_103 hl (by decide) rfl (fun ls hl => ?_)
          refine lv_iinc (v := (v7 + (-1))) (lv' := [(7, .int (v7 + (-1))), (6, .int r_22), (5, .int v7), (8, .int r_22), (0, .ref (ad 999)), (1, .int v1), (2, .int v2), (3, .int v3), (4, .int v4)]) hx hb dX0_crust_105 hl (k := 8) rfl (ii_v _ _ _ (by decide)) (by decide) rfl (fun ls hl => ?_)
          refine lv_goto (tgt := 60) hx hb dX0_crust_108 (by decide) ?_
          exact ih _ _ _ _ _ _ _ hW (lv_sub hl [4, 5, 6, 7, 8, 2, 1, 0] rfl) hf
        · replace hf := ine hf c_24
          refine lv_goto (tgt := 105) hx hb dX0_crust_94 (by decide) ?_
          refine lv_iinc (v := (v7 + (-1))) (lv' := [(7, .int (v7 + (-1))), (8, .int r_22), (0, .ref (ad 999)), (1, .int v1), (2, .int v2), (3, .int v3), (4, .int v4), (5, .int v5), (6, .int v6)]) hx hb dX0_crust_105 hl (k := 8) rfl (ii_v _ _ _ (by decide)) (by decide) rfl (fun ls hl => ?_)
          refine lv_goto (tgt := 60) hx hb dX0_crust_108 (by decide) ?_
          exact ih _ _ _ _ _ _ _ hW (lv_sub hl [2, 3, 4, 5, 6, 7, 8, 0] rfl) hf
noncomputable def x_crust (σ : cS) (rs : List RS) (v1 : Int32) (v2 : Int32) (v3 : Int32) (v4 : Int32) : Option (cS × Int32) :=
  ((x_isMile σ v1).bind fun r_2 => if r_2 = 0 then (some (σ, (-2))) else (((x_isVillage σ v2).bind fun r_5 => if r_5 = 0 then (some (σ, (-2))) else (((x_in v3.toInt64 1 60).bind fun r_8 => if r_8 = 0 then (some (σ, (-2))) else (((x_in v4.toInt64 0 1).bind fun r_11 => if r_11 = 0 then (some (σ, (-2))) else (((x_ownNights σ rs v1 v2 v3 (-1)).bind fun (σ_15, r_14) => x_crust_60 rs v1 v2 v3 v4 (fun σ_25 v_26 v_27 => (if v4 = 1 then (some (σ_25, v_27)) else (if v_26 = (-1) then (some (σ_25, (-1))) else (gd (nz (σ_25.1 999 0)) (some (σ_25, ((σ_25.1 1999 8) + v_26))))))) FU σ_15 (-1) r_14 (v3 - 1))))))))))
set_option maxHeartbeats 4000000 in
theorem wb_x_crust {p : Program} {l : Launch} {e : Env} {s : State} {m : MethodId} {args : Array Value} {below : List Frame} {meth : Method} {c : Code} {g : gG} {A : Nat → Prop} {ad : Nat → Nat} {q : xR} (X : MX p s m args meth c cX0_crust 9 RX0 (some .int) g A) (had : xI_ ad) {rs : List RS} (hrs : RSok q.1 g rs) {σr : cS} {r : Int32} {σ : cS} {v1 : Int32} {v2 : Int32} {v3 : Int32} {v4 : Int32} {H : Heap} {locs : List Loc} {ls : Array Slot} (hW : WB g A s.heap xIds ad (xE g ad q σ) H locs) (hl : lv_has ls 9 [(0, .ref (ad 999)), (1, .int v1), (2, .int v2), (3, .int v3), (4, .int v4)]) (hf : x_crust σ rs v1 v2 v3 v4 = some (σr, r)) : W p l e (rm_ 408 16394) s m args below meth c H locs 0 0 (Qm below g xIds ad (xE g ad q σr) (some (.int r)) A args s) (F0 m 0 ls []) := by
  have hx := X.1.1
  have hb := X.1.2.1
  unfold x_crust at hf
  refine lv_aload_n hx hb dX0_crust_0 rfl (lv_at hl 0 rfl) ?_
  refine lv_iload_n hx hb dX0_crust_1 rfl (lv_at hl 1 rfl) ?_
  obtain ⟨r_2, h_1, hf⟩ := bd_e hf
  refine kx_isMile X hW had h_1 (by decide) hl (Nat.le_of_ble_eq_true rfl) dX0_crust_2 (fun H locs hW => ?_)
  refine lv_if_eq (tgt := 39) hx hb dX0_crust_5 (by decide) (fun c_3 => ?_) (fun c_3 => ?_)
  · replace hf := ip hf c_3
    refine lv_bipush (v := (-2)) hx hb dX0_crust_39 (by decide) ?_
    exact x_iret X hW hf dX0_crust_41
  · replace hf := ine hf c_3
    refine lv_aload_n hx hb dX0_crust_8 rfl (lv_at hl 0 rfl) ?_
    refine lv_iload_n hx hb dX0_crust_9 rfl (lv_at hl 2 rfl) ?_
    obtain ⟨r_5, h_4, hf⟩ := bd_e hf
    refine kx_isVillage X hW had h_4 (by decide) hl (Nat.le_of_ble_eq_true rfl) dX0_crust_10 (fun H locs hW => ?_)
    refine lv_if_eq (tgt := 39) hx hb dX0_crust_13 (by decide) (fun c_6 => ?_) (fun c_6 => ?_)
    · replace hf := ip hf c_6
      refine lv_bipush (v := (-2)) hx hb dX0_crust_39 (by decide) ?_
      exact x_iret X hW hf dX0_crust_41
    · replace hf := ine hf c_6
      refine lv_iload_n hx hb dX0_crust_16 rfl (lv_at hl 3 rfl) ?_
      refine lv_i2l (v := v3.toInt64) hx hb dX0_crust_17 rfl ?_
      refine lv_lconst (v := 1) hx hb dX0_crust_18 (by decide) ?_
      refine lv_ldc2 (v := 60) hx hb X.1.2.2.2.1 (X.1.2.2.2.2 _ q1064) dX0_crust_19 ?_
      obtain ⟨r_8, h_7, hf⟩ := bd_e hf
      refine kh_in X hW h_7 (by decide) hl (Nat.le_of_ble_eq_true rfl) dX0_crust_22 (fun H locs hW => ?_)
      refine lv_if_eq (tgt := 39) hx hb dX0_crust_25 (by decide) (fun c_9 => ?_) (fun c_9 => ?_)
      · replace hf := ip hf c_9
        refine lv_bipush (v := (-2)) hx hb dX0_crust_39 (by decide) ?_
        exact x_iret X hW hf dX0_crust_41
      · replace hf := ine hf c_9
        refine lv_iload hx hb dX0_crust_28 (lv_at hl 4 rfl) ?_
        refine lv_i2l (v := v4.toInt64) hx hb dX0_crust_30 rfl ?_
        refine lv_lconst (v := 0) hx hb dX0_crust_31 (by decide) ?_
        refine lv_lconst (v := 1) hx hb dX0_crust_32 (by decide) ?_
        obtain ⟨r_11, h_10, hf⟩ := bd_e hf
        refine kh_in X hW h_10 (by decide) hl (Nat.le_of_ble_eq_true rfl) dX0_crust_33 (fun H locs hW => ?_)
        refine lv_if_ne (tgt := 42) hx hb dX0_crust_36 (by decide) (fun c_12 => ?_) (fun c_12 => ?_)
        · replace hf := ine hf c_12
          refine lv_iconst (v := (-1)) hx hb dX0_crust_42 (by decide) ?_
          refine lv_istore (lv' := [(5, .int (-1)), (0, .ref (ad 999)), (1, .int v1), (2, .int v2), (3, .int v3), (4, .int v4)]) hx hb dX0_crust_43 hl (by decide) rfl (fun ls hl => ?_)
          refine lv_aload_n hx hb dX0_crust_45 rfl (lv_at hl 1 rfl) ?_
          refine lv_iload_n hx hb dX0_crust_46 rfl (lv_at hl 2 rfl) ?_
          refine lv_iload_n hx hb dX0_crust_47 rfl (lv_at hl 3 rfl) ?_
          refine lv_iload_n hx hb dX0_crust_48 rfl (lv_at hl 4 rfl) ?_
          refine lv_iconst (v := (-1)) hx hb dX0_crust_49 (by decide) ?_
          obtain ⟨⟨σ_15, r_14⟩, h_13, hf⟩ := bd_e hf
          refine kx_ownNights X hW had hrs h_13 (by decide) hl (Nat.le_of_ble_eq_true rfl) dX0_crust_50 (fun H locs hW => ?_)
          refine lv_istore (lv' := [(6, .int r_14), (5, .int (-1)), (0, .ref (ad 999)), (1, .int v1), (2, .int v2), (3, .int v3), (4, .int v4)]) hx hb dX0_crust_53 hl (by decide) rfl (fun ls hl => ?_)
          refine lv_iload_n hx hb dX0_crust_55 rfl (lv_at hl 5 rfl) ?_
          refine lv_iconst (v := 1) hx hb dX0_crust_56 (by decide) ?_
          refine lv_isub hx hb dX0_crust_57 ?_
          refine lv_istore (lv' := [(7, .int (v3 - 1)), (6, .int r_14), (5, .int (-1)), (0, .ref (ad 999)), (1, .int v1), (2, .int v2), (3, .int v3), (4, .int v4)]) hx hb dX0_crust_58 hl (by decide) rfl (fun ls hl => ?_)
          refine wx_crust_60 X had hrs (fun σ_25 v_26 v_27 H locs ls hW hl hf => ?_) _ _ _ _ _ _ _ _ hW (lv_sub hl [3, 4, 5, 6, 7, 2, 1, 0] rfl) hf
          refine lv_iload hx hb dX0_crust_111 (lv_at hl 1 rfl) ?_
          refine lv_iconst (v := 1) hx hb dX0_crust_113 (by decide) ?_
          refine lv_icmp_ne (tgt := 122) hx hb dX0_crust_114 (by decide) (fun c_28 => ?_) (fun c_28 => ?_)
          · replace hf := ine hf c_28
            refine lv_iload hx hb dX0_crust_122 (lv_at hl 2 rfl) ?_
            refine lv_iconst (v := (-1)) hx hb dX0_crust_124 (by decide) ?_
            refine lv_icmp_ne (tgt := 132) hx hb dX0_crust_125 (by decide) (fun c_29 => ?_) (fun c_29 => ?_)
            · replace hf := ine hf c_29
              refine lv_aload_n hx hb dX0_crust_132 rfl (lv_at hl 0 rfl) ?_
              obtain ⟨z_30, hf⟩ := gd_e hf
              replace z_30 := nz_e z_30
              refine xg_0s X hW xm_999 z_30 dX0_crust_133 ?_
              refine xg_1008 X hW xm_1999 dX0_crust_136 ?_
              refine lv_iload hx hb dX0_crust_139 (lv_at hl 2 rfl) ?_
              refine lv_iadd hx hb dX0_crust_141 ?_
              exact x_iret X hW hf dX0_crust_142
            · replace hf := ip hf c_29
              refine lv_iconst (v := (-1)) hx hb dX0_crust_128 (by decide) ?_
              refine lv_goto (tgt := 142) hx hb dX0_crust_129 (by decide) ?_
              exact x_iret X hW hf dX0_crust_142
          · replace hf := ip hf c_28
            refine lv_iload hx hb dX0_crust_117 (lv_at hl 3 rfl) ?_
            refine lv_goto (tgt := 142) hx hb dX0_crust_119 (by decide) ?_
            exact x_iret X hW hf dX0_crust_142
        · replace hf := ip hf c_12
          refine lv_bipush (v := (-2)) hx hb dX0_crust_39 (by decide) ?_
          exact x_iret X hW hf dX0_crust_41
theorem w_x_crust (l : Launch) {g : gG} {ad : Nat → Nat} {q : xR} (had : xI_ ad) {rs : List RS} (hrs : RSok q.1 g rs) {σr : cS} {r : Int32} {σ : cS} {v1 : Int32} {v2 : Int32} {v3 : Int32} {v4 : Int32} (hf : x_crust σ rs v1 v2 v3 v4 = some (σr, r)) : MC l yX0_crust cX0_crust 9 (some .int) 408 16394 g xIds ad (xE g ad q σ) (xE g ad q σr) [.ref (ad 999), .int v1, .int v2, .int v3, .int v4] (some (.int r)) :=
  MC.of (by decide) xIds_nd had (Nat.le_of_ble_eq_true rfl) (fun p e s m below meth c A ls X hW hl => wb_x_crust X had hrs hW hl hf)
