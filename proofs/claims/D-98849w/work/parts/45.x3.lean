set_option maxRecDepth 100000
-- isPeace
noncomputable def x_isPeace_25 (rs : List RS) (v2 : Int32) (K : cS → Option (cS × Int32)) : Nat → cS → Int32 → Option (cS × Int32)
  | 0, _, _ => none
  | n + 1, σ, v4 => if v2 ≤ v4 then (K σ) else (((x_law σ rs).bind fun R_8 => ((d_goes (vw σ 2000) R_8).bind fun (σ_11, r_10) => if r_10 ≤ 0 then (x_isPeace_25 rs v2 K n (pb σ 2000 σ_11) (v4 + 1)) else (some ((pb σ 2000 σ_11), 0)))))
set_option maxHeartbeats 4000000 in
theorem wx_isPeace_25 {p : Program} {l : Launch} {e : Env} {s : State} {m : MethodId} {args : Array Value} {below : List Frame} {meth : Method} {c : Code} {g : gG} {A : Nat → Prop} {ad : Nat → Nat} {q : xR} (X : MX p s m args meth c cX0_isPeace 5 RX0 (some .boolean) g A) (had : xI_ ad) {rs : List RS} (hrs : RSok q.1 g rs) {σr : cS} {r : Int32} {v2 : Int32}  {K : cS → Option (cS × Int32)}
    (hK : ∀ (σ : cS) (H : Heap) (locs : List Loc) (ls : Array Slot), WB g A s.heap xIds ad (xE g ad q σ) H locs → lv_has ls 5 [] → K σ = some (σr, r) → W p l e (rm_ 407 16367) s m args below meth c H locs 0 0 (Qm below g xIds ad (xE g ad q σr) (some (.int r)) A args s) (F0 m 50 ls [])) :
    ∀ (n : Nat) (σ : cS) (v4 : Int32) (H : Heap) (locs : List Loc) (ls : Array Slot), WB g A s.heap xIds ad (xE g ad q σ) H locs → lv_has ls 5 [(0, .ref (ad 999)), (2, .int v2), (3, .ref (ad 2999)), (4, .int v4)] → x_isPeace_25 rs v2 K n σ v4 = some (σr, r) → W p l e (rm_ 407 16367) s m args below meth c H locs 0 0 (Qm below g xIds ad (xE g ad q σr) (some (.int r)) A args s) (F0 m 25 ls []) := by
  have hx := X.1.1
  have hb := X.1.2.1
  intro n
  induction n with
  | zero =>
    intro σ v4 H locs ls hW hl hf
    rw [x_isPeace_25] at hf
    cases hf
  | succ n ih =>
    intro σ v4 H locs ls hW hl hf
    rw [x_isPeace_25] at hf
    refine lv_iload hx hb dX0_isPeace_25 (lv_at hl 3 rfl) ?_
    refine lv_iload_n hx hb dX0_isPeace_27 rfl (lv_at hl 1 rfl) ?_
    refine lv_icmp_ge (tgt := 50) hx hb dX0_isPeace_28 (by decide) (fun c_6 => ?_) (fun c_6 => ?_)
    · replace hf := ip hf c_6
      exact hK _ _ _ _ hW (lv_sub hl [] rfl) hf
    · replace hf := ine hf c_6
      refine lv_aload_n hx hb dX0_isPeace_31 rfl (lv_at hl 2 rfl) ?_
      refine lv_aload_n hx hb dX0_isPeace_32 rfl (lv_at hl 0 rfl) ?_
      obtain ⟨R_8, h_7, hf⟩ := bd_e hf
      refine kx_law X hW had hrs h_7 (by decide) hl (Nat.le_of_ble_eq_true rfl) dX0_isPeace_33 (fun q_R_8 hq_R_8 H locs hW => ?_)
      obtain ⟨⟨σ_11, r_10⟩, h_9, hf⟩ := bd_e hf
      refine kx_goes X hW had (b := 2000) (by decide) hq_R_8 h_9 (by decide) hl (Nat.le_of_ble_eq_true rfl) dX0_isPeace_36 (fun H locs hW => ?_)
      refine lv_if_le (tgt := 44) hx hb dX0_isPeace_39 (by decide) (fun c_12 => ?_) (fun c_12 => ?_)
      · replace hf := ip hf c_12
        refine lv_iinc (v := (v4 + 1)) (lv' := [(4, .int (v4 + 1)), (0, .ref (ad 999)), (2, .int v2), (3, .ref (ad 2999))]) hx hb dX0_isPeace_44 hl (k := 3) rfl (ii_v _ _ _ (by decide)) (by decide) rfl (fun ls hl => ?_)
        refine lv_goto (tgt := 25) hx hb dX0_isPeace_47 (by decide) ?_
        exact ih _ _ _ _ _ hW (lv_sub hl [1, 2, 3, 0] rfl) hf
      · replace hf := ine hf c_12
        refine lv_iconst (v := 0) hx hb dX0_isPeace_42 (by decide) ?_
        exact x_zret X hW hf (by decide) dX0_isPeace_43
noncomputable def x_isPeace (σ : cS) (rs : List RS) (v1 : Int32) (v2 : Int32) : Option (cS × Int32) :=
  gd (nz (σ.1 999 0)) (((d_copies (vw2 σ 2000 1000)).bind fun σ_3 => nmb (pb2 σ 2000 1000 σ_3) fun σ_4 => (x_isPeace_25 rs v2 (fun σ_13 => (some (σ_13, 1))) FU (si σ_4 2999 7 (((pb2 σ 2000 1000 σ_3).1 2999 7) ||| v1)) 0)))
set_option maxHeartbeats 4000000 in
theorem wb_x_isPeace {p : Program} {l : Launch} {e : Env} {s : State} {m : MethodId} {args : Array Value} {below : List Frame} {meth : Method} {c : Code} {g : gG} {A : Nat → Prop} {ad : Nat → Nat} {q : xR} (X : MX p s m args meth c cX0_isPeace 5 RX0 (some .boolean) g A) (had : xI_ ad) {rs : List RS} (hrs : RSok q.1 g rs) {σr : cS} {r : Int32} {σ : cS} {v1 : Int32} {v2 : Int32} {H : Heap} {locs : List Loc} {ls : Array Slot} (hW : WB g A s.heap xIds ad (xE g ad q σ) H locs) (hl : lv_has ls 5 [(0, .ref (ad 999)), (1, .int v1), (2, .int v2)]) (hf : x_isPeace σ rs v1 v2 = some (σr, r)) : W p l e (rm_ 407 16367) s m args below meth c H locs 0 0 (Qm below g xIds ad (xE g ad q σr) (some (.int r)) A args s) (F0 m 0 ls []) := by
  have hx := X.1.1
  have hb := X.1.2.1
  unfold x_isPeace at hf
  refine lv_aload_n hx hb dX0_isPeace_0 rfl (lv_at hl 0 rfl) ?_
  refine xg_2 X hW xm_999 dX0_isPeace_1 ?_
  refine lv_aload_n hx hb dX0_isPeace_4 rfl (lv_at hl 0 rfl) ?_
  obtain ⟨z_1, hf⟩ := gd_e hf
  replace z_1 := nz_e z_1
  refine xg_0s X hW xm_999 z_1 dX0_isPeace_5 ?_
  obtain ⟨σ_3, h_2, hf⟩ := bd_e hf
  refine kx_copies X hW had (b := 2000) (c2 := 1000) (by decide) (by decide) (by decide) h_2 (by decide) hl (Nat.le_of_ble_eq_true rfl) dX0_isPeace_8 (fun H locs hW => ?_)
  refine lv_astore_n (lv' := [(3, .ref (ad 2999)), (0, .ref (ad 999)), (1, .int v1), (2, .int v2)]) hx hb dX0_isPeace_11 rfl hl (by decide) rfl (fun ls hl => ?_)
  refine lv_aload_n hx hb dX0_isPeace_12 rfl (lv_at hl 0 rfl) ?_
  refine lv_dup hx hb dX0_isPeace_13 rfl ?_
  refine xg_2007 X hW xm_2999 dX0_isPeace_14 ?_
  refine lv_iload_n hx hb dX0_isPeace_17 rfl (lv_at hl 2 rfl) ?_
  refine lv_ior hx hb dX0_isPeace_18 ?_
  obtain ⟨σ_4, e_5, hf⟩ := nmb_e hf
  rw [← e_5] at hW
  clear e_5
  refine xp_2007 X hW xm_2999 dX0_isPeace_19 (fun H locs hW => ?_)
  refine lv_iconst (v := 0) hx hb dX0_isPeace_22 (by decide) ?_
  refine lv_istore (lv' := [(4, .int 0), (3, .ref (ad 2999)), (0, .ref (ad 999)), (1, .int v1), (2, .int v2)]) hx hb dX0_isPeace_23 hl (by decide) rfl (fun ls hl => ?_)
  refine wx_isPeace_25 X had hrs (fun σ_13 H locs ls hW hl hf => ?_) _ _ _ _ _ _ hW (lv_sub hl [2, 4, 1, 0] rfl) hf
  refine lv_iconst (v := 1) hx hb dX0_isPeace_50 (by decide) ?_
  exact x_zret X hW hf (by decide) dX0_isPeace_51
theorem w_x_isPeace (l : Launch) {g : gG} {ad : Nat → Nat} {q : xR} (had : xI_ ad) {rs : List RS} (hrs : RSok q.1 g rs) {σr : cS} {r : Int32} {σ : cS} {v1 : Int32} {v2 : Int32} (hf : x_isPeace σ rs v1 v2 = some (σr, r)) : MC l yX0_isPeace cX0_isPeace 5 (some .boolean) 407 16367 g xIds ad (xE g ad q σ) (xE g ad q σr) [.ref (ad 999), .int v1, .int v2] (some (.int r)) :=
  MC.of (by decide) xIds_nd had (Nat.le_of_ble_eq_true rfl) (fun p e s m below meth c A ls X hW hl => wb_x_isPeace X had hrs hW hl hf)
theorem kx_isPeace {p : Program} {l : Launch} {e : Env} {R : Room} {s : State} {m : MethodId} {args : Array Value} {below : List Frame} {meth : Method} {c : Code} {H : Heap} {locs : List Loc} {Q : State → Prop} {cc : ByteArray} {nL : Nat} {ret : Option FieldType} {g : gG} {A : Nat → Prop} {ad : Nat → Nat} {q : xR} {pc : Nat} {ls : Array Slot} {rest : List Value} {lv : List (Nat × Value)} {σr : cS} {r : Int32} {σ : cS} {v1 : Int32} {v2 : Int32} (X : MX p s m args meth c cc nL RX0 ret g A) (hW : WB g A s.heap xIds ad (xE g ad q σ) H locs) (had : xI_ ad) {rs : List RS} (hrs : RSok q.1 g rs) (hf : x_isPeace σ rs v1 v2 = some (σr, r)) (hR : 408 ≤ R.frames ∧ 16391 ≤ R.locals) (hl : lv_has ls nL lv) (hcat : (rest.map fun v => v.category).sum ≤ 8) (hdg : decode cc pc = .ok (.invokevirtual 336, 3)) (kk : ∀ (H1 : Heap) (l1 : List Loc), WB g A s.heap xIds ad (xE g ad q σr) H1 l1 → W p l e R s m args below meth c H1 l1 0 0 Q (F0 m (pc + 3) ls (.int r :: rest))) : W p l e R s m args below meth c H locs 0 0 Q (F0 m pc ls (.int v2 :: .int v1 :: .ref (ad 999) :: rest)) :=
  r_callV X hW Sub.all (w_x_isPeace l had hrs hf) (lw_V q1079 q1081 qs44 q120 q1082) ⟨rfl, by decide, by decide, by decide +kernel⟩ xm_999 rfl rfl (n := 2) hR hl rfl rfl hcat ⟨Nat.zero_le _, Nat.zero_le _⟩ hdg kk
-- peace
noncomputable def x_peace_36 {ρ : Type} (rs : List RS) (v1 : Int32) (v2 : Int32) (K : cS → Int32 → Option ρ) : Nat → cS → Int32 → Int32 → Option ρ
  | 0, _, _, _ => none
  | n + 1, σ, v3, v4 => gd (nz (σ.1 999 0)) (if (1 <<< ((σ.1 1999 0) &&& 31)) ≤ v4 then (K σ v3) else (if (v4 &&& (σ.1 1999 7)) = 0 then (if v3 = (-1) then (((x_isPeace σ rs v4 v1).bind fun (σ_14, r_13) => if r_13 = 0 then (x_peace_36 rs v1 v2 K n σ_14 v3 (v4 + 1)) else (x_peace_36 rs v1 v2 K n σ_14 v4 (v4 + 1)))) else (((x_bitCount v4).bind fun r_17 => ((x_bitCount v3).bind fun r_19 => if r_17 < r_19 then (((x_isPeace σ rs v4 v1).bind fun (σ_23, r_22) => if r_22 = 0 then (x_peace_36 rs v1 v2 K n σ_23 v3 (v4 + 1)) else (x_peace_36 rs v1 v2 K n σ_23 v4 (v4 + 1)))) else (x_peace_36 rs v1 v2 K n σ v3 (v4 + 1)))))) else (x_peace_36 rs v1 v2 K n σ v3 (v4 + 1))))
set_option maxHeartbeats 4000000 in
theorem wx_peace_36 {p : Program} {l : Launch} {e : Env} {s : State} {m : MethodId} {args : Array Value} {below : List Frame} {meth : Method} {c : Code} {g : gG} {A : Nat → Prop} {ad : Nat → Nat} {q : xR} (X : MX p s m args meth c cX0_peace 5 RX0 (some .int) g A) (had : xI_ ad) {rs : List RS} (hrs : RSok q.1 g rs) {ρ : Type} {res : ρ} {Q : State → Prop} {v1 : Int32} {v2 : Int32}  {K : cS → Int32 → Option ρ}
    (hK : ∀ (σ : cS) (k3 : Int32) (H : Heap) (locs : List Loc) (ls : Array Slot), WB g A s.heap xIds ad (xE g ad q σ) H locs → lv_has ls 5 [(2, .int v2), (3, .int k3)] → K σ k3 = some res → W p l e (rm_ 408 16391) s m args below meth c H locs 0 0 Q (F0 m 102 ls [])) :
    ∀ (n : Nat) (σ : cS) (v3 : Int32) (v4 : Int32) (H : Heap) (locs : List Loc) (ls : Array Slot), WB g A s.heap xIds ad (xE g ad q σ) H locs → lv_has ls 5 [(0, .ref (ad 999)), (1, .int v1), (2, .int v2), (3, .int v3), (4, .int v4)] → x_peace_36 rs v1 v2 K n σ v3 v4 = some res → W p l e (rm_ 408 16391) s m args below meth c H locs 0 0 Q (F0 m 36 ls []) := by
  have hx := X.1.1
  have hb := X.1.2.1
  intro n
  induction n with
  | zero =>
    intro σ v3 v4 H locs ls hW hl hf
    rw [x_peace_36] at hf
    cases hf
  | succ n ih =>
    intro σ v3 v4 H locs ls hW hl hf
    rw [x_peace_36] at hf
    refine lv_iload hx hb dX0_peace_36 (lv_at hl 4 rfl) ?_
    refine lv_iconst (v := 1) hx hb dX0_peace_38 (by decide) ?_
    refine lv_aload_n hx hb dX0_peace_39 rfl (lv_at hl 0 rfl) ?_
    obtain ⟨z_8, hf⟩ := gd_e hf
    replace z_8 := nz_e z_8
    refine xg_0s X hW xm_999 z_8 dX0_peace_40 ?_
    refine xg_1000 X hW xm_1999 dX0_peace_43 ?_
    refine lv_ishl hx hb dX0_peace_46 ?_
    refine lv_icmp_ge (tgt := 102) hx hb dX0_peace_47 (by decide) (fun c_9 => ?_) (fun c_9 => ?_)
    · replace hf := ip hf c_9
      exact hK _ _ _ _ _ hW (lv_sub hl [2, 3] rfl) hf
    · replace hf := ine hf c_9
      refine lv_iload hx hb dX0_peace_50 (lv_at hl 4 rfl) ?_
      refine lv_aload_n hx hb dX0_peace_52 rfl (lv_at hl 0 rfl) ?_
      refine xg_0s X hW xm_999 z_8 dX0_peace_53 ?_
      refine xg_1007 X hW xm_1999 dX0_peace_56 ?_
      refine lv_iand hx hb dX0_peace_59 ?_
      refine lv_if_ne (tgt := 96) hx hb dX0_peace_60 (by decide) (fun c_10 => ?_) (fun c_10 => ?_)
      · replace hf := ine hf c_10
        refine lv_iinc (v := (v4 + 1)) (lv' := [(4, .int (v4 + 1)), (0, .ref (ad 999)), (1, .int v1), (2, .int v2), (3, .int v3)]) hx hb dX0_peace_96 hl (k := 4) rfl (ii_v _ _ _ (by decide)) (by decide) rfl (fun ls hl => ?_)
        refine lv_goto (tgt := 36) hx hb dX0_peace_99 (by decide) ?_
        exact ih _ _ _ _ _ _ hW (lv_sub hl [1, 2, 3, 4, 0] rfl) hf
      · replace hf := ip hf c_10
        refine lv_iload_n hx hb dX0_peace_63 rfl (lv_at hl 3 rfl) ?_
        refine lv_iconst (v := (-1)) hx hb dX0_peace_64 (by decide) ?_
        refine lv_icmp_eq (tgt := 83) hx hb dX0_peace_65 (by decide) (fun c_11 => ?_) (fun c_11 => ?_)
        · replace hf := ip hf c_11
          refine lv_aload_n hx hb dX0_peace_83 rfl (lv_at hl 0 rfl) ?_
          refine lv_iload hx hb dX0_peace_84 (lv_at hl 4 rfl) ?_
          refine lv_iload_n hx hb dX0_peace_86 rfl (lv_at hl 1 rfl) ?_
          obtain ⟨⟨σ_14, r_13⟩, h_12, hf⟩ := bd_e hf
          refine kx_isPeace X hW had hrs h_12 (by decide) hl (Nat.le_of_ble_eq_true rfl) dX0_peace_87 (fun H locs hW => ?_)
          refine lv_if_eq (tgt := 96) hx hb dX0_peace_90 (by decide) (fun c_15 => ?_) (fun c_15 => ?_)
          · replace hf := ip hf c_15
            refine lv_iinc (v := (v4 + 1)) (lv' := [(4, .int (v4 + 1)), (0, .ref (ad 999)), (1, .int v1), (2, .int v2), (3, .int v3)]) hx hb dX0_peace_96 hl (k := 4) rfl (ii_v _ _ _ (by decide)) (by decide) rfl (fun ls hl => ?_)
            refine lv_goto (tgt := 36) hx hb dX0_peace_99 (by decide) ?_
            exact ih _ _ _ _ _ _ hW (lv_sub hl [1, 2, 3, 4, 0] rfl) hf
          · replace hf := ine hf c_15
            refine lv_iload hx hb dX0_peace_93 (lv_at hl 4 rfl) ?_
            refine lv_istore_n (lv' := [(3, .int v4), (0, .ref (ad 999)), (1, .int v1), (2, .int v2), (4, .int v4)]) hx hb dX0_peace_95 rfl hl (by decide) rfl (fun ls hl => ?_)
            refine lv_iinc (v := (v4 + 1)) (lv' := [(4, .int (v4 + 1)), (3, .int v4), (0, .ref (ad 999)), (1, .int v1), (2, .int v2)]) hx hb dX0_peace_96 hl (k := 4) rfl (ii_v _ _ _ (by decide)) (by decide) rfl (fun ls hl => ?_)
            refine lv_goto (tgt := 36) hx hb dX0_peace_99 (by decide) ?_
            exact ih _ _ _ _ _ _ hW (lv_sub hl [2, 3, 4, 1, 0] rfl) hf
        · replace hf := ine hf c_11
          refine lv_iload hx hb dX0_peace_68 (lv_at hl 4 rfl) ?_
          obtain ⟨r_17, h_16, hf⟩ := bd_e hf
          refine kh_bitCount X hW h_16 (by decide) hl (Nat.le_of_ble_eq_true rfl) dX0_peace_70 (fun H locs hW => ?_)
          refine lv_iload_n hx hb dX0_peace_73 rfl (lv_at hl 3 rfl) ?_
          obtain ⟨r_19, h_18, hf⟩ := bd_e hf
          refine kh_bitCount X hW h_18 (by decide) hl (Nat.le_of_ble_eq_true rfl) dX0_peace_74 (fun H locs hW => ?_)
          refine lv_icmp_lt (tgt := 83) hx hb dX0_peace_77 (by decide) (fun c_20 => ?_) (fun c_20 => ?_)
          · replace hf := ip hf c_20
            refine lv_aload_n hx hb dX0_peace_83 rfl (lv_at hl 0 rfl) ?_
            refine lv_iload hx hb dX0_peace_84 (lv_at hl 4 rfl) ?_
            refine lv_iload_n hx hb dX0_peace_86 rfl (lv_at hl 1 rfl) ?_
            obtain ⟨⟨σ_23, r_22⟩, h_21, hf⟩ := bd_e hf
            refine kx_isPeace X hW had hrs h_21 (by decide) hl (Nat.le_of_ble_eq_true rfl) dX0_peace_87 (fun H locs hW => ?_)
            refine lv_if_eq (tgt := 96) hx hb dX0_peace_90 (by decide) (fun c_24 => ?_) (fun c_24 => ?_)
            · replace hf := ip hf c_24
              refine lv_iinc (v := (v4 + 1)) (lv' := [(4, .int (v4 + 1)), (0, .ref (ad 999)), (1, .int v1), (2, .int v2), (3, .int v3)]) hx hb dX0_peace_96 hl (k := 4) rfl (ii_v _ _ _ (by decide)) (by decide) rfl (fun ls hl => ?_)
              refine lv_goto (tgt := 36) hx hb dX0_peace_99 (by decide) ?_
              exact ih _ _ _ _ _ _ hW (lv_sub hl [1, 2, 3, 4, 0] rfl) hf
            · replace hf := ine hf c_24
              refine lv_iload hx hb dX0_peace_93 (lv_at hl 4 rfl) ?_
              refine lv_istore_n (lv' := [(3, .int v4), (0, .ref (ad 999)), (1, .int v1), (2, .int v2), (4, .int v4)]) hx hb dX0_peace_95 rfl hl (by decide) rfl (fun ls hl => ?_)
              refine lv_iinc (v := (v4 + 1)) (lv' := [(4, .int (v4 + 1)), (3, .int v4), (0, .ref (ad 999)), (1, .int v1), (2, .int v2)]) hx hb dX0_peace_96 hl (k := 4) rfl (ii_v _ _ _ (by decide)) (by decide) rfl (fun ls hl => ?_)
              refine lv_goto (tgt := 36) hx hb dX0_peace_99 (by decide) ?_
              exact ih _ _ _ _ _ _ hW (lv_sub hl [2, 3, 4, 1, 0] rfl) hf
          · replace hf := ine hf c_20
            refine lv_goto (tgt := 96) hx hb dX0_peace_80 (by decide) ?_
            refine lv_iinc (v := (v4 + 1)) (lv' := [(4, .int (v4 + 1)), (0, .ref (ad 999)), (1, .int v1), (2, .int v2), (3, .int v3)]) hx hb dX0_peace_96 hl (k := 4) rfl (ii_v _ _ _ (by decide)) (by decide) rfl (fun ls hl => ?_)
            refine lv_goto (tgt := 36) hx hb dX0_peace_99 (by decide) ?_
            exact ih _ _ _ _ _ _ hW (lv_sub hl [1, 2, 3, 4, 0] rfl) hf
noncomputable def x_peace (σ : cS) (rs : List RS) (v1 : Int32) (v2 : Int32) : Option (cS × Int32) :=
  if (σ.1 999 0) = 0 then (some (σ, (-1))) else (((x_in v1.toInt64 1 60).bind fun r_3 => if r_3 = 0 then (some (σ, (-1))) else (((x_in v2.toInt64 0 1).bind fun r_6 => if r_6 = 0 then (some (σ, (-1))) else (x_peace_36 rs v1 v2 (fun σ_25 v_26 => (if v_26 = (-1) then (some (σ_25, (-2))) else (if v2 = 0 then (((x_bitCount v_26).bind fun r_30 => some (σ_25, r_30))) else (some (σ_25, v_26))))) FU σ (-1) 0)))))
set_option maxHeartbeats 4000000 in
theorem wb_x_peace {p : Program} {l : Launch} {e : Env} {s : State} {m : MethodId} {args : Array Value} {below : List Frame} {meth : Method} {c : Code} {g : gG} {A : Nat → Prop} {ad : Nat → Nat} {q : xR} (X : MX p s m args meth c cX0_peace 5 RX0 (some .int) g A) (had : xI_ ad) {rs : List RS} (hrs : RSok q.1 g rs) {σr : cS} {r : Int32} {σ : cS} {v1 : Int32} {v2 : Int32} {H : Heap} {locs : List Loc} {ls : Array Slot} (hW : WB g A s.heap xIds ad (xE g ad q σ) H locs) (hl : lv_has ls 5 [(0, .ref (ad 999)), (1, .int v1), (2, .int v2)]) (hf : x_peace σ rs v1 v2 = some (σr, r)) : W p l e (rm_ 408 16391) s m args below meth c H locs 0 0 (Qm below g xIds ad (xE g ad q σr) (some (.int r)) A args s) (F0 m 0 ls []) := by
  have hx := X.1.1
  have hb := X.1.2.1
  unfold x_peace at hf
  refine lv_aload_n hx hb dX0_peace_0 rfl (lv_at hl 0 rfl) ?_
  refine xg_0 X hW xm_999 dX0_peace_1 ?_
  by_cases c_1 : (σ.1 999 0) = 0
  · replace hf := ip hf c_1
    rw [dn_n c_1]
    refine lv_ifnullN (tgt := 29) hx hb dX0_peace_4 (by decide) ?_
    refine lv_iconst (v := (-1)) hx hb dX0_peace_29 (by decide) ?_
    exact x_iret X hW hf dX0_peace_30
  · replace hf := ine hf c_1
    rw [dn_s c_1]
    refine lv_ifnull (x := ad 1999) hx hb dX0_peace_4 ?_
    refine lv_iload_n hx hb dX0_peace_7 rfl (lv_at hl 1 rfl) ?_
    refine lv_i2l (v := v1.toInt64) hx hb dX0_peace_8 rfl ?_
    refine lv_lconst (v := 1) hx hb dX0_peace_9 (by decide) ?_
    refine lv_ldc2 (v := 60) hx hb X.1.2.2.2.1 (X.1.2.2.2.2 _ q1064) dX0_peace_10 ?_
    obtain ⟨r_3, h_2, hf⟩ := bd_e hf
    refine kh_in X hW h_2 (by decide) hl (Nat.le_of_ble_eq_true rfl) dX0_peace_13 (fun H locs hW => ?_)
    refine lv_if_eq (tgt := 29) hx hb dX0_peace_16 (by decide) (fun c_4 => ?_) (fun c_4 => ?_)
    · replace hf := ip hf c_4
      refine lv_iconst (v := (-1)) hx hb dX0_peace_29 (by decide) ?_
      exact x_iret X hW hf dX0_peace_30
    · replace hf := ine hf c_4
      refine lv_iload_n hx hb dX0_peace_19 rfl (lv_at hl 2 rfl) ?_
      refine lv_i2l (v := v2.toInt64) hx hb dX0_peace_20 rfl ?_
      refine lv_lconst (v := 0) hx hb dX0_peace_21 (by decide) ?_
      refine lv_lconst (v := 1) hx hb dX0_peace_22 (by decide) ?_
      obtain ⟨r_6, h_5, hf⟩ := bd_e hf
      refine kh_in X hW h_5 (by decide) hl (Nat.le_of_ble_eq_true rfl) dX0_peace_23 (fun H locs hW => ?_)
      refine lv_if_ne (tgt := 31) hx hb dX0_peace_26 (by decide) (fun c_7 => ?_) (fun c_7 => ?_)
      · replace hf := ine hf c_7
        refine lv_iconst (v := (-1)) hx hb dX0_peace_31 (by decide) ?_
        refine lv_istore_n (lv' := [(3, .int (-1)), (0, .ref (ad 999)), (1, .int v1), (2, .int v2)]) hx hb dX0_peace_32 rfl hl (by decide) rfl (fun ls hl => ?_)
        refine lv_iconst (v := 0) hx hb dX0_peace_33 (by decide) ?_
        refine lv_istore (lv' := [(4, .int 0), (3, .int (-1)), (0, .ref (ad 999)), (1, .int v1), (2, .int v2)]) hx hb dX0_peace_34 hl (by decide) rfl (fun ls hl => ?_)
        refine wx_peace_36 X had hrs (fun σ_25 v_26 H locs ls hW hl hf => ?_) _ _ _ _ _ _ _ hW (lv_sub hl [2, 3, 4, 1, 0] rfl) hf
        refine lv_iload_n hx hb dX0_peace_102 rfl (lv_at hl 1 rfl) ?_
        refine lv_iconst (v := (-1)) hx hb dX0_peace_103 (by decide) ?_
        refine lv_icmp_ne (tgt := 112) hx hb dX0_peace_104 (by decide) (fun c_27 => ?_) (fun c_27 => ?_)
        · replace hf := ine hf c_27
          refine lv_iload_n hx hb dX0_peace_112 rfl (lv_at hl 0 rfl) ?_
          refine lv_if_ne (tgt := 123) hx hb dX0_peace_113 (by decide) (fun c_28 => ?_) (fun c_28 => ?_)
          · replace hf := ine hf c_28
            refine lv_iload_n hx hb dX0_peace_123 rfl (lv_at hl 1 rfl) ?_
            exact x_iret X hW hf dX0_peace_124
          · replace hf := ip hf c_28
            refine lv_iload_n hx hb dX0_peace_116 rfl (lv_at hl 1 rfl) ?_
            obtain ⟨r_30, h_29, hf⟩ := bd_e hf
            refine kh_bitCount X hW h_29 (by decide) hl (Nat.le_of_ble_eq_true rfl) dX0_peace_117 (fun H locs hW => ?_)
            refine lv_goto (tgt := 124) hx hb dX0_peace_120 (by decide) ?_
            exact x_iret X hW hf dX0_peace_124
        · replace hf := ip hf c_27
          refine lv_bipush (v := (-2)) hx hb dX0_peace_107 (by decide) ?_
          refine lv_goto (tgt := 124) hx hb dX0_peace_109 (by decide) ?_
          exact x_iret X hW hf dX0_peace_124
      · replace hf := ip hf c_7
        refine lv_iconst (v := (-1)) hx hb dX0_peace_29 (by decide) ?_
        exact x_iret X hW hf dX0_peace_30
theorem w_x_peace (l : Launch) {g : gG} {ad : Nat → Nat} {q : xR} (had : xI_ ad) {rs : List RS} (hrs : RSok q.1 g rs) {σr : cS} {r : Int32} {σ : cS} {v1 : Int32} {v2 : Int32} (hf : x_peace σ rs v1 v2 = some (σr, r)) : MC l yX0_peace cX0_peace 5 (some .int) 408 16391 g xIds ad (xE g ad q σ) (xE g ad q σr) [.ref (ad 999), .int v1, .int v2] (some (.int r)) :=
  MC.of (by decide) xIds_nd had (Nat.le_of_ble_eq_true rfl) (fun p e s m below meth c A ls X hW hl => wb_x_peace X had hrs hW hl hf)
-- part
noncomputable def x_part_23 {ρ : Type} (σ : cS) (v1 : Int32) (K : Int32 → Option ρ) : Nat → Int32 → Int32 → Option ρ
  | 0, _, _ => none
  | n + 1, v2, v3 => gd (nz (σ.1 999 0)) (if (σ.1 1999 0) ≤ v3 then (K v2) else (gd (inb v3 10) (x_part_23 σ v1 K n (v2 + ((σ.1 1016 (ix v3)) + 20)) (v3 + 1))))
set_option maxHeartbeats 4000000 in
theorem wx_part_23 {p : Program} {l : Launch} {e : Env} {s : State} {m : MethodId} {args : Array Value} {below : List Frame} {meth : Method} {c : Code} {g : gG} {A : Nat → Prop} {ad : Nat → Nat} {q : xR} (X : MX p s m args meth c cX0_part 4 RX0 (some .int) g A) (had : xI_ ad) {ρ : Type} {res : ρ} {Q : State → Prop} {v1 : Int32} {σ : cS}  {K : Int32 → Option ρ}
    (hK : ∀ (k2 : Int32) (H : Heap) (locs : List Loc) (ls : Array Slot), WB g A s.heap xIds ad (xE g ad q σ) H locs → lv_has ls 4 [(0, .ref (ad 999)), (1, .int v1), (2, .int k2)] → K k2 = some res → W p l e (rm_ 70 4000) s m args below meth c H locs 0 0 Q (F0 m 55 ls [])) :
    ∀ (n : Nat) (v2 : Int32) (v3 : Int32) (H : Heap) (locs : List Loc) (ls : Array Slot), WB g A s.heap xIds ad (xE g ad q σ) H locs → lv_has ls 4 [(0, .ref (ad 999)), (1, .int v1), (2, .int v2), (3, .int v3)] → x_part_23 σ v1 K n v2 v3 = some res → W p l e (rm_ 70 4000) s m args below meth c H locs 0 0 Q (F0 m 23 ls []) := by
  have hx := X.1.1
  have hb := X.1.2.1
  intro n
  induction n with
  | zero =>
    intro v2 v3 H locs ls hW hl hf
    rw [x_part_23] at hf
    cases hf
  | succ n ih =>
    intro v2 v3 H locs ls hW hl hf
    rw [x_part_23] at hf
    refine lv_iload_n hx hb dX0_part_23 rfl (lv_at hl 3 rfl) ?_
    refine lv_aload_n hx hb dX0_part_24 rfl (lv_at hl 0 rfl) ?_
    obtain ⟨z_5, hf⟩ := gd_e hf
    replace z_5 := nz_e z_5
    refine xg_0s X hW xm_999 z_5 dX0_part_25 ?_
    refine xg_1000 X hW xm_1999 dX0_part_28 ?_
    refine lv_icmp_ge (tgt := 55) hx hb dX0_part_31 (by decide) (fun c_6 => ?_) (fun c_6 => ?_)
    · replace hf := ip hf c_6
      exact hK _ _ _ _ hW (lv_sub hl [0, 1, 2] rfl) hf
    · replace hf := ine hf c_6
      refine lv_iload_n hx hb dX0_part_34 rfl (lv_at hl 2 rfl) ?_
      refine lv_aload_n hx hb dX0_part_35 rfl (lv_at hl 0 rfl) ?_
      refine xg_0s X hW xm_999 z_5 dX0_part_36 ?_
      refine xg_1016 X hW xm_1999 dX0_part_39 ?_
      refine lv_iload_n hx hb dX0_part_42 rfl (lv_at hl 3 rfl) ?_
      obtain ⟨h_7, hf⟩ := gd_e hf
      refine xl_1016 X hW xm_1016 h_7 dX0_part_43 ?_
      refine lv_bipush (v := 20) hx hb dX0_part_44 (by decide) ?_
      refine lv_iadd hx hb dX0_part_46 ?_
      refine lv_iadd hx hb dX0_part_47 ?_
      refine lv_istore_n (lv' := [(2, .int (v2 + ((σ.1 1016 (ix v3)) + 20))), (0, .ref (ad 999)), (1, .int v1), (3, .int v3)]) hx hb dX0_part_48 rfl hl (by decide) rfl (fun ls hl => ?_)
      refine lv_iinc (v := (v3 + 1)) (lv' := [(3, .int (v3 + 1)), (2, .int (v2 + ((σ.1 1016 (ix v3)) + 20))), (0, .ref (ad 999)), (1, .int v1)]) hx hb dX0_part_49 hl (k := 3) rfl (ii_v _ _ _ (by decide)) (by decide) rfl (fun ls hl => ?_)
      refine lv_goto (tgt := 23) hx hb dX0_part_52 (by decide) ?_
      exact ih _ _ _ _ _ hW (lv_sub hl [2, 3, 1, 0] rfl) hf
noncomputable def x_part (σ : cS) (v1 : Int32) : Option (Int32) :=
  if (σ.1 999 0) = 0 then (some (-1)) else (((x_in v1.toInt64 0 1).bind fun r_3 => if r_3 = 0 then (some (-1)) else (x_part_23 σ v1 (fun v_8 => (if v1 = 0 then (((x_divisor (41 * (σ.1 1999 0)) v_8).bind fun r_14 => gd (nz r_14) (some (v_8 / r_14)))) else (((x_divisor (41 * (σ.1 1999 0)) v_8).bind fun r_11 => gd (nz r_11) (some ((41 * (σ.1 1999 0)) / r_11)))))) FU 0 0)))
set_option maxHeartbeats 4000000 in
theorem wb_x_part {p : Program} {l : Launch} {e : Env} {s : State} {m : MethodId} {args : Array Value} {below : List Frame} {meth : Method} {c : Code} {g : gG} {A : Nat → Prop} {ad : Nat → Nat} {q : xR} (X : MX p s m args meth c cX0_part 4 RX0 (some .int) g A) (had : xI_ ad) {r : Int32} {σ : cS} {v1 : Int32} {H : Heap} {locs : List Loc} {ls : Array Slot} (hW : WB g A s.heap xIds ad (xE g ad q σ) H locs) (hl : lv_has ls 4 [(0, .ref (ad 999)), (1, .int v1)]) (hf : x_part σ v1 = some r) : W p l e (rm_ 70 4000) s m args below meth c H locs 0 0 (Qm below g xIds ad (xE g ad q σ) (some (.int r)) A args s) (F0 m 0 ls []) := by
  have hx := X.1.1
  have hb := X.1.2.1
  unfold x_part at hf
  refine lv_aload_n hx hb dX0_part_0 rfl (lv_at hl 0 rfl) ?_
  refine xg_0 X hW xm_999 dX0_part_1 ?_
  by_cases c_1 : (σ.1 999 0) = 0
  · replace hf := ip hf c_1
    rw [dn_n c_1]
    refine lv_ifnullN (tgt := 17) hx hb dX0_part_4 (by decide) ?_
    refine lv_iconst (v := (-1)) hx hb dX0_part_17 (by decide) ?_
    exact p_iret X hW hf dX0_part_18
  · replace hf := ine hf c_1
    rw [dn_s c_1]
    refine lv_ifnull (x := ad 1999) hx hb dX0_part_4 ?_
    refine lv_iload_n hx hb dX0_part_7 rfl (lv_at hl 1 rfl) ?_
    refine lv_i2l (v := v1.toInt64) hx hb dX0_part_8 rfl ?_
    refine lv_lconst (v := 0) hx hb dX0_part_9 (by decide) ?_
    refine lv_lconst (v := 1) hx hb dX0_part_10 (by decide) ?_
    obtain ⟨r_3, h_2, hf⟩ := bd_e hf
    refine kh_in X hW h_2 (by decide) hl (Nat.le_of_ble_eq_true rfl) dX0_part_11 (fun H locs hW => ?_)
    refine lv_if_ne (tgt := 19) hx hb dX0_part_14 (by decide) (fun c_4 => ?_) (fun c_4 => ?_)
    · replace hf := ine hf c_4
      refine lv_iconst (v := 0) hx hb dX0_part_19 (by decide) ?_
      refine lv_istore_n (lv' := [(2, .int 0), (0, .ref (ad 999)), (1, .int v1)]) hx hb dX0_part_20 rfl hl (by decide) rfl (fun ls hl => ?_)
      refine lv_iconst (v := 0) hx hb dX0_part_21 (by decide) ?_
      refine lv_istore_n (lv' := [(3, .int 0), (2, .int 0), (0, .ref (ad 999)), (1, .int v1)]) hx hb dX0_part_22 rfl hl (by decide) rfl (fun ls hl => ?_)
      refine wx_part_23 X had (fun v_8 H locs ls hW hl hf => ?_) _ _ _ _ _ _ hW (lv_sub hl [2, 3, 1, 0] rfl) hf
      refine lv_bipush (v := 41) hx hb dX0_part_55 (by decide) ?_
      refine lv_aload_n hx hb dX0_part_57 rfl (lv_at hl 0 rfl) ?_
      refine xg_0s X hW xm_999 c_1 dX0_part_58 ?_
      refine xg_1000 X hW xm_1999 dX0_part_61 ?_
      refine lv_imul hx hb dX0_part_64 ?_
      refine lv_istore_n (lv' := [(3, .int (41 * (σ.1 1999 0))), (0, .ref (ad 999)), (1, .int v1), (2, .int v_8)]) hx hb dX0_part_65 rfl hl (by decide) rfl (fun ls hl => ?_)
      refine lv_iload_n hx hb dX0_part_66 rfl (lv_at hl 2 rfl) ?_
      refine lv_if_ne (tgt := 74) hx hb dX0_part_67 (by decide) (fun c_9 => ?_) (fun c_9 => ?_)
      · replace hf := ine hf c_9
        refine lv_iload_n hx hb dX0_part_74 rfl (lv_at hl 0 rfl) ?_
        refine lv_iload_n hx hb dX0_part_75 rfl (lv_at hl 0 rfl) ?_
        refine lv_iload_n hx hb dX0_part_76 rfl (lv_at hl 3 rfl) ?_
        obtain ⟨r_11, h_10, hf⟩ := bd_e hf
        refine kh_divisor X hW h_10 (by decide) hl (Nat.le_of_ble_eq_true rfl) dX0_part_77 (fun H locs hW => ?_)
        obtain ⟨z_12, hf⟩ := gd_e hf
        refine lv_idiv hx hb dX0_part_80 (nz_e z_12) ?_
        exact p_iret X hW hf dX0_part_81
      · replace hf := ip hf c_9
        refine lv_iload_n hx hb dX0_part_70 rfl (lv_at hl 3 rfl) ?_
        refine lv_goto (tgt := 75) hx hb dX0_part_71 (by decide) ?_
        refine lv_iload_n hx hb dX0_part_75 rfl (lv_at hl 0 rfl) ?_
        refine lv_iload_n hx hb dX0_part_76 rfl (lv_at hl 3 rfl) ?_
        obtain ⟨r_14, h_13, hf⟩ := bd_e hf
        refine kh_divisor X hW h_13 (by decide) hl (Nat.le_of_ble_eq_true rfl) dX0_part_77 (fun H locs hW => ?_)
        obtain ⟨z_15, hf⟩ := gd_e hf
        refine lv_idiv hx hb dX0_part_80 (nz_e z_15) ?_
        exact p_iret X hW hf dX0_part_81
    · replace hf := ip hf c_4
      refine lv_iconst (v := (-1)) hx hb dX0_part_17 (by decide) ?_
      exact p_iret X hW hf dX0_part_18
theorem w_x_part (l : Launch) {g : gG} {ad : Nat → Nat} {q : xR} (had : xI_ ad) {r : Int32} {σ : cS} {v1 : Int32} (hf : x_part σ v1 = some r) : MC l yX0_part cX0_part 4 (some .int) 70 4000 g xIds ad (xE g ad q σ) (xE g ad q σ) [.ref (ad 999), .int v1] (some (.int r)) :=
  MC.of (by decide) xIds_nd had (Nat.le_of_ble_eq_true rfl) (fun p e s m below meth c A ls X hW hl => wb_x_part X had hW hl hf)
-- seed
noncomputable def x_seed (σ : cS) (v1 : Int32) : Option (cS × Int32) :=
  if 0 ≤ v1 then (some ((si σ 999 6 v1), (σ.1 999 6))) else (some (σ, (-1)))
set_option maxHeartbeats 4000000 in
theorem wb_x_seed {p : Program} {l : Launch} {e : Env} {s : State} {m : MethodId} {args : Array Value} {below : List Frame} {meth : Method} {c : Code} {g : gG} {A : Nat → Prop} {ad : Nat → Nat} {q : xR} (X : MX p s m args meth c cX0_seed 3 RX0 (some .int) g A) (had : xI_ ad) {σr : cS} {r : Int32} {σ : cS} {v1 : Int32} {H : Heap} {locs : List Loc} {ls : Array Slot} (hW : WB g A s.heap xIds ad (xE g ad q σ) H locs) (hl : lv_has ls 3 [(0, .ref (ad 999)), (1, .int v1)]) (hf : x_seed σ v1 = some (σr, r)) : W p l e (rm_ 2 60) s m args below meth c H locs 0 0 (Qm below g xIds ad (xE g ad q σr) (some (.int r)) A args s) (F0 m 0 ls []) := by
  have hx := X.1.1
  have hb := X.1.2.1
  unfold x_seed at hf
  refine lv_iload_n hx hb dX0_seed_0 rfl (lv_at hl 1 rfl) ?_
  refine lv_if_ge (tgt := 6) hx hb dX0_seed_1 (by decide) (fun c_1 => ?_) (fun c_1 => ?_)
  · replace hf := ip hf c_1
    refine lv_aload_n hx hb dX0_seed_6 rfl (lv_at hl 0 rfl) ?_
    refine xg_6 X hW xm_999 dX0_seed_7 ?_
    refine lv_istore_n (lv' := [(2, .int (σ.1 999 6)), (0, .ref (ad 999)), (1, .int v1)]) hx hb dX0_seed_10 rfl hl (by decide) rfl (fun ls hl => ?_)
    refine lv_aload_n hx hb dX0_seed_11 rfl (lv_at hl 1 rfl) ?_
    refine lv_iload_n hx hb dX0_seed_12 rfl (lv_at hl 2 rfl) ?_
    refine xp_6 X hW xm_999 dX0_seed_13 (fun H locs hW => ?_)
    refine lv_iload_n hx hb dX0_seed_16 rfl (lv_at hl 0 rfl) ?_
    exact x_iret X hW hf dX0_seed_17
  · replace hf := ine hf c_1
    refine lv_iconst (v := (-1)) hx hb dX0_seed_4 (by decide) ?_
    exact x_iret X hW hf dX0_seed_5
theorem w_x_seed (l : Launch) {g : gG} {ad : Nat → Nat} {q : xR} (had : xI_ ad) {σr : cS} {r : Int32} {σ : cS} {v1 : Int32} (hf : x_seed σ v1 = some (σr, r)) : MC l yX0_seed cX0_seed 3 (some .int) 2 60 g xIds ad (xE g ad q σ) (xE g ad q σr) [.ref (ad 999), .int v1] (some (.int r)) :=
  MC.of (by decide) xIds_nd had (Nat.le_of_ble_eq_true rfl) (fun p e s m below meth c A ls X hW hl => wb_x_seed X had hW hl hf)
-- draw
noncomputable def x_draw (σ : cS) (v1 : Int32) : Option (cS × Int32) :=
  gd (nz v1) (some ((si σ 999 23 (((((σ.1 999 23).toInt64 * 1103515245) + 12345) - (((σ.1 999 23).toInt64 * 1103515245) + 12345) / 2147483648 * 2147483648).toInt32)), ((((si σ 999 23 (((((σ.1 999 23).toInt64 * 1103515245) + 12345) - (((σ.1 999 23).toInt64 * 1103515245) + 12345) / 2147483648 * 2147483648).toInt32)).1 999 23) / 65536) - (((si σ 999 23 (((((σ.1 999 23).toInt64 * 1103515245) + 12345) - (((σ.1 999 23).toInt64 * 1103515245) + 12345) / 2147483648 * 2147483648).toInt32)).1 999 23) / 65536) / v1 * v1)))
set_option maxHeartbeats 4000000 in
theorem wb_x_draw {p : Program} {l : Launch} {e : Env} {s : State} {m : MethodId} {args : Array Value} {below : List Frame} {meth : Method} {c : Code} {g : gG} {A : Nat → Prop} {ad : Nat → Nat} {q : xR} (X : MX p s m args meth c cX0_draw 2 RX0 (some .int) g A) (had : xI_ ad) {σr : cS} {r : Int32} {σ : cS} {v1 : Int32} {H : Heap} {locs : List Loc} {ls : Array Slot} (hW : WB g A s.heap xIds ad (xE g ad q σ) H locs) (hl : lv_has ls 2 [(0, .ref (ad 999)), (1, .int v1)]) (hf : x_draw σ v1 = some (σr, r)) : W p l e (rm_ 2 60) s m args below meth c H locs 0 0 (Qm below g xIds ad (xE g ad q σr) (some (.int r)) A args s) (F0 m 0 ls []) := by
  have hx := X.1.1
  have hb := X.1.2.1
  unfold x_draw at hf
  refine lv_aload_n hx hb dX0_draw_0 rfl (lv_at hl 0 rfl) ?_
  refine lv_aload_n hx hb dX0_draw_1 rfl (lv_at hl 0 rfl) ?_
  refine xg_23 X hW xm_999 dX0_draw_2 ?_
  refine lv_i2l (v := (σ.1 999 23).toInt64) hx hb dX0_draw_5 rfl ?_
  refine lv_ldc2 (v := 1103515245) hx hb X.1.2.2.2.1 (X.1.2.2.2.2 _ q1103) dX0_draw_6 ?_
  refine lv_lmul hx hb dX0_draw_9 ?_
  refine lv_ldc2 (v := 12345) hx hb X.1.2.2.2.1 (X.1.2.2.2.2 _ q1104) dX0_draw_10 ?_
  refine lv_ladd hx hb dX0_draw_13 ?_
  refine lv_ldc2 (v := 2147483648) hx hb X.1.2.2.2.1 (X.1.2.2.2.2 _ q1105) dX0_draw_14 ?_
  refine lv_lrem hx hb dX0_draw_17 (by decide) ?_
  refine lv_l2i (v := ((((σ.1 999 23).toInt64 * 1103515245) + 12345) - (((σ.1 999 23).toInt64 * 1103515245) + 12345) / 2147483648 * 2147483648).toInt32) hx hb dX0_draw_18 rfl ?_
  refine xp_23 X hW xm_999 dX0_draw_19 (fun H locs hW => ?_)
  refine lv_aload_n hx hb dX0_draw_22 rfl (lv_at hl 0 rfl) ?_
  refine xg_23 X hW xm_999 dX0_draw_23 ?_
  refine lv_ldcw (v := 65536) hx hb X.1.2.2.2.1 (X.1.2.2.2.2 _ q1106) dX0_draw_26 ?_
  refine lv_idiv hx hb dX0_draw_29 (by decide) ?_
  refine lv_iload_n hx hb dX0_draw_30 rfl (lv_at hl 1 rfl) ?_
  obtain ⟨z_1, hf⟩ := gd_e hf
  refine lv_irem hx hb dX0_draw_31 (nz_e z_1) ?_
  exact x_iret X hW hf dX0_draw_32
theorem w_x_draw (l : Launch) {g : gG} {ad : Nat → Nat} {q : xR} (had : xI_ ad) {σr : cS} {r : Int32} {σ : cS} {v1 : Int32} (hf : x_draw σ v1 = some (σr, r)) : MC l yX0_draw cX0_draw 2 (some .int) 2 60 g xIds ad (xE g ad q σ) (xE g ad q σr) [.ref (ad 999), .int v1] (some (.int r)) :=
  MC.of (by decide) xIds_nd had (Nat.le_of_ble_eq_true rfl) (fun p e s m below meth c A ls X hW hl => wb_x_draw X had hW hl hf)
theorem kx_draw {p : Program} {l : Launch} {e : Env} {R : Room} {s : State} {m : MethodId} {args : Array Value} {below : List Frame} {meth : Method} {c : Code} {H : Heap} {locs : List Loc} {Q : State → Prop} {cc : ByteArray} {nL : Nat} {ret : Option FieldType} {g : gG} {A : Nat → Prop} {ad : Nat → Nat} {q : xR} {pc : Nat} {ls : Array Slot} {rest : List Value} {lv : List (Nat × Value)} {σr : cS} {r : Int32} {σ : cS} {v1 : Int32} (X : MX p s m args meth c cc nL RX0 ret g A) (hW : WB g A s.heap xIds ad (xE g ad q σ) H locs) (had : xI_ ad) (hf : x_draw σ v1 = some (σr, r)) (hR : 3 ≤ R.frames ∧ 81 ≤ R.locals) (hl : lv_has ls nL lv) (hcat : (rest.map fun v => v.category).sum ≤ 8) (hdg : decode cc pc = .ok (.invokevirtual 357, 3)) (kk : ∀ (H1 : Heap) (l1 : List Loc), WB g A s.heap xIds ad (xE g ad q σr) H1 l1 → W p l e R s m args below meth c H1 l1 0 0 Q (F0 m (pc + 3) ls (.int r :: rest))) : W p l e R s m args below meth c H locs 0 0 Q (F0 m pc ls (.int v1 :: .ref (ad 999) :: rest)) :=
  r_callV X hW Sub.all (w_x_draw l had hf) (lw_V q1099 q1101 qs45 q120 q1102) ⟨rfl, by decide, by decide, by decide +kernel⟩ xm_999 rfl rfl (n := 1) hR hl rfl rfl hcat ⟨Nat.zero_le _, Nat.zero_le _⟩ hdg kk
-- summers
noncomputable def x_summers_92 {ρ : Type} (rs : List RS) (v1 : Int32) (v2 : Int32) (v3 : Int32) (v5 : Int32) (v7 : Int32) (K : cS → Int32 → Option ρ) : Nat → cS → Int32 → Int32 → Option ρ
  | 0, _, _, _ => none
  | n + 1, σ, v4, v8 => if v2 ≤ v8 then (K σ v4) else (((x_draw σ 10).bind fun (σ_21, r_20) => ((x_law σ_21 rs).bind fun R_23 => ((d_passes (vw σ_21 2000) r_20 R_23).bind fun (σ_26, r_25) => x_summers_92 rs v1 v2 v3 v5 v7 K n (pb σ_21 2000 σ_26) (v4 + r_25) (v8 + 1)))))
set_option maxHeartbeats 4000000 in
theorem wx_summers_92 {p : Program} {l : Launch} {e : Env} {s : State} {m : MethodId} {args : Array Value} {below : List Frame} {meth : Method} {c : Code} {g : gG} {A : Nat → Prop} {ad : Nat → Nat} {q : xR} (X : MX p s m args meth c cX0_summers 9 RX0 (some .int) g A) (had : xI_ ad) {rs : List RS} (hrs : RSok q.1 g rs) {ρ : Type} {res : ρ} {Q : State → Prop} {v1 : Int32} {v2 : Int32} {v3 : Int32} {v5 : Int32} {v7 : Int32}  {K : cS → Int32 → Option ρ}
    (hK : ∀ (σ : cS) (k4 : Int32) (H : Heap) (locs : List Loc) (ls : Array Slot), WB g A s.heap xIds ad (xE g ad q σ) H locs → lv_has ls 9 [(0, .ref (ad 999)), (1, .int v1), (2, .int v2), (3, .int v3), (4, .int k4), (5, .int v5), (6, .ref (ad 2999)), (7, .int v7)] → K σ k4 = some res → W p l e (rm_ 406 16346) s m args below meth c H locs 0 0 Q (F0 m 124 ls [])) :
    ∀ (n : Nat) (σ : cS) (v4 : Int32) (v8 : Int32) (H : Heap) (locs : List Loc) (ls : Array Slot), WB g A s.heap xIds ad (xE g ad q σ) H locs → lv_has ls 9 [(0, .ref (ad 999)), (1, .int v1), (2, .int v2), (3, .int v3), (4, .int v4), (5, .int v5), (6, .ref (ad 2999)), (7, .int v7), (8, .int v8)] → x_summers_92 rs v1 v2 v3 v5 v7 K n σ v4 v8 = some res → W p l e (rm_ 406 16346) s m args below meth c H locs 0 0 Q (F0 m 92 ls []) := by
  have hx := X.1.1
  have hb := X.1.2.1
  intro n
  induction n with
  | zero =>
    intro σ v4 v8 H locs ls hW hl hf
    rw [x_summers_92] at hf
    cases hf
  | succ n ih =>
    intro σ v4 v8 H locs ls hW hl hf
    rw [x_summers_92] at hf
    refine lv_iload hx hb dX0_summers_92 (lv_at hl 8 rfl) ?_
    refine lv_iload_n hx hb dX0_summers_94 rfl (lv_at hl 2 rfl) ?_
    refine lv_icmp_ge (tgt := 124) hx hb dX0_summers_95 (by decide) (fun c_18 => ?_) (fun c_18 => ?_)
    · replace hf := ip hf c_18
      exact hK _ _ _ _ _ hW (lv_sub hl [0, 1, 2, 3, 4, 5, 6, 7] rfl) hf
    · replace hf := ine hf c_18
      refine lv_iload hx hb dX0_summers_98 (lv_at hl 4 rfl) ?_
      refine lv_aload hx hb dX0_summers_100 (lv_at hl 6 rfl) ?_
      refine lv_aload_n hx hb dX0_summers_102 rfl (lv_at hl 0 rfl) ?_
      refine lv_bipush (v := 10) hx hb dX0_summers_103 (by decide) ?_
      obtain ⟨⟨σ_21, r_20⟩, h_19, hf⟩ := bd_e hf
      refine kx_draw X hW had h_19 (by decide) hl (Nat.le_of_ble_eq_true rfl) dX0_summers_105 (fun H locs hW => ?_)
      refine lv_aload_n hx hb dX0_summers_108 rfl (lv_at hl 0 rfl) ?_
      obtain ⟨R_23, h_22, hf⟩ := bd_e hf
      refine kx_law X hW had hrs h_22 (by decide) hl (Nat.le_of_ble_eq_true rfl) dX0_summers_109 (fun q_R_23 hq_R_23 H locs hW => ?_)
      obtain ⟨⟨σ_26, r_25⟩, h_24, hf⟩ := bd_e hf
      refine kx_passes X hW had (b := 2000) (by decide) hq_R_23 h_24 (by decide) hl (Nat.le_of_ble_eq_true rfl) dX0_summers_112 (fun H locs hW => ?_)
      refine lv_iadd hx hb dX0_summers_115 ?_
      refine lv_istore (lv' := [(4, .int (v4 + r_25)), (0, .ref (ad 999)), (1, .int v1), (2, .int v2), (3, .int v3), (5, .int v5), (6, .ref (ad 2999)), (7, .int v7), (8, .int v8)]) hx hb dX0_summers_116 hl (by decide) rfl (fun ls hl => ?_)
      refine lv_iinc (v := (v8 + 1)) (lv' := [(8, .int (v8 + 1)), (4, .int (v4 + r_25)), (0, .ref (ad 999)), (1, .int v1), (2, .int v2), (3, .int v3), (5, .int v5), (6, .ref (ad 2999)), (7, .int v7)]) hx hb dX0_summers_118 hl (k := 8) rfl (ii_v _ _ _ (by decide)) (by decide) rfl (fun ls hl => ?_)
      refine lv_goto (tgt := 92) hx hb dX0_summers_121 (by decide) ?_
      exact ih _ _ _ _ _ _ hW (lv_sub hl [2, 3, 4, 5, 1, 6, 7, 8, 0] rfl) hf
noncomputable def x_summers_127 {ρ : Type} (rs : List RS) (σ : cS) (v1 : Int32) (v2 : Int32) (v3 : Int32) (v4 : Int32) (v7 : Int32) (K : Int32 → Option ρ) : Nat → Int32 → Int32 → Option ρ
  | 0, _, _ => none
  | n + 1, v5, v8 => gd (nz (σ.1 999 0)) (if (σ.1 1999 0) ≤ v8 then (K v5) else (gd (inb v8 10) (x_summers_127 rs σ v1 v2 v3 v4 v7 K n (v5 + (jabs ((σ.1 2016 (ix v8)) - (σ.1 1016 (ix v8))))) (v8 + 1))))
set_option maxHeartbeats 4000000 in
theorem wx_summers_127 {p : Program} {l : Launch} {e : Env} {s : State} {m : MethodId} {args : Array Value} {below : List Frame} {meth : Method} {c : Code} {g : gG} {A : Nat → Prop} {ad : Nat → Nat} {q : xR} (X : MX p s m args meth c cX0_summers 9 RX0 (some .int) g A) (had : xI_ ad) {rs : List RS} (hrs : RSok q.1 g rs) {ρ : Type} {res : ρ} {Q : State → Prop} {v1 : Int32} {v2 : Int32} {v3 : Int32} {v4 : Int32} {v7 : Int32} {σ : cS}  {K : Int32 → Option ρ}
    (hK : ∀ (k5 : Int32) (H : Heap) (locs : List Loc) (ls : Array Slot), WB g A s.heap xIds ad (xE g ad q σ) H locs → lv_has ls 9 [(0, .ref (ad 999)), (1, .int v1), (2, .int v2), (3, .int v3), (4, .int v4), (5, .int k5), (6, .ref (ad 2999)), (7, .int v7)] → K k5 = some res → W p l e (rm_ 406 16346) s m args below meth c H locs 0 0 Q (F0 m 172 ls [])) :
    ∀ (n : Nat) (v5 : Int32) (v8 : Int32) (H : Heap) (locs : List Loc) (ls : Array Slot), WB g A s.heap xIds ad (xE g ad q σ) H locs → lv_has ls 9 [(0, .ref (ad 999)), (1, .int v1), (2, .int v2), (3, .int v3), (4, .int v4), (5, .int v5), (6, .ref (ad 2999)), (7, .int v7), (8, .int v8)] → x_summers_127 rs σ v1 v2 v3 v4 v7 K n v5 v8 = some res → W p l e (rm_ 406 16346) s m args below meth c H locs 0 0 Q (F0 m 127 ls []) := by
  have hx := X.1.1
  have hb := X.1.2.1
  intro n
  induction n with
  | zero =>
    intro v5 v8 H locs ls hW hl hf
    rw [x_summers_127] at hf
    cases hf
  | succ n ih =>
    intro v5 v8 H locs ls hW hl hf
    rw [x_summers_127] at hf
    refine lv_iload hx hb dX0_summers_127 (lv_at hl 8 rfl) ?_
    refine lv_aload_n hx hb dX0_summers_129 rfl (lv_at hl 0 rfl) ?_
    obtain ⟨z_29, hf⟩ := gd_e hf
    replace z_29 := nz_e z_29
    refine xg_0s X hW xm_999 z_29 dX0_summers_130 ?_
    refine xg_1000 X hW xm_1999 dX0_summers_133 ?_
    refine lv_icmp_ge (tgt := 172) hx hb dX0_summers_136 (by decide) (fun c_30 => ?_) (fun c_30 => ?_)
    · replace hf := ip hf c_30
      exact hK _ _ _ _ hW (lv_sub hl [0, 1, 2, 3, 4, 5, 6, 7] rfl) hf
    · replace hf := ine hf c_30
      refine lv_iload hx hb dX0_summers_139 (lv_at hl 5 rfl) ?_
      refine lv_aload hx hb dX0_summers_141 (lv_at hl 6 rfl) ?_
      refine xg_2016 X hW xm_2999 dX0_summers_143 ?_
      refine lv_iload hx hb dX0_summers_146 (lv_at hl 8 rfl) ?_
      obtain ⟨h_31, hf⟩ := gd_e hf
      refine xl_2016 X hW xm_2016 h_31 dX0_summers_148 ?_
      refine lv_aload_n hx hb dX0_summers_149 rfl (lv_at hl 0 rfl) ?_
      refine xg_0s X hW xm_999 z_29 dX0_summers_150 ?_
      refine xg_1016 X hW xm_1999 dX0_summers_153 ?_
      refine lv_iload hx hb dX0_summers_156 (lv_at hl 8 rfl) ?_
      refine xl_1016 X hW xm_1016 h_31 dX0_summers_158 ?_
      refine lv_isub hx hb dX0_summers_159 ?_
      refine r_abs X hl q1108 (by decide) (Nat.le_of_ble_eq_true rfl) dX0_summers_160 ?_
      refine lv_iadd hx hb dX0_summers_163 ?_
      refine lv_istore (lv' := [(5, .int (v5 + (jabs ((σ.1 2016 (ix v8)) - (σ.1 1016 (ix v8)))))), (0, .ref (ad 999)), (1, .int v1), (2, .int v2), (3, .int v3), (4, .int v4), (6, .ref (ad 2999)), (7, .int v7), (8, .int v8)]) hx hb dX0_summers_164 hl (by decide) rfl (fun ls hl => ?_)
      refine lv_iinc (v := (v8 + 1)) (lv' := [(8, .int (v8 + 1)), (5, .int (v5 + (jabs ((σ.1 2016 (ix v8)) - (σ.1 1016 (ix v8)))))), (0, .ref (ad 999)), (1, .int v1), (2, .int v2), (3, .int v3), (4, .int v4), (6, .ref (ad 2999)), (7, .int v7)]) hx hb dX0_summers_166 hl (k := 8) rfl (ii_v _ _ _ (by decide)) (by decide) rfl (fun ls hl => ?_)
      refine lv_goto (tgt := 127) hx hb dX0_summers_169 (by decide) ?_
      exact ih _ _ _ _ _ hW (lv_sub hl [2, 3, 4, 5, 6, 1, 7, 8, 0] rfl) hf
noncomputable def x_summers_73 {ρ : Type} (rs : List RS) (v1 : Int32) (v2 : Int32) (v3 : Int32) (K : cS → Int32 → Int32 → Option ρ) : Nat → cS → Int32 → Int32 → Int32 → Option ρ
  | 0, _, _, _, _ => none
  | n + 1, σ, v4, v5, v7 => if v1 ≤ v7 then (K σ v4 v5) else (gd (nz (σ.1 999 0)) (((d_standsAs (vw2 σ 2000 1000)).bind fun σ_17 => x_summers_92 rs v1 v2 v3 v5 v7 (fun σ_27 v_28 => (x_summers_127 rs σ_27 v1 v2 v3 v_28 v7 (fun v_32 => (x_summers_73 rs v1 v2 v3 K n σ_27 v_28 v_32 (v7 + 1))) FU v5 0)) FU (pb2 σ 2000 1000 σ_17) v4 0)))
set_option maxHeartbeats 4000000 in
theorem wx_summers_73 {p : Program} {l : Launch} {e : Env} {s : State} {m : MethodId} {args : Array Value} {below : List Frame} {meth : Method} {c : Code} {g : gG} {A : Nat → Prop} {ad : Nat → Nat} {q : xR} (X : MX p s m args meth c cX0_summers 9 RX0 (some .int) g A) (had : xI_ ad) {rs : List RS} (hrs : RSok q.1 g rs) {ρ : Type} {res : ρ} {Q : State → Prop} {v1 : Int32} {v2 : Int32} {v3 : Int32}  {K : cS → Int32 → Int32 → Option ρ}
    (hK : ∀ (σ : cS) (k4 : Int32) (k5 : Int32) (H : Heap) (locs : List Loc) (ls : Array Slot), WB g A s.heap xIds ad (xE g ad q σ) H locs → lv_has ls 9 [(3, .int v3), (4, .int k4), (5, .int k5)] → K σ k4 k5 = some res → W p l e (rm_ 406 16346) s m args below meth c H locs 0 0 Q (F0 m 178 ls [])) :
    ∀ (n : Nat) (σ : cS) (v4 : Int32) (v5 : Int32) (v7 : Int32) (H : Heap) (locs : List Loc) (ls : Array Slot), WB g A s.heap xIds ad (xE g ad q σ) H locs → lv_has ls 9 [(0, .ref (ad 999)), (1, .int v1), (2, .int v2), (3, .int v3), (4, .int v4), (5, .int v5), (6, .ref (ad 2999)), (7, .int v7)] → x_summers_73 rs v1 v2 v3 K n σ v4 v5 v7 = some res → W p l e (rm_ 406 16346) s m args below meth c H locs 0 0 Q (F0 m 73 ls []) := by
  have hx := X.1.1
  have hb := X.1.2.1
  intro n
  induction n with
  | zero =>
    intro σ v4 v5 v7 H locs ls hW hl hf
    rw [x_summers_73] at hf
    cases hf
  | succ n ih =>
    intro σ v4 v5 v7 H locs ls hW hl hf
    rw [x_summers_73] at hf
    refine lv_iload hx hb dX0_summers_73 (lv_at hl 7 rfl) ?_
    refine lv_iload_n hx hb dX0_summers_75 rfl (lv_at hl 1 rfl) ?_
    refine lv_icmp_ge (tgt := 178) hx hb dX0_summers_76 (by decide) (fun c_14 => ?_) (fun c_14 => ?_)
    · replace hf := ip hf c_14
      exact hK _ _ _ _ _ _ hW (lv_sub hl [3, 4, 5] rfl) hf
    · replace hf := ine hf c_14
      refine lv_aload hx hb dX0_summers_79 (lv_at hl 6 rfl) ?_
      refine lv_aload_n hx hb dX0_summers_81 rfl (lv_at hl 0 rfl) ?_
      obtain ⟨z_15, hf⟩ := gd_e hf
      replace z_15 := nz_e z_15
      refine xg_0s X hW xm_999 z_15 dX0_summers_82 ?_
      obtain ⟨σ_17, h_16, hf⟩ := bd_e hf
      refine kx_standsAs X hW had (b := 2000) (c2 := 1000) (by decide) (by decide) (by decide) h_16 (by decide) hl (Nat.le_of_ble_eq_true rfl) dX0_summers_85 (fun H locs hW => ?_)
      refine lv_pop hx hb dX0_summers_88 rfl ?_
      refine lv_iconst (v := 0) hx hb dX0_summers_89 (by decide) ?_
      refine lv_istore (lv' := [(8, .int 0), (0, .ref (ad 999)), (1, .int v1), (2, .int v2), (3, .int v3), (4, .int v4), (5, .int v5), (6, .ref (ad 2999)), (7, .int v7)]) hx hb dX0_summers_90 hl (by decide) rfl (fun ls hl => ?_)
      refine wx_summers_92 X had hrs (fun σ_27 v_28 H locs ls hW hl hf => ?_) _ _ _ _ _ _ _ hW (lv_sub hl [1, 2, 3, 4, 5, 6, 7, 8, 0] rfl) hf
      refine lv_iconst (v := 0) hx hb dX0_summers_124 (by decide) ?_
      refine lv_istore (lv' := [(8, .int 0), (0, .ref (ad 999)), (1, .int v1), (2, .int v2), (3, .int v3), (4, .int v_28), (5, .int v5), (6, .ref (ad 2999)), (7, .int v7)]) hx hb dX0_summers_125 hl (by decide) rfl (fun ls hl => ?_)
      refine wx_summers_127 X had hrs (fun v_32 H locs ls hW hl hf => ?_) _ _ _ _ _ _ hW (lv_sub hl [1, 2, 3, 4, 5, 6, 7, 8, 0] rfl) hf
      refine lv_iinc (v := (v7 + 1)) (lv' := [(7, .int (v7 + 1)), (0, .ref (ad 999)), (1, .int v1), (2, .int v2), (3, .int v3), (4, .int v_28), (5, .int v_32), (6, .ref (ad 2999))]) hx hb dX0_summers_172 hl (k := 7) rfl (ii_v _ _ _ (by decide)) (by decide) rfl (fun ls hl => ?_)
      refine lv_goto (tgt := 73) hx hb dX0_summers_175 (by decide) ?_
      exact ih _ _ _ _ _ _ _ hW (lv_sub hl [1, 2, 3, 4, 5, 6, 7, 0] rfl) hf
noncomputable def x_summers (σ : cS) (rs : List RS) (v1 : Int32) (v2 : Int32) (v3 : Int32) : Option (cS × Int32) :=
  if (σ.1 999 0) = 0 then (some (σ, (-1))) else (((x_in v1.toInt64 1 10).bind fun r_3 => if r_3 = 0 then (some (σ, (-1))) else (((x_in v2.toInt64 1 60).bind fun r_6 => if r_6 = 0 then (some (σ, (-1))) else (((x_in v3.toInt64 0 1).bind fun r_9 => if r_9 = 0 then (some (σ, (-1))) else (gd (nz ((si σ 999 23 (σ.1 999 6)).1 999 0)) (((d_copies (vw2 (si σ 999 23 (σ.1 999 6)) 2000 1000)).bind fun σ_13 => x_summers_73 rs v1 v2 v3 (fun σ_33 v_34 v_35 => (if v3 = 0 then (some (σ_33, v_34)) else (some (σ_33, v_35)))) FU (pb2 (si σ 999 23 (σ.1 999 6)) 2000 1000 σ_13) 0 0 0)))))))))
set_option maxHeartbeats 4000000 in
theorem wb_x_summers {p : Program} {l : Launch} {e : Env} {s : State} {m : MethodId} {args : Array Value} {below : List Frame} {meth : Method} {c : Code} {g : gG} {A : Nat → Prop} {ad : Nat → Nat} {q : xR} (X : MX p s m args meth c cX0_summers 9 RX0 (some .int) g A) (had : xI_ ad) {rs : List RS} (hrs : RSok q.1 g rs) {σr : cS} {r : Int32} {σ : cS} {v1 : Int32} {v2 : Int32} {v3 : Int32} {H : Heap} {locs : List Loc} {ls : Array Slot} (hW : WB g A s.heap xIds ad (xE g ad q σ) H locs) (hl : lv_has ls 9 [(0, .ref (ad 999)), (1, .int v1), (2, .int v2), (3, .int v3)]) (hf : x_summers σ rs v1 v2 v3 = some (σr, r)) : W p l e (rm_ 406 16346) s m args below meth c H locs 0 0 (Qm below g xIds ad (xE g ad q σr) (some (.int r)) A args s) (F0 m 0 ls []) := by
  have hx := X.1.1
  have hb := X.1.2.1
  unfold x_summers at hf
  refine lv_aload_n hx hb dX0_summers_0 rfl (lv_at hl 0 rfl) ?_
  refine xg_0 X hW xm_999 dX0_summers_1 ?_
  by_cases c_1 : (σ.1 999 0) = 0
  · replace hf := ip hf c_1
    rw [dn_n c_1]
    refine lv_ifnullN (tgt := 41) hx hb dX0_summers_4 (by decide) ?_
    refine lv_iconst (v := (-1)) hx hb dX0_summers_41 (by decide) ?_
    exact x_iret X hW hf dX0_summers_42
  · replace hf := ine hf c_1
    rw [dn_s c_1]
    refine lv_ifnull (x := ad 1999) hx hb dX0_summers_4 ?_
    refine lv_iload_n hx hb dX0_summers_7 rfl (lv_at hl 1 rfl) ?_
    refine lv_i2l (v := v1.toInt64) hx hb dX0_summers_8 rfl ?_
    refine lv_lconst (v := 1) hx hb dX0_summers_9 (by decide) ?_
    refine lv_ldc2 (v := 10) hx hb X.1.2.2.2.1 (X.1.2.2.2.2 _ q1098) dX0_summers_10 ?_
    obtain ⟨r_3, h_2, hf⟩ := bd_e hf
    refine kh_in X hW h_2 (by decide) hl (Nat.le_of_ble_eq_true rfl) dX0_summers_13 (fun H locs hW => ?_)
    refine lv_if_eq (tgt := 41) hx hb dX0_summers_16 (by decide) (fun c_4 => ?_) (fun c_4 => ?_)
    · replace hf := ip hf c_4
      refine lv_iconst (v := (-1)) hx hb dX0_summers_41 (by decide) ?_
      exact x_iret X hW hf dX0_summers_42
    · replace hf := ine hf c_4
      refine lv_iload_n hx hb dX0_summers_19 rfl (lv_at hl 2 rfl) ?_
      refine lv_i2l (v := v2.toInt64) hx hb dX0_summers_20 rfl ?_
      refine lv_lconst (v := 1) hx hb dX0_summers_21 (by decide) ?_
      refine lv_ldc2 (v := 60) hx hb X.1.2.2.2.1 (X.1.2.2.2.2 _ q1064) dX0_summers_22 ?_
      obtain ⟨r_6, h_5, hf⟩ := bd_e hf
      refine kh_in X hW h_5 (by decide) hl (Nat.le_of_ble_eq_true rfl) dX0_summers_25 (fun H locs hW => ?_)
      refine lv_if_eq (tgt := 41) hx hb dX0_summers_28 (by decide) (fun c_7 => ?_) (fun c_7 => ?_)
      · replace hf := ip hf c_7
        refine lv_iconst (v := (-1)) hx hb dX0_summers_41 (by decide) ?_
        exact x_iret X hW hf dX0_summers_42
      · replace hf := ine hf c_7
        refine lv_iload_n hx hb dX0_summers_31 rfl (lv_at hl 3 rfl) ?_
        refine lv_i2l (v := v3.toInt64) hx hb dX0_summers_32 rfl ?_
        refine lv_lconst (v := 0) hx hb dX0_summers_33 (by decide) ?_
        refine lv_lconst (v := 1) hx hb dX0_summers_34 (by decide) ?_
        obtain ⟨r_9, h_8, hf⟩ := bd_e hf
        refine kh_in X hW h_8 (by decide) hl (Nat.le_of_ble_eq_true rfl) dX0_summers_35 (fun H locs hW => ?_)
        refine lv_if_ne (tgt := 43) hx hb dX0_summers_38 (by decide) (fun c_10 => ?_) (fun c_10 => ?_)
        · replace hf := ine hf c_10
          refine lv_aload_n hx hb dX0_summers_43 rfl (lv_at hl 0 rfl) ?_
          refine lv_aload_n hx hb dX0_summers_44 rfl (lv_at hl 0 rfl) ?_
          refine xg_6 X hW xm_999 dX0_summers_45 ?_
          refine xp_23 X hW xm_999 dX0_summers_48 (fun H locs hW => ?_)
          refine lv_iconst (v := 0) hx hb dX0_summers_51 (by decide) ?_
          refine lv_istore (lv' := [(4, .int 0), (0, .ref (ad 999)), (1, .int v1), (2, .int v2), (3, .int v3)]) hx hb dX0_summers_52 hl (by decide) rfl (fun ls hl => ?_)
          refine lv_iconst (v := 0) hx hb dX0_summers_54 (by decide) ?_
          refine lv_istore (lv' := [(5, .int 0), (4, .int 0), (0, .ref (ad 999)), (1, .int v1), (2, .int v2), (3, .int v3)]) hx hb dX0_summers_55 hl (by decide) rfl (fun ls hl => ?_)
          refine lv_aload_n hx hb dX0_summers_57 rfl (lv_at hl 2 rfl) ?_
          refine xg_2 X hW xm_999 dX0_summers_58 ?_
          refine lv_aload_n hx hb dX0_summers_61 rfl (lv_at hl 2 rfl) ?_
          obtain ⟨z_11, hf⟩ := gd_e hf
          replace z_11 := nz_e z_11
          refine xg_0s X hW xm_999 z_11 dX0_summers_62 ?_
          obtain ⟨σ_13, h_12, hf⟩ := bd_e hf
          refine kx_copies X hW had (b := 2000) (c2 := 1000) (by decide) (by decide) (by decide) h_12 (by decide) hl (Nat.le_of_ble_eq_true rfl) dX0_summers_65 (fun H locs hW => ?_)
          refine lv_astore (lv' := [(6, .ref (ad 2999)), (5, .int 0), (4, .int 0), (0, .ref (ad 999)), (1, .int v1), (2, .int v2), (3, .int v3)]) hx hb dX0_summers_68 hl (by decide) rfl (fun ls hl => ?_)
          refine lv_iconst (v := 0) hx hb dX0_summers_70 (by decide) ?_
          refine lv_istore (lv' := [(7, .int 0), (6, .ref (ad 2999)), (5, .int 0), (4, .int 0), (0, .ref (ad 999)), (1, .int v1), (2, .int v2), (3, .int v3)]) hx hb dX0_summers_71 hl (by decide) rfl (fun ls hl => ?_)
          refine wx_summers_73 X had hrs (fun σ_33 v_34 v_35 H locs ls hW hl hf => ?_) _ _ _ _ _ _ _ _ hW (lv_sub hl [4, 5, 6, 7, 3, 2, 1, 0] rfl) hf
          refine lv_iload_n hx hb dX0_summers_178 rfl (lv_at hl 0 rfl) ?_
          refine lv_if_ne (tgt := 187) hx hb dX0_summers_179 (by decide) (fun c_36 => ?_) (fun c_36 => ?_)
          · replace hf := ine hf c_36
            refine lv_iload hx hb dX0_summers_187 (lv_at hl 2 rfl) ?_
            exact x_iret X hW hf dX0_summers_189
          · replace hf := ip hf c_36
            refine lv_iload hx hb dX0_summers_182 (lv_at hl 1 rfl) ?_
            refine lv_goto (tgt := 189) hx hb dX0_summers_184 (by decide) ?_
            exact x_iret X hW hf dX0_summers_189
        · replace hf := ip hf c_10
          refine lv_iconst (v := (-1)) hx hb dX0_summers_41 (by decide) ?_
          exact x_iret X hW hf dX0_summers_42
theorem w_x_summers (l : Launch) {g : gG} {ad : Nat → Nat} {q : xR} (had : xI_ ad) {rs : List RS} (hrs : RSok q.1 g rs) {σr : cS} {r : Int32} {σ : cS} {v1 : Int32} {v2 : Int32} {v3 : Int32} (hf : x_summers σ rs v1 v2 v3 = some (σr, r)) : MC l yX0_summers cX0_summers 9 (some .int) 406 16346 g xIds ad (xE g ad q σ) (xE g ad q σr) [.ref (ad 999), .int v1, .int v2, .int v3] (some (.int r)) :=
  MC.of (by decide) xIds_nd had (Nat.le_of_ble_eq_true rfl) (fun p e s m below meth c A ls X hW hl => wb_x_summers X had hrs hW hl hf)
-- count
noncomputable def x_count_202 {ρ : Type} (σ : cS) (K : Int32 → Option ρ) : Nat → Int32 → Int32 → Option ρ
  | 0, _, _ => none
  | n + 1, v2, v3 => gd (nz (σ.1 999 0)) (if (σ.1 1999 2) ≤ v3 then (K v2) else (gd (inb v3 8) (x_count_202 σ K n (v2 + (σ.1 1019 (ix v3))) (v3 + 1))))
set_option maxHeartbeats 4000000 in
theorem wx_count_202 {p : Program} {l : Launch} {e : Env} {s : State} {m : MethodId} {args : Array Value} {below : List Frame} {meth : Method} {c : Code} {g : gG} {A : Nat → Prop} {ad : Nat → Nat} {q : xR} (X : MX p s m args meth c cX0_count 4 RX0 (some .int) g A) (had : xI_ ad) {ρ : Type} {res : ρ} {Q : State → Prop}  {σ : cS}  {K : Int32 → Option ρ}
    (hK : ∀ (k2 : Int32) (H : Heap) (locs : List Loc) (ls : Array Slot), WB g A s.heap xIds ad (xE g ad q σ) H locs → lv_has ls 4 [(2, .int k2)] → K k2 = some res → W p l e (rm_ 4 100) s m args below meth c H locs 0 0 Q (F0 m 231 ls [])) :
    ∀ (n : Nat) (v2 : Int32) (v3 : Int32) (H : Heap) (locs : List Loc) (ls : Array Slot), WB g A s.heap xIds ad (xE g ad q σ) H locs → lv_has ls 4 [(0, .ref (ad 999)), (2, .int v2), (3, .int v3)] → x_count_202 σ K n v2 v3 = some res → W p l e (rm_ 4 100) s m args below meth c H locs 0 0 Q (F0 m 202 ls []) := by
  have hx := X.1.1
  have hb := X.1.2.1
  intro n
  induction n with
  | zero =>
    intro v2 v3 H locs ls hW hl hf
    rw [x_count_202] at hf
    cases hf
  | succ n ih =>
    intro v2 v3 H locs ls hW hl hf
    rw [x_count_202] at hf
    refine lv_iload_n hx hb dX0_count_202 rfl (lv_at hl 2 rfl) ?_
    refine lv_aload_n hx hb dX0_count_203 rfl (lv_at hl 0 rfl) ?_
    obtain ⟨z_17, hf⟩ := gd_e hf
    replace z_17 := nz_e z_17
    refine xg_0s X hW xm_999 z_17 dX0_count_204 ?_
    refine xg_1002 X hW xm_1999 dX0_count_207 ?_
    refine lv_icmp_ge (tgt := 231) hx hb dX0_count_210 (by decide) (fun c_18 => ?_) (fun c_18 => ?_)
    · replace hf := ip hf c_18
      exact hK _ _ _ _ hW (lv_sub hl [1] rfl) hf
    · replace hf := ine hf c_18
      refine lv_iload_n hx hb dX0_count_213 rfl (lv_at hl 1 rfl) ?_
      refine lv_aload_n hx hb dX0_count_214 rfl (lv_at hl 0 rfl) ?_
      refine xg_0s X hW xm_999 z_17 dX0_count_215 ?_
      refine xg_1019 X hW xm_1999 dX0_count_218 ?_
      refine lv_iload_n hx hb dX0_count_221 rfl (lv_at hl 2 rfl) ?_
      obtain ⟨h_19, hf⟩ := gd_e hf
      refine xl_1019 X hW xm_1019 h_19 dX0_count_222 ?_
      refine lv_iadd hx hb dX0_count_223 ?_
      refine lv_istore_n (lv' := [(2, .int (v2 + (σ.1 1019 (ix v3)))), (0, .ref (ad 999)), (3, .int v3)]) hx hb dX0_count_224 rfl hl (by decide) rfl (fun ls hl => ?_)
      refine lv_iinc (v := (v3 + 1)) (lv' := [(3, .int (v3 + 1)), (2, .int (v2 + (σ.1 1019 (ix v3)))), (0, .ref (ad 999))]) hx hb dX0_count_225 hl (k := 2) rfl (ii_v _ _ _ (by decide)) (by decide) rfl (fun ls hl => ?_)
      refine lv_goto (tgt := 202) hx hb dX0_count_228 (by decide) ?_
      exact ih _ _ _ _ _ hW (lv_sub hl [2, 1, 0] rfl) hf
noncomputable def x_count (σ : cS) (v1 : Int32) : Option (Int32) :=
  if v1 = 4 then (some (σ.1 999 15)) else (if v1 = 5 then (some (σ.1 999 7)) else (if v1 = 6 then (((x_in v1.toInt64 0 12).bind fun r_5 => if r_5 = 0 then (some (-1)) else (if (σ.1 999 0) = 0 then (some 0) else (if v1 = 0 then (some (σ.1 1999 0)) else (if v1 = 1 then (some (σ.1 1999 1)) else (if v1 = 2 then (some (σ.1 1999 2)) else (if v1 = 3 then (some (σ.1 1999 3)) else (if v1 = 4 then (some (σ.1 1999 5)) else (if v1 = 5 then (some (σ.1 1999 5)) else (if v1 = 6 then (some (σ.1 1999 8)) else (if v1 = 7 then (some (σ.1 1999 7)) else (if v1 = 8 then (x_count_202 σ (fun v_20 => (some v_20)) FU 0 0) else (if v1 = 9 then (some (σ.1 1999 4)) else (some (σ.1 1999 5))))))))))))))) else (if v1 = 7 then (((x_in v1.toInt64 0 12).bind fun r_24 => if r_24 = 0 then (some (-1)) else (if (σ.1 999 0) = 0 then (some 0) else (if v1 = 0 then (some (σ.1 1999 0)) else (if v1 = 1 then (some (σ.1 1999 1)) else (if v1 = 2 then (some (σ.1 1999 2)) else (if v1 = 3 then (some (σ.1 1999 3)) else (if v1 = 4 then (some (σ.1 1999 5)) else (if v1 = 5 then (some (σ.1 1999 5)) else (if v1 = 6 then (some (σ.1 1999 8)) else (if v1 = 7 then (some (σ.1 1999 7)) else (if v1 = 8 then (x_count_202 σ (fun v_36 => (some v_36)) FU 0 0) else (if v1 = 9 then (some (σ.1 1999 4)) else (some (σ.1 1999 5))))))))))))))) else (if v1 = 8 then (((x_in v1.toInt64 0 12).bind fun r_40 => if r_40 = 0 then (some (-1)) else (if (σ.1 999 0) = 0 then (some 0) else (if v1 = 0 then (some (σ.1 1999 0)) else (if v1 = 1 then (some (σ.1 1999 1)) else (if v1 = 2 then (some (σ.1 1999 2)) else (if v1 = 3 then (some (σ.1 1999 3)) else (if v1 = 4 then (some (σ.1 1999 5)) else (if v1 = 5 then (some (σ.1 1999 5)) else (if v1 = 6 then (some (σ.1 1999 8)) else (if v1 = 7 then (some (σ.1 1999 7)) else (if v1 = 8 then (x_count_202 σ (fun v_52 => (some v_52)) FU 0 0) else (if v1 = 9 then (some (σ.1 1999 4)) else (some (σ.1 1999 5))))))))))))))) else (if v1 = 9 then (((x_in v1.toInt64 0 12).bind fun r_56 => if r_56 = 0 then (some (-1)) else (if (σ.1 999 0) = 0 then (some 0) else (if v1 = 0 then (some (σ.1 1999 0)) else (if v1 = 1 then (some (σ.1 1999 1)) else (if v1 = 2 then (some (σ.1 1999 2)) else (if v1 = 3 then (some (σ.1 1999 3)) else (if v1 = 4 then (some (σ.1 1999 5)) else (if v1 = 5 then (some (σ.1 1999 5)) else (if v1 = 6 then (some (σ.1 1999 8)) else (if v1 = 7 then (some (σ.1 1999 7)) else (if v1 = 8 then (x_count_202 σ (fun v_68 => (some v_68)) FU 0 0) else (if v1 = 9 then (some (σ.1 1999 4)) else (some (σ.1 1999 5))))))))))))))) else (if v1 = 10 then (((x_in v1.toInt64 0 12).bind fun r_72 => if r_72 = 0 then (some (-1)) else (if (σ.1 999 0) = 0 then (some 0) else (if v1 = 0 then (some (σ.1 1999 0)) else (if v1 = 1 then (some (σ.1 1999 1)) else (if v1 = 2 then (some (σ.1 1999 2)) else (if v1 = 3 then (some (σ.1 1999 3)) else (if v1 = 4 then (some (σ.1 1999 5)) else (if v1 = 5 then (some (σ.1 1999 5)) else (if v1 = 6 then (some (σ.1 1999 8)) else (if v1 = 7 then (some (σ.1 1999 7)) else (if v1 = 8 then (x_count_202 σ (fun v_84 => (some v_84)) FU 0 0) else (if v1 = 9 then (some (σ.1 1999 4)) else (some (σ.1 1999 5))))))))))))))) else (if v1 = 11 then (some (σ.1 999 6)) else (if v1 = 12 then (some (σ.1 999 10)) else (((x_in v1.toInt64 0 12).bind fun r_89 => if r_89 = 0 then (some (-1)) else (if (σ.1 999 0) = 0 then (some 0) else (if v1 = 0 then (some (σ.1 1999 0)) else (if v1 = 1 then (some (σ.1 1999 1)) else (if v1 = 2 then (some (σ.1 1999 2)) else (if v1 = 3 then (some (σ.1 1999 3)) else (if v1 = 4 then (some (σ.1 1999 5)) else (if v1 = 5 then (some (σ.1 1999 5)) else (if v1 = 6 then (some (σ.1 1999 8)) else (if v1 = 7 then (some (σ.1 1999 7)) else (if v1 = 8 then (x_count_202 σ (fun v_101 => (some v_101)) FU 0 0) else (if v1 = 9 then (some (σ.1 1999 4)) else (some (σ.1 1999 5)))))))))))))))))))))))
set_option maxHeartbeats 4000000 in
theorem wb_x_count {p : Program} {l : Launch} {e : Env} {s : State} {m : MethodId} {args : Array Value} {below : List Frame} {meth : Method} {c : Code} {g : gG} {A : Nat → Prop} {ad : Nat → Nat} {q : xR} (X : MX p s m args meth c cX0_count 4 RX0 (some .int) g A) (had : xI_ ad) {r : Int32} {σ : cS} {v1 : Int32} {H : Heap} {locs : List Loc} {ls : Array Slot} (hW : WB g A s.heap xIds ad (xE g ad q σ) H locs) (hl : lv_has ls 4 [(0, .ref (ad 999)), (1, .int v1)]) (hf : x_count σ v1 = some r) : W p l e (rm_ 4 100) s m args below meth c H locs 0 0 (Qm below g xIds ad (xE g ad q σ) (some (.int r)) A args s) (F0 m 0 ls []) := by
  have hx := X.1.1
  have hb := X.1.2.1
  unfold x_count at hf
  refine lv_iload_n hx hb dX0_count_0 rfl (lv_at hl 1 rfl) ?_
  by_cases c_1 : v1 = 4
  · replace hf := ip hf c_1
    refine r_tabIn (tgt := 52) (off := 51) (k := 4) hx hb c_1 dX0_count_1 (by decide) (by decide) rfl (by decide) ?_
    refine lv_aload_n hx hb dX0_count_52 rfl (lv_at hl 0 rfl) ?_
    refine xg_15 X hW xm_999 dX0_count_53 ?_
    exact p_iret X hW hf dX0_count_56
  · replace hf := ine hf c_1
    by_cases c_2 : v1 = 5
    · replace hf := ip hf c_2
      refine r_tabIn (tgt := 57) (off := 56) (k := 5) hx hb c_2 dX0_count_1 (by decide) (by decide) rfl (by decide) ?_
      refine lv_aload_n hx hb dX0_count_57 rfl (lv_at hl 0 rfl) ?_
      refine xg_7 X hW xm_999 dX0_count_58 ?_
      exact p_iret X hW hf dX0_count_61
    · replace hf := ine hf c_2
      by_cases c_3 : v1 = 6
      · replace hf := ip hf c_3
        refine r_tabIn (tgt := 72) (off := 71) (k := 6) hx hb c_3 dX0_count_1 (by decide) (by decide) rfl (by decide) ?_
        refine lv_iload_n hx hb dX0_count_72 rfl (lv_at hl 1 rfl) ?_
        refine lv_i2l (v := v1.toInt64) hx hb dX0_count_73 rfl ?_
        refine lv_lconst (v := 0) hx hb dX0_count_74 (by decide) ?_
        refine lv_ldc2 (v := 12) hx hb X.1.2.2.2.1 (X.1.2.2.2.2 _ q1113) dX0_count_75 ?_
        obtain ⟨r_5, h_4, hf⟩ := bd_e hf
        refine kh_in X hW h_4 (by decide) hl (Nat.le_of_ble_eq_true rfl) dX0_count_78 (fun H locs hW => ?_)
        refine lv_if_ne (tgt := 86) hx hb dX0_count_81 (by decide) (fun c_6 => ?_) (fun c_6 => ?_)
        · replace hf := ine hf c_6
          refine lv_aload_n hx hb dX0_count_86 rfl (lv_at hl 0 rfl) ?_
          refine xg_0 X hW xm_999 dX0_count_87 ?_
          by_cases c_7 : (σ.1 999 0) = 0
          · replace hf := ip hf c_7
            rw [dn_n c_7]
            refine lv_ifnonnullN hx hb dX0_count_90 ?_
            refine lv_iconst (v := 0) hx hb dX0_count_93 (by decide) ?_
            exact p_iret X hW hf dX0_count_94
          · replace hf := ine hf c_7
            rw [dn_s c_7]
            refine lv_ifnonnull (x := ad 1999) (tgt := 95) hx hb dX0_count_90 (by decide) ?_
            refine lv_iconst (v := 0) hx hb dX0_count_95 (by decide) ?_
            refine lv_istore_n (lv' := [(2, .int 0), (0, .ref (ad 999)), (1, .int v1)]) hx hb dX0_count_96 rfl hl (by decide) rfl (fun ls hl => ?_)
            refine lv_iload_n hx hb dX0_count_97 rfl (lv_at hl 2 rfl) ?_
            by_cases c_8 : v1 = 0
            · replace hf := ip hf c_8
              refine r_tabIn (tgt := 152) (off := 54) (k := 0) hx hb c_8 dX0_count_98 (by decide) (by decide) rfl (by decide) ?_
              refine lv_aload_n hx hb dX0_count_152 rfl (lv_at hl 1 rfl) ?_
              refine xg_0s X hW xm_999 c_7 dX0_count_153 ?_
              refine xg_1000 X hW xm_1999 dX0_count_156 ?_
              exact p_iret X hW hf dX0_count_159
            · replace hf := ine hf c_8
              by_cases c_9 : v1 = 1
              · replace hf := ip hf c_9
                refine r_tabIn (tgt := 160) (off := 62) (k := 1) hx hb c_9 dX0_count_98 (by decide) (by decide) rfl (by decide) ?_
                refine lv_aload_n hx hb dX0_count_160 rfl (lv_at hl 1 rfl) ?_
                refine xg_0s X hW xm_999 c_7 dX0_count_161 ?_
                refine xg_1001 X hW xm_1999 dX0_count_164 ?_
                exact p_iret X hW hf dX0_count_167
              · replace hf := ine hf c_9
                by_cases c_10 : v1 = 2
                · replace hf := ip hf c_10
                  refine r_tabIn (tgt := 168) (off := 70) (k := 2) hx hb c_10 dX0_count_98 (by decide) (by decide) rfl (by decide) ?_
                  refine lv_aload_n hx hb dX0_count_168 rfl (lv_at hl 1 rfl) ?_
                  refine xg_0s X hW xm_999 c_7 dX0_count_169 ?_
                  refine xg_1002 X hW xm_1999 dX0_count_172 ?_
                  exact p_iret X hW hf dX0_count_175
                · replace hf := ine hf c_10
                  by_cases c_11 : v1 = 3
                  · replace hf := ip hf c_11
                    refine r_tabIn (tgt := 176) (off := 78) (k := 3) hx hb c_11 dX0_count_98 (by decide) (by decide) rfl (by decide) ?_
                    refine lv_aload_n hx hb dX0_count_176 rfl (lv_at hl 1 rfl) ?_
                    refine xg_0s X hW xm_999 c_7 dX0_count_177 ?_
                    refine xg_1003 X hW xm_1999 dX0_count_180 ?_
                    exact p_iret X hW hf dX0_count_183
                  · replace hf := ine hf c_11
                    by_cases c_12 : v1 = 4
                    · replace hf := ip hf c_12
                      refine r_tabIn (tgt := 241) (off := 143) (k := 4) hx hb c_12 dX0_count_98 (by decide) (by decide) rfl (by decide) ?_
                      refine lv_aload_n hx hb dX0_count_241 rfl (lv_at hl 1 rfl) ?_
                      refine xg_0s X hW xm_999 c_7 dX0_count_242 ?_
                      refine xg_1005 X hW xm_1999 dX0_count_245 ?_
                      exact p_iret X hW hf dX0_count_248
                    · replace hf := ine hf c_12
                      by_cases c_13 : v1 = 5
                      · replace hf := ip hf c_13
                        refine r_tabIn (tgt := 241) (off := 143) (k := 5) hx hb c_13 dX0_count_98 (by decide) (by decide) rfl (by decide) ?_
                        refine lv_aload_n hx hb dX0_count_241 rfl (lv_at hl 1 rfl) ?_
                        refine xg_0s X hW xm_999 c_7 dX0_count_242 ?_
                        refine xg_1005 X hW xm_1999 dX0_count_245 ?_
                        exact p_iret X hW hf dX0_count_248
                      · replace hf := ine hf c_13
                        by_cases c_14 : v1 = 6
                        · replace hf := ip hf c_14
                          refine r_tabIn (tgt := 184) (off := 86) (k := 6) hx hb c_14 dX0_count_98 (by decide) (by decide) rfl (by decide) ?_
                          refine lv_aload_n hx hb dX0_count_184 rfl (lv_at hl 1 rfl) ?_
                          refine xg_0s X hW xm_999 c_7 dX0_count_185 ?_
                          refine xg_1008 X hW xm_1999 dX0_count_188 ?_
                          exact p_iret X hW hf dX0_count_191
                        · replace hf := ine hf c_14
                          by_cases c_15 : v1 = 7
                          · replace hf := ip hf c_15
                            refine r_tabIn (tgt := 192) (off := 94) (k := 7) hx hb c_15 dX0_count_98 (by decide) (by decide) rfl (by decide) ?_
                            refine lv_aload_n hx hb dX0_count_192 rfl (lv_at hl 1 rfl) ?_
                            refine xg_0s X hW xm_999 c_7 dX0_count_193 ?_
                            refine xg_1007 X hW xm_1999 dX0_count_196 ?_
                            exact p_iret X hW hf dX0_count_199
                          · replace hf := ine hf c_15
                            by_cases c_16 : v1 = 8
                            · replace hf := ip hf c_16
                              refine r_tabIn (tgt := 200) (off := 102) (k := 8) hx hb c_16 dX0_count_98 (by decide) (by decide) rfl (by decide) ?_
                              refine lv_iconst (v := 0) hx hb dX0_count_200 (by decide) ?_
                              refine lv_istore_n (lv' := [(3, .int 0), (2, .int 0), (0, .ref (ad 999)), (1, .int v1)]) hx hb dX0_count_201 rfl hl (by decide) rfl (fun ls hl => ?_)
                              refine wx_count_202 X had (fun v_20 H locs ls hW hl hf => ?_) _ _ _ _ _ _ hW (lv_sub hl [2, 1, 0] rfl) hf
                              refine lv_iload_n hx hb dX0_count_231 rfl (lv_at hl 0 rfl) ?_
                              exact p_iret X hW hf dX0_count_232
                            · replace hf := ine hf c_16
                              by_cases c_21 : v1 = 9
                              · replace hf := ip hf c_21
                                refine r_tabIn (tgt := 233) (off := 135) (k := 9) hx hb c_21 dX0_count_98 (by decide) (by decide) rfl (by decide) ?_
                                refine lv_aload_n hx hb dX0_count_233 rfl (lv_at hl 1 rfl) ?_
                                refine xg_0s X hW xm_999 c_7 dX0_count_234 ?_
                                refine xg_1004 X hW xm_1999 dX0_count_237 ?_
                                exact p_iret X hW hf dX0_count_240
                              · replace hf := ine hf c_21
                                refine lv_tableOut (tgt := 241) hx hb dX0_count_98 (by have := lv_neT c_8 (a := 0) rfl; have := lv_neT c_9 (a := 1) rfl; have := lv_neT c_10 (a := 2) rfl; have := lv_neT c_11 (a := 3) rfl; have := lv_neT c_12 (a := 4) rfl; have := lv_neT c_13 (a := 5) rfl; have := lv_neT c_14 (a := 6) rfl; have := lv_neT c_15 (a := 7) rfl; have := lv_neT c_16 (a := 8) rfl; have := lv_neT c_21 (a := 9) rfl; omega) (by decide) ?_
                                refine lv_aload_n hx hb dX0_count_241 rfl (lv_at hl 1 rfl) ?_
                                refine xg_0s X hW xm_999 c_7 dX0_count_242 ?_
                                refine xg_1005 X hW xm_1999 dX0_count_245 ?_
                                exact p_iret X hW hf dX0_count_248
        · replace hf := ip hf c_6
          refine lv_iconst (v := (-1)) hx hb dX0_count_84 (by decide) ?_
          exact p_iret X hW hf dX0_count_85
      · replace hf := ine hf c_3
        by_cases c_22 : v1 = 7
        · replace hf := ip hf c_22
          refine r_tabIn (tgt := 72) (off := 71) (k := 7) hx hb c_22 dX0_count_1 (by decide) (by decide) rfl (by decide) ?_
          refine lv_iload_n hx hb dX0_count_72 rfl (lv_at hl 1 rfl) ?_
          refine lv_i2l (v := v1.toInt64) hx hb dX0_count_73 rfl ?_
          refine lv_lconst (v := 0) hx hb dX0_count_74 (by decide) ?_
          refine lv_ldc2 (v := 12) hx hb X.1.2.2.2.1 (X.1.2.2.2.2 _ q1113) dX0_count_75 ?_
          obtain ⟨r_24, h_23, hf⟩ := bd_e hf
          refine kh_in X hW h_23 (by decide) hl (Nat.le_of_ble_eq_true rfl) dX0_count_78 (fun H locs hW => ?_)
          refine lv_if_ne (tgt := 86) hx hb dX0_count_81 (by decide) (fun c_25 => ?_) (fun c_25 => ?_)
          · replace hf := ine hf c_25
            refine lv_aload_n hx hb dX0_count_86 rfl (lv_at hl 0 rfl) ?_
            refine xg_0 X hW xm_999 dX0_count_87 ?_
            by_cases c_26 : (σ.1 999 0) = 0
            · replace hf := ip hf c_26
              rw [dn_n c_26]
              refine lv_ifnonnullN hx hb dX0_count_90 ?_
              refine lv_iconst (v := 0) hx hb dX0_count_93 (by decide) ?_
              exact p_iret X hW hf dX0_count_94
            · replace hf := ine hf c_26
              rw [dn_s c_26]
              refine lv_ifnonnull (x := ad 1999) (tgt := 95) hx hb dX0_count_90 (by decide) ?_
              refine lv_iconst (v := 0) hx hb dX0_count_95 (by decide) ?_
              refine lv_istore_n (lv' := [(2, .int 0), (0, .ref (ad 999)), (1, .int v1)]) hx hb dX0_count_96 rfl hl (by decide) rfl (fun ls hl => ?_)
              refine lv_iload_n hx hb dX0_count_97 rfl (lv_at hl 2 rfl) ?_
              by_cases c_27 : v1 = 0
              · replace hf := ip hf c_27
                refine r_tabIn (tgt := 152) (off := 54) (k := 0) hx hb c_27 dX0_count_98 (by decide) (by decide) rfl (by decide) ?_
                refine lv_aload_n hx hb dX0_count_152 rfl (lv_at hl 1 rfl) ?_
                refine xg_0s X hW xm_999 c_26 dX0_count_153 ?_
                refine xg_1000 X hW xm_1999 dX0_count_156 ?_
                exact p_iret X hW hf dX0_count_159
              · replace hf := ine hf c_27
                by_cases c_28 : v1 = 1
                · replace hf := ip hf c_28
                  refine r_tabIn (tgt := 160) (off := 62) (k := 1) hx hb c_28 dX0_count_98 (by decide) (by decide) rfl (by decide) ?_
                  refine lv_aload_n hx hb dX0_count_160 rfl (lv_at hl 1 rfl) ?_
                  refine xg_0s X hW xm_999 c_26 dX0_count_161 ?_
                  refine xg_1001 X hW xm_1999 dX0_count_164 ?_
                  exact p_iret X hW hf dX0_count_167
                · replace hf := ine hf c_28
                  by_cases c_29 : v1 = 2
                  · replace hf := ip hf c_29
                    refine r_tabIn (tgt := 168) (off := 70) (k := 2) hx hb c_29 dX0_count_98 (by decide) (by decide) rfl (by decide) ?_
                    refine lv_aload_n hx hb dX0_count_168 rfl (lv_at hl 1 rfl) ?_
                    refine xg_0s X hW xm_999 c_26 dX0_count_169 ?_
                    refine xg_1002 X hW xm_1999 dX0_count_172 ?_
                    exact p_iret X hW hf dX0_count_175
                  · replace hf := ine hf c_29
                    by_cases c_30 : v1 = 3
                    · replace hf := ip hf c_30
                      refine r_tabIn (tgt := 176) (off := 78) (k := 3) hx hb c_30 dX0_count_98 (by decide) (by decide) rfl (by decide) ?_
                      refine lv_aload_n hx hb dX0_count_176 rfl (lv_at hl 1 rfl) ?_
                      refine xg_0s X hW xm_999 c_26 dX0_count_177 ?_
                      refine xg_1003 X hW xm_1999 dX0_count_180 ?_
                      exact p_iret X hW hf dX0_count_183
                    · replace hf := ine hf c_30
                      by_cases c_31 : v1 = 4
                      · replace hf := ip hf c_31
                        refine r_tabIn (tgt := 241) (off := 143) (k := 4) hx hb c_31 dX0_count_98 (by decide) (by decide) rfl (by decide) ?_
                        refine lv_aload_n hx hb dX0_count_241 rfl (lv_at hl 1 rfl) ?_
                        refine xg_0s X hW xm_999 c_26 dX0_count_242 ?_
                        refine xg_1005 X hW xm_1999 dX0_count_245 ?_
                        exact p_iret X hW hf dX0_count_248
                      · replace hf := ine hf c_31
                        by_cases c_32 : v1 = 5
                        · replace hf := ip hf c_32
                          refine r_tabIn (tgt := 241) (off := 143) (k := 5) hx hb c_32 dX0_count_98 (by decide) (by decide) rfl (by decide) ?_
                          refine lv_aload_n hx hb dX0_count_241 rfl (lv_at hl 1 rfl) ?_
                          refine xg_0s X hW xm_999 c_26 dX0_count_242 ?_
                          refine xg_1005 X hW xm_1999 dX0_count_245 ?_
                          exact p_iret X hW hf dX0_count_248
                        · replace hf := ine hf c_32
                          by_cases c_33 : v1 = 6
                          · replace hf := ip hf c_33
                            refine r_tabIn (tgt := 184) (off := 86) (k := 6) hx hb c_33 dX0_count_98 (by decide) (by decide) rfl (by decide) ?_
                            refine lv_aload_n hx hb dX0_count_184 rfl (lv_at hl 1 rfl) ?_
                            refine xg_0s X hW xm_999 c_26 dX0_count_185 ?_
                            refine xg_1008 X hW xm_1999 dX0_count_188 ?_
                            exact p_iret X hW hf dX0_count_191
                          · replace hf := ine hf c_33
                            by_cases c_34 : v1 = 7
                            · replace hf := ip hf c_34
                              refine r_tabIn (tgt := 192) (off := 94) (k := 7) hx hb c_34 dX0_count_98 (by decide) (by decide) rfl (by decide) ?_
                              refine lv_aload_n hx hb dX0_count_192 rfl (lv_at hl 1 rfl) ?_
                              refine xg_0s X hW xm_999 c_26 dX0_count_193 ?_
                              refine xg_1007 X hW xm_1999 dX0_count_196 ?_
                              exact p_iret X hW hf dX0_count_199
                            · replace hf := ine hf c_34
                              by_cases c_35 : v1 = 8
                              · replace hf := ip hf c_35
                                refine r_tabIn (tgt := 200) (off := 102) (k := 8) hx hb c_35 dX0_count_98 (by decide) (by decide) rfl (by decide) ?_
                                refine lv_iconst (v := 0) hx hb dX0_count_200 (by decide) ?_
                                refine lv_istore_n (lv' := [(3, .int 0), (2, .int 0), (0, .ref (ad 999)), (1, .int v1)]) hx hb dX0_count_201 rfl hl (by decide) rfl (fun ls hl => ?_)
                                refine wx_count_202 X had (fun v_36 H locs ls hW hl hf => ?_) _ _ _ _ _ _ hW (lv_sub hl [2, 1, 0] rfl) hf
                                refine lv_iload_n hx hb dX0_count_231 rfl (lv_at hl 0 rfl) ?_
                                exact p_iret X hW hf dX0_count_232
                              · replace hf := ine hf c_35
                                by_cases c_37 : v1 = 9
                                · replace hf := ip hf c_37
                                  refine r_tabIn (tgt := 233) (off := 135) (k := 9) hx hb c_37 dX0_count_98 (by decide) (by decide) rfl (by decide) ?_
                                  refine lv_aload_n hx hb dX0_count_233 rfl (lv_at hl 1 rfl) ?_
                                  refine xg_0s X hW xm_999 c_26 dX0_count_234 ?_
                                  refine xg_1004 X hW xm_1999 dX0_count_237 ?_
                                  exact p_iret X hW hf dX0_count_240
                                · replace hf := ine hf c_37
                                  refine lv_tableOut (tgt := 241) hx hb dX0_count_98 (by have := lv_neT c_27 (a := 0) rfl; have := lv_neT c_28 (a := 1) rfl; have := lv_neT c_29 (a := 2) rfl; have := lv_neT c_30 (a := 3) rfl; have := lv_neT c_31 (a := 4) rfl; have := lv_neT c_32 (a := 5) rfl; have := lv_neT c_33 (a := 6) rfl; have := lv_neT c_34 (a := 7) rfl; have := lv_neT c_35 (a := 8) rfl; have := lv_neT c_37 (a := 9) rfl; omega) (by decide) ?_
                                  refine lv_aload_n hx hb dX0_count_241 rfl (lv_at hl 1 rfl) ?_
                                  refine xg_0s X hW xm_999 c_26 dX0_count_242 ?_
                                  refine xg_1005 X hW xm_1999 dX0_count_245 ?_
                                  exact p_iret X hW hf dX0_count_248
          · replace hf := ip hf c_25
            refine lv_iconst (v := (-1)) hx hb dX0_count_84 (by decide) ?_
            exact p_iret X hW hf dX0_count_85
        · replace hf := ine hf c_22
          by_cases c_38 : v1 = 8
          · replace hf := ip hf c_38
            refine r_tabIn (tgt := 72) (off := 71) (k := 8) hx hb c_38 dX0_count_1 (by decide) (by decide) rfl (by decide) ?_
            refine lv_iload_n hx hb dX0_count_72 rfl (lv_at hl 1 rfl) ?_
            refine lv_i2l (v := v1.toInt64) hx hb dX0_count_73 rfl ?_
            refine lv_lconst (v := 0) hx hb dX0_count_74 (by decide) ?_
            refine lv_ldc2 (v := 12) hx hb X.1.2.2.2.1 (X.1.2.2.2.2 _ q1113) dX0_count_75 ?_
            obtain ⟨r_40, h_39, hf⟩ := bd_e hf
            refine kh_in X hW h_39 (by decide) hl (Nat.le_of_ble_eq_true rfl) dX0_count_78 (fun H locs hW => ?_)
            refine lv_if_ne (tgt := 86) hx hb dX0_count_81 (by decide) (fun c_41 => ?_) (fun c_41 => ?_)
            · replace hf := ine hf c_41
              refine lv_aload_n hx hb dX0_count_86 rfl (lv_at hl 0 rfl) ?_
              refine xg_0 X hW xm_999 dX0_count_87 ?_
              by_cases c_42 : (σ.1 999 0) = 0
              · replace hf := ip hf c_42
                rw [dn_n c_42]
                refine lv_ifnonnullN hx hb dX0_count_90 ?_
                refine lv_iconst (v := 0) hx hb dX0_count_93 (by decide) ?_
                exact p_iret X hW hf dX0_count_94
              · replace hf := ine hf c_42
                rw [dn_s c_42]
                refine lv_ifnonnull (x := ad 1999) (tgt := 95) hx hb dX0_count_90 (by decide) ?_
                refine lv_iconst (v := 0) hx hb dX0_count_95 (by decide) ?_
                refine lv_istore_n (lv' := [(2, .int 0), (0, .ref (ad 999)), (1, .int v1)]) hx hb dX0_count_96 rfl hl (by decide) rfl (fun ls hl => ?_)
                refine lv_iload_n hx hb dX0_count_97 rfl (lv_at hl 2 rfl) ?_
                by_cases c_43 : v1 = 0
                · replace hf := ip hf c_43
                  refine r_tabIn (tgt := 152) (off := 54) (k := 0) hx hb c_43 dX0_count_98 (by decide) (by decide) rfl (by decide) ?_
                  refine lv_aload_n hx hb dX0_count_152 rfl (lv_at hl 1 rfl) ?_
                  refine xg_0s X hW xm_999 c_42 dX0_count_153 ?_
                  refine xg_1000 X hW xm_1999 dX0_count_156 ?_
                  exact p_iret X hW hf dX0_count_159
                · replace hf := ine hf c_43
                  by_cases c_44 : v1 = 1
                  · replace hf := ip hf c_44
                    refine r_tabIn (tgt := 160) (off := 62) (k := 1) hx hb c_44 dX0_count_98 (by decide) (by decide) rfl (by decide) ?_
                    refine lv_aload_n hx hb dX0_count_160 rfl (lv_at hl 1 rfl) ?_
                    refine xg_0s X hW xm_999 c_42 dX0_count_161 ?_
                    refine xg_1001 X hW xm_1999 dX0_count_164 ?_
                    exact p_iret X hW hf dX0_count_167
                  · replace hf := ine hf c_44
                    by_cases c_45 : v1 = 2
                    · replace hf := ip hf c_45
                      refine r_tabIn (tgt := 168) (off := 70) (k := 2) hx hb c_45 dX0_count_98 (by decide) (by decide) rfl (by decide) ?_
                      refine lv_aload_n hx hb dX0_count_168 rfl (lv_at hl 1 rfl) ?_
                      refine xg_0s X hW xm_999 c_42 dX0_count_169 ?_
                      refine xg_1002 X hW xm_1999 dX0_count_172 ?_
                      exact p_iret X hW hf dX0_count_175
                    · replace hf := ine hf c_45
                      by_cases c_46 : v1 = 3
                      · replace hf := ip hf c_46
                        refine r_tabIn (tgt := 176) (off := 78) (k := 3) hx hb c_46 dX0_count_98 (by decide) (by decide) rfl (by decide) ?_
                        refine lv_aload_n hx hb dX0_count_176 rfl (lv_at hl 1 rfl) ?_
                        refine xg_0s X hW xm_999 c_42 dX0_count_177 ?_
                        refine xg_1003 X hW xm_1999 dX0_count_180 ?_
                        exact p_iret X hW hf dX0_count_183
                      · replace hf := ine hf c_46
                        by_cases c_47 : v1 = 4
                        · replace hf := ip hf c_47
                          refine r_tabIn (tgt := 241) (off := 143) (k := 4) hx hb c_47 dX0_count_98 (by decide) (by decide) rfl (by decide) ?_
                          refine lv_aload_n hx hb dX0_count_241 rfl (lv_at hl 1 rfl) ?_
                          refine xg_0s X hW xm_999 c_42 dX0_count_242 ?_
                          refine xg_1005 X hW xm_1999 dX0_count_245 ?_
                          exact p_iret X hW hf dX0_count_248
                        · replace hf := ine hf c_47
                          by_cases c_48 : v1 = 5
                          · replace hf := ip hf c_48
                            refine r_tabIn (tgt := 241) (off := 143) (k := 5) hx hb c_48 dX0_count_98 (by decide) (by decide) rfl (by decide) ?_
                            refine lv_aload_n hx hb dX0_count_241 rfl (lv_at hl 1 rfl) ?_
                            refine xg_0s X hW xm_999 c_42 dX0_count_242 ?_
                            refine xg_1005 X hW xm_1999 dX0_count_245 ?_
                            exact p_iret X hW hf dX0_count_248
                          · replace hf := ine hf c_48
                            by_cases c_49 : v1 = 6
                            · replace hf := ip hf c_49
                              refine r_tabIn (tgt := 184) (off := 86) (k := 6) hx hb c_49 dX0_count_98 (by decide) (by decide) rfl (by decide) ?_
                              refine lv_aload_n hx hb dX0_count_184 rfl (lv_at hl 1 rfl) ?_
                              refine xg_0s X hW xm_999 c_42 dX0_count_185 ?_
                              refine xg_1008 X hW xm_1999 dX0_count_188 ?_
                              exact p_iret X hW hf dX0_count_191
                            · replace hf := ine hf c_49
                              by_cases c_50 : v1 = 7
                              · replace hf := ip hf c_50
                                refine r_tabIn (tgt := 192) (off := 94) (k := 7) hx hb c_50 dX0_count_98 (by decide) (by decide) rfl (by decide) ?_
                                refine lv_aload_n hx hb dX0_count_192 rfl (lv_at hl 1 rfl) ?_
                                refine xg_0s X hW xm_999 c_42 dX0_count_193 ?_
                                refine xg_1007 X hW xm_1999 dX0_count_196 ?_
                                exact p_iret X hW hf dX0_count_199
                              · replace hf := ine hf c_50
                                by_cases c_51 : v1 = 8
                                · replace hf := ip hf c_51
                                  refine r_tabIn (tgt := 200) (off := 102) (k := 8) hx hb c_51 dX0_count_98 (by decide) (by decide) rfl (by decide) ?_
                                  refine lv_iconst (v := 0) hx hb dX0_count_200 (by decide) ?_
                                  refine lv_istore_n (lv' := [(3, .int 0), (2, .int 0), (0, .ref (ad 999)), (1, .int v1)]) hx hb dX0_count_201 rfl hl (by decide) rfl (fun ls hl => ?_)
                                  refine wx_count_202 X had (fun v_52 H locs ls hW hl hf => ?_) _ _ _ _ _ _ hW (lv_sub hl [2, 1, 0] rfl) hf
                                  refine lv_iload_n hx hb dX0_count_231 rfl (lv_at hl 0 rfl) ?_
                                  exact p_iret X hW hf dX0_count_232
                                · replace hf := ine hf c_51
                                  by_cases c_53 : v1 = 9
                                  · replace hf := ip hf c_53
                                    refine r_tabIn (tgt := 233) (off := 135) (k := 9) hx hb c_53 dX0_count_98 (by decide) (by decide) rfl (by decide) ?_
                                    refine lv_aload_n hx hb dX0_count_233 rfl (lv_at hl 1 rfl) ?_
                                    refine xg_0s X hW xm_999 c_42 dX0_count_234 ?_
                                    refine xg_1004 X hW xm_1999 dX0_count_237 ?_
                                    exact p_iret X hW hf dX0_count_240
                                  · replace hf := ine hf c_53
                                    refine lv_tableOut (tgt := 241) hx hb dX0_count_98 (by have := lv_neT c_43 (a := 0) rfl; have := lv_neT c_44 (a := 1) rfl; have := lv_neT c_45 (a := 2) rfl; have := lv_neT c_46 (a := 3) rfl; have := lv_neT c_47 (a := 4) rfl; have := lv_neT c_48 (a := 5) rfl; have := lv_neT c_49 (a := 6) rfl; have := lv_neT c_50 (a := 7) rfl; have := lv_neT c_51 (a := 8) rfl; have := lv_neT c_53 (a := 9) rfl; omega) (by decide) ?_
                                    refine lv_aload_n hx hb dX0_count_241 rfl (lv_at hl 1 rfl) ?_
                                    refine xg_0s X hW xm_999 c_42 dX0_count_242 ?_
                                    refine xg_1005 X hW xm_1999 dX0_count_245 ?_
                                    exact p_iret X hW hf dX0_count_248
            · replace hf := ip hf c_41
              refine lv_iconst (v := (-1)) hx hb dX0_count_84 (by decide) ?_
              exact p_iret X hW hf dX0_count_85
          · replace hf := ine hf c_38
            by_cases c_54 : v1 = 9
            · replace hf := ip hf c_54
              refine r_tabIn (tgt := 72) (off := 71) (k := 9) hx hb c_54 dX0_count_1 (by decide) (by decide) rfl (by decide) ?_
              refine lv_iload_n hx hb dX0_count_72 rfl (lv_at hl 1 rfl) ?_
              refine lv_i2l (v := v1.toInt64) hx hb dX0_count_73 rfl ?_
              refine lv_lconst (v := 0) hx hb dX0_count_74 (by decide) ?_
              refine lv_ldc2 (v := 12) hx hb X.1.2.2.2.1 (X.1.2.2.2.2 _ q1113) dX0_count_75 ?_
              obtain ⟨r_56, h_55, hf⟩ := bd_e hf
              refine kh_in X hW h_55 (by decide) hl (Nat.le_of_ble_eq_true rfl) dX0_count_78 (fun H locs hW => ?_)
              refine lv_if_ne (tgt := 86) hx hb dX0_count_81 (by decide) (fun c_57 => ?_) (fun c_57 => ?_)
              · replace hf := ine hf c_57
                refine lv_aload_n hx hb dX0_count_86 rfl (lv_at hl 0 rfl) ?_
                refine xg_0 X hW xm_999 dX0_count_87 ?_
                by_cases c_58 : (σ.1 999 0) = 0
                · replace hf := ip hf c_58
                  rw [dn_n c_58]
                  refine lv_ifnonnullN hx hb dX0_count_90 ?_
                  refine lv_iconst (v := 0) hx hb dX0_count_93 (by decide) ?_
                  exact p_iret X hW hf dX0_count_94
                · replace hf := ine hf c_58
                  rw [dn_s c_58]
                  refine lv_ifnonnull (x := ad 1999) (tgt := 95) hx hb dX0_count_90 (by decide) ?_
                  refine lv_iconst (v := 0) hx hb dX0_count_95 (by decide) ?_
                  refine lv_istore_n (lv' := [(2, .int 0), (0, .ref (ad 999)), (1, .int v1)]) hx hb dX0_count_96 rfl hl (by decide) rfl (fun ls hl => ?_)
                  refine lv_iload_n hx hb dX0_count_97 rfl (lv_at hl 2 rfl) ?_
                  by_cases c_59 : v1 = 0
                  · replace hf := ip hf c_59
                    refine r_tabIn (tgt := 152) (off := 54) (k := 0) hx hb c_59 dX0_count_98 (by decide) (by decide) rfl (by decide) ?_
                    refine lv_aload_n hx hb dX0_count_152 rfl (lv_at hl 1 rfl) ?_
                    refine xg_0s X hW xm_999 c_58 dX0_count_153 ?_
                    refine xg_1000 X hW xm_1999 dX0_count_156 ?_
                    exact p_iret X hW hf dX0_count_159
                  · replace hf := ine hf c_59
                    by_cases c_60 : v1 = 1
                    · replace hf := ip hf c_60
                      refine r_tabIn (tgt := 160) (off := 62) (k := 1) hx hb c_60 dX0_count_98 (by decide) (by decide) rfl (by decide) ?_
                      refine lv_aload_n hx hb dX0_count_160 rfl (lv_at hl 1 rfl) ?_
                      refine xg_0s X hW xm_999 c_58 dX0_count_161 ?_
                      refine xg_1001 X hW xm_1999 dX0_count_164 ?_
                      exact p_iret X hW hf dX0_count_167
                    · replace hf := ine hf c_60
                      by_cases c_61 : v1 = 2
                      · replace hf := ip hf c_61
                        refine r_tabIn (tgt := 168) (off := 70) (k := 2) hx hb c_61 dX0_count_98 (by decide) (by decide) rfl (by decide) ?_
                        refine lv_aload_n hx hb dX0_count_168 rfl (lv_at hl 1 rfl) ?_
                        refine xg_0s X hW xm_999 c_58 dX0_count_169 ?_
                        refine xg_1002 X hW xm_1999 dX0_count_172 ?_
                        exact p_iret X hW hf dX0_count_175
                      · replace hf := ine hf c_61
                        by_cases c_62 : v1 = 3
                        · replace hf := ip hf c_62
                          refine r_tabIn (tgt := 176) (off := 78) (k := 3) hx hb c_62 dX0_count_98 (by decide) (by decide) rfl (by decide) ?_
                          refine lv_aload_n hx hb dX0_count_176 rfl (lv_at hl 1 rfl) ?_
                          refine xg_0s X hW xm_999 c_58 dX0_count_177 ?_
                          refine xg_1003 X hW xm_1999 dX0_count_180 ?_
                          exact p_iret X hW hf dX0_count_183
                        · replace hf := ine hf c_62
                          by_cases c_63 : v1 = 4
                          · replace hf := ip hf c_63
                            refine r_tabIn (tgt := 241) (off := 143) (k := 4) hx hb c_63 dX0_count_98 (by decide) (by decide) rfl (by decide) ?_
                            refine lv_aload_n hx hb dX0_count_241 rfl (lv_at hl 1 rfl) ?_
                            refine xg_0s X hW xm_999 c_58 dX0_count_242 ?_
                            refine xg_1005 X hW xm_1999 dX0_count_245 ?_
                            exact p_iret X hW hf dX0_count_248
                          · replace hf := ine hf c_63
                            by_cases c_64 : v1 = 5
                            · replace hf := ip hf c_64
                              refine r_tabIn (tgt := 241) (off := 143) (k := 5) hx hb c_64 dX0_count_98 (by decide) (by decide) rfl (by decide) ?_
                              refine lv_aload_n hx hb dX0_count_241 rfl (lv_at hl 1 rfl) ?_
                              refine xg_0s X hW xm_999 c_58 dX0_count_242 ?_
                              refine xg_1005 X hW xm_1999 dX0_count_245 ?_
                              exact p_iret X hW hf dX0_count_248
                            · replace hf := ine hf c_64
                              by_cases c_65 : v1 = 6
                              · replace hf := ip hf c_65
                                refine r_tabIn (tgt := 184) (off := 86) (k := 6) hx hb c_65 dX0_count_98 (by decide) (by decide) rfl (by decide) ?_
                                refine lv_aload_n hx hb dX0_count_184 rfl (lv_at hl 1 rfl) ?_
                                refine xg_0s X hW xm_999 c_58 dX0_count_185 ?_
                                refine xg_1008 X hW xm_1999 dX0_count_188 ?_
                                exact p_iret X hW hf dX0_count_191
                              · replace hf := ine hf c_65
                                by_cases c_66 : v1 = 7
                                · replace hf := ip hf c_66
                                  refine r_tabIn (tgt := 192) (off := 94) (k := 7) hx hb c_66 dX0_count_98 (by decide) (by decide) rfl (by decide) ?_
                                  refine lv_aload_n hx hb dX0_count_192 rfl (lv_at hl 1 rfl) ?_
                                  refine xg_0s X hW xm_999 c_58 dX0_count_193 ?_
                                  refine xg_1007 X hW xm_1999 dX0_count_196 ?_
                                  exact p_iret X hW hf dX0_count_199
                                · replace hf := ine hf c_66
                                  by_cases c_67 : v1 = 8
                                  · replace hf := ip hf c_67
                                    refine r_tabIn (tgt := 200) (off := 102) (k := 8) hx hb c_67 dX0_count_98 (by decide) (by decide) rfl (by decide) ?_
                                    refine lv_iconst (v := 0) hx hb dX0_count_200 (by decide) ?_
                                    refine lv_istore_n (lv' := [(3, .int 0), (2, .int 0), (0, .ref (ad 999)), (1, .int v1)]) hx hb dX0_count_201 rfl hl (by decide) rfl (fun ls hl => ?_)
                                    refine wx_count_202 X had (fun v_68 H locs ls hW hl hf => ?_) _ _ _ _ _ _ hW (lv_sub hl [2, 1, 0] rfl) hf
                                    refine lv_iload_n hx hb dX0_count_231 rfl (lv_at hl 0 rfl) ?_
                                    exact p_iret X hW hf dX0_count_232
                                  · replace hf := ine hf c_67
                                    by_cases c_69 : v1 = 9
                                    · replace hf := ip hf c_69
                                      refine r_tabIn (tgt := 233) (off := 135) (k := 9) hx hb c_69 dX0_count_98 (by decide) (by decide) rfl (by decide) ?_
                                      refine lv_aload_n hx hb dX0_count_233 rfl (lv_at hl 1 rfl) ?_
                                      refine xg_0s X hW xm_999 c_58 dX0_count_234 ?_
                                      refine xg_1004 X hW xm_1999 dX0_count_237 ?_
                                      exact p_iret X hW hf dX0_count_240
                                    · replace hf := ine hf c_69
                                      refine lv_tableOut (tgt := 241) hx hb dX0_count_98 (by have := lv_neT c_59 (a := 0) rfl; have := lv_neT c_60 (a := 1) rfl; have := lv_neT c_61 (a := 2) rfl; have := lv_neT c_62 (a := 3) rfl; have := lv_neT c_63 (a := 4) rfl; have := lv_neT c_64 (a := 5) rfl; have := lv_neT c_65 (a := 6) rfl; have := lv_neT c_66 (a := 7) rfl; have := lv_neT c_67 (a := 8) rfl; have := lv_neT c_69 (a := 9) rfl; omega) (by decide) ?_
                                      refine lv_aload_n hx hb dX0_count_241 rfl (lv_at hl 1 rfl) ?_
                                      refine xg_0s X hW xm_999 c_58 dX0_count_242 ?_
                                      refine xg_1005 X hW xm_1999 dX0_count_245 ?_
                                      exact p_iret X hW hf dX0_count_248
              · replace hf := ip hf c_57
                refine lv_iconst (v := (-1)) hx hb dX0_count_84 (by decide) ?_
                exact p_iret X hW hf dX0_count_85
            · replace hf := ine hf c_54
              by_cases c_70 : v1 = 10
              · replace hf := ip hf c_70
                refine r_tabIn (tgt := 72) (off := 71) (k := 10) hx hb c_70 dX0_count_1 (by decide) (by decide) rfl (by decide) ?_
                refine lv_iload_n hx hb dX0_count_72 rfl (lv_at hl 1 rfl) ?_
                refine lv_i2l (v := v1.toInt64) hx hb dX0_count_73 rfl ?_
                refine lv_lconst (v := 0) hx hb dX0_count_74 (by decide) ?_
                refine lv_ldc2 (v := 12) hx hb X.1.2.2.2.1 (X.1.2.2.2.2 _ q1113) dX0_count_75 ?_
                obtain ⟨r_72, h_71, hf⟩ := bd_e hf
                refine kh_in X hW h_71 (by decide) hl (Nat.le_of_ble_eq_true rfl) dX0_count_78 (fun H locs hW => ?_)
                refine lv_if_ne (tgt := 86) hx hb dX0_count_81 (by decide) (fun c_73 => ?_) (fun c_73 => ?_)
                · replace hf := ine hf c_73
                  refine lv_aload_n hx hb dX0_count_86 rfl (lv_at hl 0 rfl) ?_
                  refine xg_0 X hW xm_999 dX0_count_87 ?_
                  by_cases c_74 : (σ.1 999 0) = 0
                  · replace hf := ip hf c_74
                    rw [dn_n c_74]
                    refine lv_ifnonnullN hx hb dX0_count_90 ?_
                    refine lv_iconst (v := 0) hx hb dX0_count_93 (by decide) ?_
                    exact p_iret X hW hf dX0_count_94
                  · replace hf := ine hf c_74
                    rw [dn_s c_74]
                    refine lv_ifnonnull (x := ad 1999) (tgt := 95) hx hb dX0_count_90 (by decide) ?_
                    refine lv_iconst (v := 0) hx hb dX0_count_95 (by decide) ?_
                    refine lv_istore_n (lv' := [(2, .int 0), (0, .ref (ad 999)), (1, .int v1)]) hx hb dX0_count_96 rfl hl (by decide) rfl (fun ls hl => ?_)
                    refine lv_iload_n hx hb dX0_count_97 rfl (lv_at hl 2 rfl) ?_
                    by_cases c_75 : v1 = 0
                    · replace hf := ip hf c_75
                      refine r_tabIn (tgt := 152) (off := 54) (k := 0) hx hb c_75 dX0_count_98 (by decide) (by decide) rfl (by decide) ?_
                      refine lv_aload_n hx hb dX0_count_152 rfl (lv_at hl 1 rfl) ?_
                      refine xg_0s X hW xm_999 c_74 dX0_count_153 ?_
                      refine xg_1000 X hW xm_1999 dX0_count_156 ?_
                      exact p_iret X hW hf dX0_count_159
                    · replace hf := ine hf c_75
                      by_cases c_76 : v1 = 1
                      · replace hf := ip hf c_76
                        refine r_tabIn (tgt := 160) (off := 62) (k := 1) hx hb c_76 dX0_count_98 (by decide) (by decide) rfl (by decide) ?_
                        refine lv_aload_n hx hb dX0_count_160 rfl (lv_at hl 1 rfl) ?_
                        refine xg_0s X hW xm_999 c_74 dX0_count_161 ?_
                        refine xg_1001 X hW xm_1999 dX0_count_164 ?_
                        exact p_iret X hW hf dX0_count_167
                      · replace hf := ine hf c_76
                        by_cases c_77 : v1 = 2
                        · replace hf := ip hf c_77
                          refine r_tabIn (tgt := 168) (off := 70) (k := 2) hx hb c_77 dX0_count_98 (by decide) (by decide) rfl (by decide) ?_
                          refine lv_aload_n hx hb dX0_count_168 rfl (lv_at hl 1 rfl) ?_
                          refine xg_0s X hW xm_999 c_74 dX0_count_169 ?_
                          refine xg_1002 X hW xm_1999 dX0_count_172 ?_
                          exact p_iret X hW hf dX0_count_175
                        · replace hf := ine hf c_77
                          by_cases c_78 : v1 = 3
                          · replace hf := ip hf c_78
                            refine r_tabIn (tgt := 176) (off := 78) (k := 3) hx hb c_78 dX0_count_98 (by decide) (by decide) rfl (by decide) ?_
                            refine lv_aload_n hx hb dX0_count_176 rfl (lv_at hl 1 rfl) ?_
                            refine xg_0s X hW xm_999 c_74 dX0_count_177 ?_
                            refine xg_1003 X hW xm_1999 dX0_count_180 ?_
                            exact p_iret X hW hf dX0_count_183
                          · replace hf := ine hf c_78
                            by_cases c_79 : v1 = 4
                            · replace hf := ip hf c_79
                              refine r_tabIn (tgt := 241) (off := 143) (k := 4) hx hb c_79 dX0_count_98 (by decide) (by decide) rfl (by decide) ?_
                              refine lv_aload_n hx hb dX0_count_241 rfl (lv_at hl 1 rfl) ?_
                              refine xg_0s X hW xm_999 c_74 dX0_count_242 ?_
                              refine xg_1005 X hW xm_1999 dX0_count_245 ?_
                              exact p_iret X hW hf dX0_count_248
                            · replace hf := ine hf c_79
                              by_cases c_80 : v1 = 5
                              · replace hf := ip hf c_80
                                refine r_tabIn (tgt := 241) (off := 143) (k := 5) hx hb c_80 dX0_count_98 (by decide) (by decide) rfl (by decide) ?_
                                refine lv_aload_n hx hb dX0_count_241 rfl (lv_at hl 1 rfl) ?_
                                refine xg_0s X hW xm_999 c_74 dX0_count_242 ?_
                                refine xg_1005 X hW xm_1999 dX0_count_245 ?_
                                exact p_iret X hW hf dX0_count_248
                              · replace hf := ine hf c_80
                                by_cases c_81 : v1 = 6
                                · replace hf := ip hf c_81
                                  refine r_tabIn (tgt := 184) (off := 86) (k := 6) hx hb c_81 dX0_count_98 (by decide) (by decide) rfl (by decide) ?_
                                  refine lv_aload_n hx hb dX0_count_184 rfl (lv_at hl 1 rfl) ?_
                                  refine xg_0s X hW xm_999 c_74 dX0_count_185 ?_
                                  refine xg_1008 X hW xm_1999 dX0_count_188 ?_
                                  exact p_iret X hW hf dX0_count_191
                                · replace hf := ine hf c_81
                                  by_cases c_82 : v1 = 7
                                  · replace hf := ip hf c_82
                                    refine r_tabIn (tgt := 192) (off := 94) (k := 7) hx hb c_82 dX0_count_98 (by decide) (by decide) rfl (by decide) ?_
                                    refine lv_aload_n hx hb dX0_count_192 rfl (lv_at hl 1 rfl) ?_
                                    refine xg_0s X hW xm_999 c_74 dX0_count_193 ?_
                                    refine xg_1007 X hW xm_1999 dX0_count_196 ?_
                                    exact p_iret X hW hf dX0_count_199
                                  · replace hf := ine hf c_82
                                    by_cases c_83 : v1 = 8
                                    · replace hf := ip hf c_83
                                      refine r_tabIn (tgt := 200) (off := 102) (k := 8) hx hb c_83 dX0_count_98 (by decide) (by decide) rfl (by decide) ?_
                                      refine lv_iconst (v := 0) hx hb dX0_count_200 (by decide) ?_
                                      refine lv_istore_n (lv' := [(3, .int 0), (2, .int 0), (0, .ref (ad 999)), (1, .int v1)]) hx hb dX0_count_201 rfl hl (by decide) rfl (fun ls hl => ?_)
                                      refine wx_count_202 X had (fun v_84 H locs ls hW hl hf => ?_) _ _ _ _ _ _ hW (lv_sub hl [2, 1, 0] rfl) hf
                                      refine lv_iload_n hx hb dX0_count_231 rfl (lv_at hl 0 rfl) ?_
                                      exact p_iret X hW hf dX0_count_232
                                    · replace hf := ine hf c_83
                                      by_cases c_85 : v1 = 9
                                      · replace hf := ip hf c_85
                                        refine r_tabIn (tgt := 233) (off := 135) (k := 9) hx hb c_85 dX0_count_98 (by decide) (by decide) rfl (by decide) ?_
                                        refine lv_aload_n hx hb dX0_count_233 rfl (lv_at hl 1 rfl) ?_
                                        refine xg_0s X hW xm_999 c_74 dX0_count_234 ?_
                                        refine xg_1004 X hW xm_1999 dX0_count_237 ?_
                                        exact p_iret X hW hf dX0_count_240
                                      · replace hf := ine hf c_85
                                        refine lv_tableOut (tgt := 241) hx hb dX0_count_98 (by have := lv_neT c_75 (a := 0) rfl; have := lv_neT c_76 (a := 1) rfl; have := lv_neT c_77 (a := 2) rfl; have := lv_neT c_78 (a := 3) rfl; have := lv_neT c_79 (a := 4) rfl; have := lv_neT c_80 (a := 5) rfl; have := lv_neT c_81 (a := 6) rfl; have := lv_neT c_82 (a := 7) rfl; have := lv_neT c_83 (a := 8) rfl; have := lv_neT c_85 (a := 9) rfl; omega) (by decide) ?_
                                        refine lv_aload_n hx hb dX0_count_241 rfl (lv_at hl 1 rfl) ?_
                                        refine xg_0s X hW xm_999 c_74 dX0_count_242 ?_
                                        refine xg_1005 X hW xm_1999 dX0_count_245 ?_
                                        exact p_iret X hW hf dX0_count_248
                · replace hf := ip hf c_73
                  refine lv_iconst (v := (-1)) hx hb dX0_count_84 (by decide) ?_
                  exact p_iret X hW hf dX0_count_85
              · replace hf := ine hf c_70
                by_cases c_86 : v1 = 11
                · replace hf := ip hf c_86
                  refine r_tabIn (tgt := 62) (off := 61) (k := 11) hx hb c_86 dX0_count_1 (by decide) (by decide) rfl (by decide) ?_
                  refine lv_aload_n hx hb dX0_count_62 rfl (lv_at hl 0 rfl) ?_
                  refine xg_6 X hW xm_999 dX0_count_63 ?_
                  exact p_iret X hW hf dX0_count_66
                · replace hf := ine hf c_86
                  by_cases c_87 : v1 = 12
                  · replace hf := ip hf c_87
                    refine r_tabIn (tgt := 67) (off := 66) (k := 12) hx hb c_87 dX0_count_1 (by decide) (by decide) rfl (by decide) ?_
                    refine lv_aload_n hx hb dX0_count_67 rfl (lv_at hl 0 rfl) ?_
                    refine xg_10 X hW xm_999 dX0_count_68 ?_
                    exact p_iret X hW hf dX0_count_71
                  · replace hf := ine hf c_87
                    refine lv_tableOut (tgt := 72) hx hb dX0_count_1 (by have := lv_neT c_1 (a := 4) rfl; have := lv_neT c_2 (a := 5) rfl; have := lv_neT c_3 (a := 6) rfl; have := lv_neT c_22 (a := 7) rfl; have := lv_neT c_38 (a := 8) rfl; have := lv_neT c_54 (a := 9) rfl; have := lv_neT c_70 (a := 10) rfl; have := lv_neT c_86 (a := 11) rfl; have := lv_neT c_87 (a := 12) rfl; omega) (by decide) ?_
                    refine lv_iload_n hx hb dX0_count_72 rfl (lv_at hl 1 rfl) ?_
                    refine lv_i2l (v := v1.toInt64) hx hb dX0_count_73 rfl ?_
                    refine lv_lconst (v := 0) hx hb dX0_count_74 (by decide) ?_
                    refine lv_ldc2 (v := 12) hx hb X.1.2.2.2.1 (X.1.2.2.2.2 _ q1113) dX0_count_75 ?_
                    obtain ⟨r_89, h_88, hf⟩ := bd_e hf
                    refine kh_in X hW h_88 (by decide) hl (Nat.le_of_ble_eq_true rfl) dX0_count_78 (fun H locs hW => ?_)
                    refine lv_if_ne (tgt := 86) hx hb dX0_count_81 (by decide) (fun c_90 => ?_) (fun c_90 => ?_)
                    · replace hf := ine hf c_90
                      refine lv_aload_n hx hb dX0_count_86 rfl (lv_at hl 0 rfl) ?_
                      refine xg_0 X hW xm_999 dX0_count_87 ?_
                      by_cases c_91 : (σ.1 999 0) = 0
                      · replace hf := ip hf c_91
                        rw [dn_n c_91]
                        refine lv_ifnonnullN hx hb dX0_count_90 ?_
                        refine lv_iconst (v := 0) hx hb dX0_count_93 (by decide) ?_
                        exact p_iret X hW hf dX0_count_94
                      · replace hf := ine hf c_91
                        rw [dn_s c_91]
                        refine lv_ifnonnull (x := ad 1999) (tgt := 95) hx hb dX0_count_90 (by decide) ?_
                        refine lv_iconst (v := 0) hx hb dX0_count_95 (by decide) ?_
                        refine lv_istore_n (lv' := [(2, .int 0), (0, .ref (ad 999)), (1, .int v1)]) hx hb dX0_count_96 rfl hl (by decide) rfl (fun ls hl => ?_)
                        refine lv_iload_n hx hb dX0_count_97 rfl (lv_at hl 2 rfl) ?_
                        by_cases c_92 : v1 = 0
                        · replace hf := ip hf c_92
                          refine r_tabIn (tgt := 152) (off := 54) (k := 0) hx hb c_92 dX0_count_98 (by decide) (by decide) rfl (by decide) ?_
                          refine lv_aload_n hx hb dX0_count_152 rfl (lv_at hl 1 rfl) ?_
                          refine xg_0s X hW xm_999 c_91 dX0_count_153 ?_
                          refine xg_1000 X hW xm_1999 dX0_count_156 ?_
                          exact p_iret X hW hf dX0_count_159
                        · replace hf := ine hf c_92
                          by_cases c_93 : v1 = 1
                          · replace hf := ip hf c_93
                            refine r_tabIn (tgt := 160) (off := 62) (k := 1) hx hb c_93 dX0_count_98 (by decide) (by decide) rfl (by decide) ?_
                            refine lv_aload_n hx hb dX0_count_160 rfl (lv_at hl 1 rfl) ?_
                            refine xg_0s X hW xm_999 c_91 dX0_count_161 ?_
                            refine xg_1001 X hW xm_1999 dX0_count_164 ?_
                            exact p_iret X hW hf dX0_count_167
                          · replace hf := ine hf c_93
                            by_cases c_94 : v1 = 2
                            · replace hf := ip hf c_94
                              refine r_tabIn (tgt := 168) (off := 70) (k := 2) hx hb c_94 dX0_count_98 (by decide) (by decide) rfl (by decide) ?_
                              refine lv_aload_n hx hb dX0_count_168 rfl (lv_at hl 1 rfl) ?_
                              refine xg_0s X hW xm_999 c_91 dX0_count_169 ?_
                              refine xg_1002 X hW xm_1999 dX0_count_172 ?_
                              exact p_iret X hW hf dX0_count_175
                            · replace hf := ine hf c_94
                              by_cases c_95 : v1 = 3
                              · replace hf := ip hf c_95
                                refine r_tabIn (tgt := 176) (off := 78) (k := 3) hx hb c_95 dX0_count_98 (by decide) (by decide) rfl (by decide) ?_
                                refine lv_aload_n hx hb dX0_count_176 rfl (lv_at hl 1 rfl) ?_
                                refine xg_0s X hW xm_999 c_91 dX0_count_177 ?_
                                refine xg_1003 X hW xm_1999 dX0_count_180 ?_
                                exact p_iret X hW hf dX0_count_183
                              · replace hf := ine hf c_95
                                by_cases c_96 : v1 = 4
                                · replace hf := ip hf c_96
                                  refine r_tabIn (tgt := 241) (off := 143) (k := 4) hx hb c_96 dX0_count_98 (by decide) (by decide) rfl (by decide) ?_
                                  refine lv_aload_n hx hb dX0_count_241 rfl (lv_at hl 1 rfl) ?_
                                  refine xg_0s X hW xm_999 c_91 dX0_count_242 ?_
                                  refine xg_1005 X hW xm_1999 dX0_count_245 ?_
                                  exact p_iret X hW hf dX0_count_248
                                · replace hf := ine hf c_96
                                  by_cases c_97 : v1 = 5
                                  · replace hf := ip hf c_97
                                    refine r_tabIn (tgt := 241) (off := 143) (k := 5) hx hb c_97 dX0_count_98 (by decide) (by decide) rfl (by decide) ?_
                                    refine lv_aload_n hx hb dX0_count_241 rfl (lv_at hl 1 rfl) ?_
                                    refine xg_0s X hW xm_999 c_91 dX0_count_242 ?_
                                    refine xg_1005 X hW xm_1999 dX0_count_245 ?_
                                    exact p_iret X hW hf dX0_count_248
                                  · replace hf := ine hf c_97
                                    by_cases c_98 : v1 = 6
                                    · replace hf := ip hf c_98
                                      refine r_tabIn (tgt := 184) (off := 86) (k := 6) hx hb c_98 dX0_count_98 (by decide) (by decide) rfl (by decide) ?_
                                      refine lv_aload_n hx hb dX0_count_184 rfl (lv_at hl 1 rfl) ?_
                                      refine xg_0s X hW xm_999 c_91 dX0_count_185 ?_
                                      refine xg_1008 X hW xm_1999 dX0_count_188 ?_
                                      exact p_iret X hW hf dX0_count_191
                                    · replace hf := ine hf c_98
                                      by_cases c_99 : v1 = 7
                                      · replace hf := ip hf c_99
                                        refine r_tabIn (tgt := 192) (off := 94) (k := 7) hx hb c_99 dX0_count_98 (by decide) (by decide) rfl (by decide) ?_
                                        refine lv_aload_n hx hb dX0_count_192 rfl (lv_at hl 1 rfl) ?_
                                        refine xg_0s X hW xm_999 c_91 dX0_count_193 ?_
                                        refine xg_1007 X hW xm_1999 dX0_count_196 ?_
                                        exact p_iret X hW hf dX0_count_199
                                      · replace hf := ine hf c_99
                                        by_cases c_100 : v1 = 8
                                        · replace hf := ip hf c_100
                                          refine r_tabIn (tgt := 200) (off := 102) (k := 8) hx hb c_100 dX0_count_98 (by decide) (by decide) rfl (by decide) ?_
                                          refine lv_iconst (v := 0) hx hb dX0_count_200 (by decide) ?_
                                          refine lv_istore_n (lv' := [(3, .int 0), (2, .int 0), (0, .ref (ad 999)), (1, .int v1)]) hx hb dX0_count_201 rfl hl (by decide) rfl (fun ls hl => ?_)
                                          refine wx_count_202 X had (fun v_101 H locs ls hW hl hf => ?_) _ _ _ _ _ _ hW (lv_sub hl [2, 1, 0] rfl) hf
                                          refine lv_iload_n hx hb dX0_count_231 rfl (lv_at hl 0 rfl) ?_
                                          exact p_iret X hW hf dX0_count_232
                                        · replace hf := ine hf c_100
                                          by_cases c_102 : v1 = 9
                                          · replace hf := ip hf c_102
                                            refine r_tabIn (tgt := 233) (off := 135) (k := 9) hx hb c_102 dX0_count_98 (by decide) (by decide) rfl (by decide) ?_
                                            refine lv_aload_n hx hb dX0_count_233 rfl (lv_at hl 1 rfl) ?_
                                            refine xg_0s X hW xm_999 c_91 dX0_count_234 ?_
                                            refine xg_1004 X hW xm_1999 dX0_count_237 ?_
                                            exact p_iret X hW hf dX0_count_240
                                          · replace hf := ine hf c_102
                                            refine lv_tableOut (tgt := 241) hx hb dX0_count_98 (by have := lv_neT c_92 (a := 0) rfl; have := lv_neT c_93 (a := 1) rfl; have := lv_neT c_94 (a := 2) rfl; have := lv_neT c_95 (a := 3) rfl; have := lv_neT c_96 (a := 4) rfl; have := lv_neT c_97 (a := 5) rfl; have := lv_neT c_98 (a := 6) rfl; have := lv_neT c_99 (a := 7) rfl; have := lv_neT c_100 (a := 8) rfl; have := lv_neT c_102 (a := 9) rfl; omega) (by decide) ?_
                                            refine lv_aload_n hx hb dX0_count_241 rfl (lv_at hl 1 rfl) ?_
                                            refine xg_0s X hW xm_999 c_91 dX0_count_242 ?_
                                            refine xg_1005 X hW xm_1999 dX0_count_245 ?_
                                            exact p_iret X hW hf dX0_count_248
                    · replace hf := ip hf c_90
                      refine lv_iconst (v := (-1)) hx hb dX0_count_84 (by decide) ?_
                      exact p_iret X hW hf dX0_count_85
theorem w_x_count (l : Launch) {g : gG} {ad : Nat → Nat} {q : xR} (had : xI_ ad) {r : Int32} {σ : cS} {v1 : Int32} (hf : x_count σ v1 = some r) : MC l yX0_count cX0_count 4 (some .int) 4 100 g xIds ad (xE g ad q σ) (xE g ad q σ) [.ref (ad 999), .int v1] (some (.int r)) :=
  MC.of (by decide) xIds_nd had (Nat.le_of_ble_eq_true rfl) (fun p e s m below meth c A ls X hW hl => wb_x_count X had hW hl hf)
