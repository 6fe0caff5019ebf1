/-! Text: what makes nodes -/
set_option maxRecDepth 100000
-- value
noncomputable def t_value (σ : cS) : Option (cS × Nat × Option (Wds → Int64)) :=
  ((t_see σ).bind fun (σ_3, r_2) => ((t_isDigit σ_3 (σ_3.1 997 2)).bind fun r_5 => if r_5 = 0 then (((t_oneOf_13 σ_3).bind fun (σ_9, r_8) => if r_8 = (-1) then (((t_demand σ_9 0 0 (σ_3.1 997 2)).bind fun (σ_13, o_14) => thy σ_13 o_14 fun _ => ((t_makes σ_13 (σ_3.1 997 2)).bind fun (σ_17, o_18) => thy σ_17 o_18 fun _ => gd (inb r_8 12) (gd (decide ((wnL.getD (ix r_8) 0) < 43)) (addc 1 (some ((si σ_17 997 2 ((σ_17.1 997 2) + (nI (stC (wnL.getD (ix r_8) 0)).length))), 0, some (fun ws => ws (ix r_8))))))))) else (((t_demand σ_9 1 0 (σ_3.1 997 2)).bind fun (σ_31, o_32) => thy σ_31 o_32 fun _ => ((t_makes σ_31 (σ_3.1 997 2)).bind fun (σ_35, o_36) => thy σ_35 o_36 fun _ => gd (inb r_8 12) (gd (decide ((wnL.getD (ix r_8) 0) < 43)) (addc 1 (some ((si σ_35 997 2 ((σ_35.1 997 2) + (nI (stC (wnL.getD (ix r_8) 0)).length))), 0, some (fun ws => ws (ix r_8))))))))))) else (((t_number σ_3 0 99999).bind fun (σ_49, o_50) => thy σ_49 o_50 fun r_48 => ((t_makes σ_49 (σ_3.1 997 2)).bind fun (σ_53, o_54) => thy σ_53 o_54 fun _ => addc 1 (some (σ_53, 0, some (fun _ => r_48.toInt64))))))))
set_option maxHeartbeats 4000000 in
theorem wb_t_value {p : Program} {l : Launch} {e : Env} {s : State} {m : MethodId} {args : Array Value} {below : List Frame} {meth : Method} {c : Code} {g : gG} {ad : Nat → Nat} {q : xR} {fr lo : Nat} (X : MX p s m args meth c cX4_value 3 RX4 (some (.object "DoughBorder$Value")) g (wA tIds ad s.heap.size)) (had : tI_ ad) (hex : ∀ x ∈ c.exceptionTable.toList, False) {σ σr : cS} {cnt : Nat} {o : Option (Wds → Int64)} (hfr : 20 ≤ fr ∧ 500 ≤ lo) {H : Heap} {locs : List Loc} {ls : Array Slot} (hW : WBY g (wA tIds ad s.heap.size) s.heap ad q σ [] z0 0 z0 H locs) (hl : lv_has ls 3 [(0, .ref (ad 997))]) (hf : t_value σ = some (σr, cnt, o)) : W p l e (rmy fr lo cnt) s m args below meth c H locs 0 (12 * 0) (QY below g ad q σr cnt RV o args s s.heap.size) (F0 m 0 ls []) := by
  have hx := X.1.1
  have hb := X.1.2.1
  obtain ⟨cnt0, hcnt⟩ : ∃ x, x = cnt := ⟨_, rfl⟩
  unfold t_value at hf
  refine lv_aload_n hx hb dX4_value_0 rfl (lv_at hl 0 rfl) ?_
  obtain ⟨⟨σ_3, r_2⟩, h_1, hf⟩ := bd_e hf
  refine ky_see X hW pdOk_0 had h_1 (by omega) hl (Nat.le_of_ble_eq_true rfl) (by omega) dX4_value_1 (fun H locs hW => ?_)
  refine lv_pop hx hb dX4_value_4 rfl ?_
  refine lv_aload_n hx hb dX4_value_5 rfl (lv_at hl 0 rfl) ?_
  refine yg_2 X hW dX4_value_6 ?_
  refine lv_istore_n (lv' := [(1, .int (σ_3.1 997 2)), (0, .ref (ad 997))]) hx hb dX4_value_9 rfl hl (by decide) rfl (fun ls hl => ?_)
  refine lv_aload_n hx hb dX4_value_10 rfl (lv_at hl 1 rfl) ?_
  refine lv_iload_n hx hb dX4_value_11 rfl (lv_at hl 0 rfl) ?_
  obtain ⟨r_5, h_4, hf⟩ := bd_e hf
  refine ky_isDigit X hW pdOk_0 had h_4 (by omega) hl (Nat.le_of_ble_eq_true rfl) (by omega) dX4_value_12 (fun H locs hW => ?_)
  refine lv_if_eq (tgt := 42) hx hb dX4_value_15 (by decide) (fun c_6 => ?_) (fun c_6 => ?_)
  · replace hf := ip hf c_6
    refine lv_aload_n hx hb dX4_value_42 rfl (lv_at hl 1 rfl) ?_
    refine lv_aload_n hx hb dX4_value_43 rfl (lv_at hl 1 rfl) ?_
    refine yg_0 X hW dX4_value_44 ?_
    obtain ⟨⟨σ_9, r_8⟩, h_7, hf⟩ := bd_e hf
    refine ky_oneOf_13 X hW pdOk_0 had h_7 (by omega) hl (Nat.le_of_ble_eq_true rfl) (by omega) dX4_value_47 (fun H locs hW => ?_)
    refine lv_istore_n (lv' := [(2, .int r_8), (1, .int (σ_3.1 997 2)), (0, .ref (ad 997))]) hx hb dX4_value_50 rfl hl (by decide) rfl (fun ls hl => ?_)
    refine lv_aload_n hx hb dX4_value_51 rfl (lv_at hl 2 rfl) ?_
    refine lv_iload_n hx hb dX4_value_52 rfl (lv_at hl 0 rfl) ?_
    refine lv_iconst (v := (-1)) hx hb dX4_value_53 (by decide) ?_
    refine lv_icmp_eq (tgt := 61) hx hb dX4_value_54 (by decide) (fun c_10 => ?_) (fun c_10 => ?_)
    · replace hf := ip hf c_10
      refine lv_iconst (v := 0) hx hb dX4_value_61 (by decide) ?_
      refine lv_iconst (v := 0) hx hb dX4_value_62 (by decide) ?_
      refine lv_iload_n hx hb dX4_value_63 rfl (lv_at hl 1 rfl) ?_
      obtain ⟨⟨σ_13, o_14⟩, h_11, hf⟩ := bd_e hf
      refine ky_demand X hW pdOk_0 had h_11 (by omega) hl (Nat.le_of_ble_eq_true rfl) (by omega) dX4_value_64 (fun ho H locs q9 ce hW hc1 hc2 hc3 => by subst ho; exact y_out X hex hW (thy_n hf) (by omega) hc1 hc2 hc3) (fun r_12 ho H locs hW => ?_)
      subst ho
      replace hf := thy_s hf
      refine lv_aload_n hx hb dX4_value_67 rfl (lv_at hl 2 rfl) ?_
      refine lv_iload_n hx hb dX4_value_68 rfl (lv_at hl 1 rfl) ?_
      obtain ⟨⟨σ_17, o_18⟩, h_15, hf⟩ := bd_e hf
      refine ky_makes X hW pdOk_0 had h_15 (by omega) hl (Nat.le_of_ble_eq_true rfl) (by omega) dX4_value_69 (fun ho H locs q9 ce hW hc1 hc2 hc3 => by subst ho; exact y_out X hex hW (thy_n hf) (by omega) hc1 hc2 hc3) (fun r_16 ho H locs hW => ?_)
      subst ho
      replace hf := thy_s hf
      refine lv_aload_n hx hb dX4_value_72 rfl (lv_at hl 2 rfl) ?_
      refine lv_dup hx hb dX4_value_73 rfl ?_
      refine yg_2 X hW dX4_value_74 ?_
      refine lv_aload_n hx hb dX4_value_77 rfl (lv_at hl 2 rfl) ?_
      refine yg_0 X hW dX4_value_78 ?_
      refine lv_iload_n hx hb dX4_value_81 rfl (lv_at hl 0 rfl) ?_
      obtain ⟨h_19, hf⟩ := gd_e hf
      refine yl_13 X hW h_19 dX4_value_82 ?_
      obtain ⟨hs_20, hf⟩ := gd_e hf
      replace hs_20 := of_decide_eq_true hs_20
      refine ky_slen X hW hs_20 (by omega) hl (Nat.le_of_ble_eq_true rfl) (by omega) q527 dX4_value_83 (fun H locs hW => ?_)
      refine lv_iadd hx hb dX4_value_86 ?_
      refine yp_2 X hW dX4_value_87 (fun H locs hW => ?_)
      obtain ⟨c_21, hf, hc_22⟩ := addc_e hf
      refine y_new X hW (T := TX9) in_X9 tyX9 tyX9_ok q698 q699 q137 (ci := 8) rfl (fs := [.int 0]) (fun j hj => by rcases (show j = 0 by omega) with rfl <;> rfl) (by decide) (by omega) dX4_value_90 (fun pz_23 H hz_24 hW => ?_)
      refine lv_dup hx hb dX4_value_93 rfl ?_
      refine lv_iload_n hx hb dX4_value_94 rfl (lv_at hl 0 rfl) ?_
      refine y_init X hW pdOk_1 (b := 19999) List.mem_cons_self hz_24 (w_X9_init l) q702 q137 q700 q701 rfl ⟨by decide, by decide, by decide +kernel⟩ (nA := 1) (by omega) hl rfl rfl (Nat.le_of_ble_eq_true rfl) (by omega) dX4_value_95 (fun H locs hW => ?_)
      replace hW := y_commit hW pdOk_1 pdOk_0 (b := 19999) List.mem_cons_self (fun k hk => (List.not_mem_nil hk).elim) (x := ((pz_23 19999).1, .inr (8, [.int r_8]))) (if_pos rfl)
      generalize (fun k => if k = 19999 then ((pz_23 19999).1, (.inr (8, [.int r_8]) : va_E)) else pz_23 k : Nd) = pz_26 at hW
      generalize (pz_23 19999).1 = a_25 at hW ⊢
      have hN_27 := RV.wd (a := a_25) h_19 (n := 0) (nd := z0)
      generalize nda 0 z0 (fun _ => (a_25, (.inr (8, [.int r_8]) : va_E))) = nd_28 at hW hN_27
      exact y_aret X hW (by omega) hN_27 hf (by omega) dX4_value_98
    · replace hf := ine hf c_10
      refine lv_iconst (v := 1) hx hb dX4_value_57 (by decide) ?_
      refine lv_goto (tgt := 62) hx hb dX4_value_58 (by decide) ?_
      refine lv_iconst (v := 0) hx hb dX4_value_62 (by decide) ?_
      refine lv_iload_n hx hb dX4_value_63 rfl (lv_at hl 1 rfl) ?_
      obtain ⟨⟨σ_31, o_32⟩, h_29, hf⟩ := bd_e hf
      refine ky_demand X hW pdOk_0 had h_29 (by omega) hl (Nat.le_of_ble_eq_true rfl) (by omega) dX4_value_64 (fun ho H locs q9 ce hW hc1 hc2 hc3 => by subst ho; exact y_out X hex hW (thy_n hf) (by omega) hc1 hc2 hc3) (fun r_30 ho H locs hW => ?_)
      subst ho
      replace hf := thy_s hf
      refine lv_aload_n hx hb dX4_value_67 rfl (lv_at hl 2 rfl) ?_
      refine lv_iload_n hx hb dX4_value_68 rfl (lv_at hl 1 rfl) ?_
      obtain ⟨⟨σ_35, o_36⟩, h_33, hf⟩ := bd_e hf
      refine ky_makes X hW pdOk_0 had h_33 (by omega) hl (Nat.le_of_ble_eq_true rfl) (by omega) dX4_value_69 (fun ho H locs q9 ce hW hc1 hc2 hc3 => by subst ho; exact y_out X hex hW (thy_n hf) (by omega) hc1 hc2 hc3) (fun r_34 ho H locs hW => ?_)
      subst ho
      replace hf := thy_s hf
      refine lv_aload_n hx hb dX4_value_72 rfl (lv_at hl 2 rfl) ?_
      refine lv_dup hx hb dX4_value_73 rfl ?_
      refine yg_2 X hW dX4_value_74 ?_
      refine lv_aload_n hx hb dX4_value_77 rfl (lv_at hl 2 rfl) ?_
      refine yg_0 X hW dX4_value_78 ?_
      refine lv_iload_n hx hb dX4_value_81 rfl (lv_at hl 0 rfl) ?_
      obtain ⟨h_37, hf⟩ := gd_e hf
      refine yl_13 X hW h_37 dX4_value_82 ?_
      obtain ⟨hs_38, hf⟩ := gd_e hf
      replace hs_38 := of_decide_eq_true hs_38
      refine ky_slen X hW hs_38 (by omega) hl (Nat.le_of_ble_eq_true rfl) (by omega) q527 dX4_value_83 (fun H locs hW => ?_)
      refine lv_iadd hx hb dX4_value_86 ?_
      refine yp_2 X hW dX4_value_87 (fun H locs hW => ?_)
      obtain ⟨c_39, hf, hc_40⟩ := addc_e hf
      refine y_new X hW (T := TX9) in_X9 tyX9 tyX9_ok q698 q699 q137 (ci := 8) rfl (fs := [.int 0]) (fun j hj => by rcases (show j = 0 by omega) with rfl <;> rfl) (by decide) (by omega) dX4_value_90 (fun pz_41 H hz_42 hW => ?_)
      refine lv_dup hx hb dX4_value_93 rfl ?_
      refine lv_iload_n hx hb dX4_value_94 rfl (lv_at hl 0 rfl) ?_
      refine y_init X hW pdOk_1 (b := 19999) List.mem_cons_self hz_42 (w_X9_init l) q702 q137 q700 q701 rfl ⟨by decide, by decide, by decide +kernel⟩ (nA := 1) (by omega) hl rfl rfl (Nat.le_of_ble_eq_true rfl) (by omega) dX4_value_95 (fun H locs hW => ?_)
      replace hW := y_commit hW pdOk_1 pdOk_0 (b := 19999) List.mem_cons_self (fun k hk => (List.not_mem_nil hk).elim) (x := ((pz_41 19999).1, .inr (8, [.int r_8]))) (if_pos rfl)
      generalize (fun k => if k = 19999 then ((pz_41 19999).1, (.inr (8, [.int r_8]) : va_E)) else pz_41 k : Nd) = pz_44 at hW
      generalize (pz_41 19999).1 = a_43 at hW ⊢
      have hN_45 := RV.wd (a := a_43) h_37 (n := 0) (nd := z0)
      generalize nda 0 z0 (fun _ => (a_43, (.inr (8, [.int r_8]) : va_E))) = nd_46 at hW hN_45
      exact y_aret X hW (by omega) hN_45 hf (by omega) dX4_value_98
  · replace hf := ine hf c_6
    refine lv_aload_n hx hb dX4_value_18 rfl (lv_at hl 1 rfl) ?_
    refine lv_iconst (v := 0) hx hb dX4_value_19 (by decide) ?_
    refine lv_ldcw (v := 99999) hx hb X.1.2.2.2.1 (X.1.2.2.2.2 _ q680) dX4_value_20 ?_
    obtain ⟨⟨σ_49, o_50⟩, h_47, hf⟩ := bd_e hf
    refine ky_number X hW pdOk_0 had h_47 (by omega) hl (Nat.le_of_ble_eq_true rfl) (by omega) dX4_value_23 (fun ho H locs q9 ce hW hc1 hc2 hc3 => by subst ho; exact y_out X hex hW (thy_n hf) (by omega) hc1 hc2 hc3) (fun r_48 ho H locs hW => ?_)
    subst ho
    replace hf := thy_s hf
    refine lv_istore_n (lv' := [(2, .int r_48), (1, .int (σ_3.1 997 2)), (0, .ref (ad 997))]) hx hb dX4_value_26 rfl hl (by decide) rfl (fun ls hl => ?_)
    refine lv_aload_n hx hb dX4_value_27 rfl (lv_at hl 2 rfl) ?_
    refine lv_iload_n hx hb dX4_value_28 rfl (lv_at hl 1 rfl) ?_
    obtain ⟨⟨σ_53, o_54⟩, h_51, hf⟩ := bd_e hf
    refine ky_makes X hW pdOk_0 had h_51 (by omega) hl (Nat.le_of_ble_eq_true rfl) (by omega) dX4_value_29 (fun ho H locs q9 ce hW hc1 hc2 hc3 => by subst ho; exact y_out X hex hW (thy_n hf) (by omega) hc1 hc2 hc3) (fun r_52 ho H locs hW => ?_)
    subst ho
    replace hf := thy_s hf
    obtain ⟨c_55, hf, hc_56⟩ := addc_e hf
    refine y_new X hW (T := TX8) in_X8 tyX8 tyX8_ok q685 q686 q136 (ci := 7) rfl (fs := [.long 0]) (fun j hj => by rcases (show j = 0 by omega) with rfl <;> rfl) (by decide) (by omega) dX4_value_32 (fun pz_57 H hz_58 hW => ?_)
    refine lv_dup hx hb dX4_value_35 rfl ?_
    refine lv_iload_n hx hb dX4_value_36 rfl (lv_at hl 0 rfl) ?_
    refine lv_i2l (v := r_48.toInt64) hx hb dX4_value_37 rfl ?_
    refine y_init X hW pdOk_1 (b := 19999) List.mem_cons_self hz_58 (w_X8_init l) q689 q136 q687 q688 rfl ⟨by decide, by decide, by decide +kernel⟩ (nA := 1) (by omega) hl rfl rfl (Nat.le_of_ble_eq_true rfl) (by omega) dX4_value_38 (fun H locs hW => ?_)
    replace hW := y_commit hW pdOk_1 pdOk_0 (b := 19999) List.mem_cons_self (fun k hk => (List.not_mem_nil hk).elim) (x := ((pz_57 19999).1, .inr (7, [.long r_48.toInt64]))) (if_pos rfl)
    generalize (fun k => if k = 19999 then ((pz_57 19999).1, (.inr (7, [.long r_48.toInt64]) : va_E)) else pz_57 k : Nd) = pz_60 at hW
    generalize (pz_57 19999).1 = a_59 at hW ⊢
    have hN_61 := RV.num (a := a_59) (v := r_48.toInt64) (n := 0) (nd := z0)
    generalize nda 0 z0 (fun _ => (a_59, (.inr (7, [.long r_48.toInt64]) : va_E))) = nd_62 at hW hN_61
    exact y_aret X hW (by omega) hN_61 hf (by omega) dX4_value_41
theorem w_t_value (l : Launch) {g : gG} {ad : Nat → Nat} {q : xR} (had : tI_ ad) {fr lo : Nat} {σ σr : cS} {cnt : Nat} {o : Option (Wds → Int64)} (hfr : 20 ≤ fr ∧ 500 ≤ lo) (hf : t_value σ = some (σr, cnt, o)) : MY l yX4_value cX4_value 3 (some (.object "DoughBorder$Value")) fr lo g ad q σ σr cnt [.ref (ad 997)] RV o :=
  MY.of (by decide) had (Nat.le_of_ble_eq_true rfl) (fun p e s m below meth c ls X hex hW hl => wb_t_value X had hex hfr hW hl hf)
-- term
noncomputable def t_term_5 : Nat → cS → (Wds → Int64) → Option (cS × Nat × Option (Wds → Int64))
  | 0, _, _ => none
  | N + 1, σ, φ => ((t_see σ).bind fun (σ_14, r_13) => if r_13 = 42 then (gd (inb (σ_14.1 997 2) 400) (addc 1 (((t_value (si σ_14 997 2 ((σ_14.1 997 2) + 1))).bind fun (σ_22, c_21, o_23) => addc c_21 (thy σ_22 o_23 fun φ_27 => t_term_5 N σ_22 (fun ws => vPair (σ_14.1 9 (ix (σ_14.1 997 2))) (φ ws) (φ_27 ws))))))) else (((t_see σ_14).bind fun (σ_38, r_37) => if r_37 = 47 then (gd (inb (σ_38.1 997 2) 400) (addc 1 (((t_value (si σ_38 997 2 ((σ_38.1 997 2) + 1))).bind fun (σ_46, c_45, o_47) => addc c_45 (thy σ_46 o_47 fun φ_51 => t_term_5 N σ_46 (fun ws => vPair (σ_38.1 9 (ix (σ_38.1 997 2))) (φ ws) (φ_51 ws))))))) else (((t_see σ_38).bind fun (σ_62, r_61) => if r_61 = 37 then (gd (inb (σ_62.1 997 2) 400) (addc 1 (((t_value (si σ_62 997 2 ((σ_62.1 997 2) + 1))).bind fun (σ_70, c_69, o_71) => addc c_69 (thy σ_70 o_71 fun φ_75 => t_term_5 N σ_70 (fun ws => vPair (σ_62.1 9 (ix (σ_62.1 997 2))) (φ ws) (φ_75 ws))))))) else (some (σ_62, 0, some φ)))))))
set_option maxHeartbeats 4000000 in
theorem wt_term_5 {p : Program} {l : Launch} {e : Env} {s : State} {m : MethodId} {args : Array Value} {below : List Frame} {meth : Method} {c : Code} {g : gG} {ad : Nat → Nat} {q : xR} {fr lo : Nat} (X : MX p s m args meth c cX4_term 3 RX4 (some (.object "DoughBorder$Value")) g (wA tIds ad s.heap.size)) (had : tI_ ad) (hex : ∀ x ∈ c.exceptionTable.toList, False) {σr : cS} {o : Option (Wds → Int64)} {cnt : Nat} (hfr : 21 ≤ fr ∧ 530 ≤ lo) : ∀ (N : Nat) (σ : cS) (φ : Wds → Int64) (a n cr : Nat) (nd pz : Nd) (H : Heap) (locs : List Loc) (ls : Array Slot), t_term_5 N σ φ = some (σr, cr, o) → n + cr = cnt → WBY g (wA tIds ad s.heap.size) s.heap ad q σ [] pz n nd H locs → RV (ndl n nd) φ a → lv_has ls 3 [(0, .ref (ad 997)), (1, .ref a)] → W p l e (rmy fr lo cnt) s m args below meth c H locs n (12 * n) (QY below g ad q σr cnt RV o args s s.heap.size) (F0 m 5 ls []) := by
  have hx := X.1.1
  have hb := X.1.2.1
  intro N
  induction N with
  | zero =>
    intro σ φ a n cr nd pz H locs ls hf
    rw [t_term_5] at hf
    cases hf
  | succ N ih =>
    intro σ φ a n cr nd pz H locs ls hf hc hW hV hl
    rw [t_term_5] at hf
    refine lv_aload_n hx hb dX4_term_5 rfl (lv_at hl 0 rfl) ?_
    obtain ⟨⟨σ_14, r_13⟩, h_12, hf⟩ := bd_e hf
    refine ky_see X hW pdOk_0 had h_12 (by omega) hl (Nat.le_of_ble_eq_true rfl) (by omega) dX4_term_6 (fun H locs hW => ?_)
    refine lv_bipush (v := 42) hx hb dX4_term_9 (by decide) ?_
    refine lv_icmp_eq (tgt := 32) hx hb dX4_term_11 (by decide) (fun c_15 => ?_) (fun c_15 => ?_)
    · replace hf := ip hf c_15
      refine lv_aload_n hx hb dX4_term_32 rfl (lv_at hl 0 rfl) ?_
      refine yg_6 X hW dX4_term_33 ?_
      refine ygo_9 X hW dX4_term_36 ?_
      refine lv_aload_n hx hb dX4_term_39 rfl (lv_at hl 0 rfl) ?_
      refine yg_2 X hW dX4_term_40 ?_
      obtain ⟨h_16, hf⟩ := gd_e hf
      refine yl_9 X hW h_16 dX4_term_43 ?_
      refine lv_istore_n (lv' := [(2, .int (σ_14.1 9 (ix (σ_14.1 997 2)))), (0, .ref (ad 997)), (1, .ref a)]) hx hb dX4_term_44 rfl hl (by decide) rfl (fun ls hl => ?_)
      refine lv_aload_n hx hb dX4_term_45 rfl (lv_at hl 1 rfl) ?_
      refine lv_dup hx hb dX4_term_46 rfl ?_
      refine yg_2 X hW dX4_term_47 ?_
      refine lv_iconst (v := 1) hx hb dX4_term_50 (by decide) ?_
      refine lv_iadd hx hb dX4_term_51 ?_
      refine yp_2 X hW dX4_term_52 (fun H locs hW => ?_)
      obtain ⟨c_17, hf, hc_18⟩ := addc_e hf
      refine y_new X hW (T := TX10) in_X10 tyX10 tyX10_ok q708 q709 q138 (ci := 9) rfl (fs := [.null, .null, .int 0]) (fun j hj => by rcases (show j = 0 ∨ j = 1 ∨ j = 2 by omega) with rfl | rfl | rfl <;> rfl) (by decide) (by omega) dX4_term_55 (fun pz_19 H hz_20 hW => ?_)
      refine lv_dup hx hb dX4_term_58 rfl ?_
      refine lv_aload_n hx hb dX4_term_59 rfl (lv_at hl 2 rfl) ?_
      refine lv_iload_n hx hb dX4_term_60 rfl (lv_at hl 0 rfl) ?_
      refine lv_aload_n hx hb dX4_term_61 rfl (lv_at hl 1 rfl) ?_
      obtain ⟨⟨σ_22, c_21, o_23⟩, h_24, hf⟩ := bd_e hf
      obtain ⟨c_25, hf, hc_26⟩ := addc_e hf
      refine y_callM X hW pdOk_1 (w_t_value l had (fr := 20) (lo := 500) (by decide) h_24) (lw_V q676 q678 qs20 q127 q679) ⟨rfl, by decide, by decide, by decide +kernel⟩ (nA := 0) (by omega) hl rfl rfl (Nat.le_of_ble_eq_true rfl) (by omega) dX4_term_62 (fun ho H locs q9 ce hW hc1 hc2 hc3 => by subst ho; exact y_out X hex hW (thy_n hf) (by omega) hc1 hc2 hc3) (fun φ_27 a_28 nd_30 ho H locs hW hN_29 => ?_)
      subst ho
      replace hf := thy_s hf
      replace hN_29 := RV.r (n := n) (nd := nd) hN_29
      replace hV := RV.l (c := c_21) (nd1 := nd_30) hV
      generalize nda n nd nd_30 = nd_31 at hW hN_29 hV
      refine y_init X hW pdOk_1 (b := 19999) List.mem_cons_self hz_20 (w_X10_init l) q712 q138 q710 q711 rfl ⟨by decide, by decide, by decide +kernel⟩ (nA := 3) (by omega) hl rfl rfl (Nat.le_of_ble_eq_true rfl) (by omega) dX4_term_65 (fun H locs hW => ?_)
      replace hW := y_commit hW pdOk_1 pdOk_0 (b := 19999) List.mem_cons_self (fun k hk => (List.not_mem_nil hk).elim) (x := ((pz_19 19999).1, .inr (9, [.ref a, .ref a_28, .int (σ_14.1 9 (ix (σ_14.1 997 2)))]))) (if_pos rfl)
      generalize (fun k => if k = 19999 then ((pz_19 19999).1, (.inr (9, [.ref a, .ref a_28, .int (σ_14.1 9 (ix (σ_14.1 997 2)))]) : va_E)) else pz_19 k : Nd) = pz_33 at hW
      generalize (pz_19 19999).1 = a_32 at hW ⊢
      have hN_34 := RV.pair (a := a_32) (sg := (σ_14.1 9 (ix (σ_14.1 997 2)))) hV hN_29 (n := (n + c_21)) (nd := nd_31)
      replace hV := RV.l (c := 1) (nd1 := fun _ => (a_32, .inr (9, [.ref a, .ref a_28, .int (σ_14.1 9 (ix (σ_14.1 997 2)))]))) hV
      replace hN_29 := RV.l (c := 1) (nd1 := fun _ => (a_32, .inr (9, [.ref a, .ref a_28, .int (σ_14.1 9 (ix (σ_14.1 997 2)))]))) hN_29
      generalize nda (n + c_21) nd_31 (fun _ => (a_32, (.inr (9, [.ref a, .ref a_28, .int (σ_14.1 9 (ix (σ_14.1 997 2)))]) : va_E))) = nd_35 at hW hN_34 hV hN_29
      refine lv_astore_n (lv' := [(1, .ref a_32), (2, .int (σ_14.1 9 (ix (σ_14.1 997 2)))), (0, .ref (ad 997))]) hx hb dX4_term_68 rfl hl (by decide) rfl (fun ls hl => ?_)
      refine lv_goto (tgt := 5) hx hb dX4_term_69 (by decide) ?_
      exact W.widen (by omega) (by omega) (ih _ _ _ _ _ _ _ _ _ _ hf (by omega) hW hN_34 (lv_sub hl [2, 0] rfl))
    · replace hf := ine hf c_15
      refine lv_aload_n hx hb dX4_term_14 rfl (lv_at hl 0 rfl) ?_
      obtain ⟨⟨σ_38, r_37⟩, h_36, hf⟩ := bd_e hf
      refine ky_see X hW pdOk_0 had h_36 (by omega) hl (Nat.le_of_ble_eq_true rfl) (by omega) dX4_term_15 (fun H locs hW => ?_)
      refine lv_bipush (v := 47) hx hb dX4_term_18 (by decide) ?_
      refine lv_icmp_eq (tgt := 32) hx hb dX4_term_20 (by decide) (fun c_39 => ?_) (fun c_39 => ?_)
      · replace hf := ip hf c_39
        refine lv_aload_n hx hb dX4_term_32 rfl (lv_at hl 0 rfl) ?_
        refine yg_6 X hW dX4_term_33 ?_
        refine ygo_9 X hW dX4_term_36 ?_
        refine lv_aload_n hx hb dX4_term_39 rfl (lv_at hl 0 rfl) ?_
        refine yg_2 X hW dX4_term_40 ?_
        obtain ⟨h_40, hf⟩ := gd_e hf
        refine yl_9 X hW h_40 dX4_term_43 ?_
        refine lv_istore_n (lv' := [(2, .int (σ_38.1 9 (ix (σ_38.1 997 2)))), (0, .ref (ad 997)), (1, .ref a)]) hx hb dX4_term_44 rfl hl (by decide) rfl (fun ls hl => ?_)
        refine lv_aload_n hx hb dX4_term_45 rfl (lv_at hl 1 rfl) ?_
        refine lv_dup hx hb dX4_term_46 rfl ?_
        refine yg_2 X hW dX4_term_47 ?_
        refine lv_iconst (v := 1) hx hb dX4_term_50 (by decide) ?_
        refine lv_iadd hx hb dX4_term_51 ?_
        refine yp_2 X hW dX4_term_52 (fun H locs hW => ?_)
        obtain ⟨c_41, hf, hc_42⟩ := addc_e hf
        refine y_new X hW (T := TX10) in_X10 tyX10 tyX10_ok q708 q709 q138 (ci := 9) rfl (fs := [.null, .null, .int 0]) (fun j hj => by rcases (show j = 0 ∨ j = 1 ∨ j = 2 by omega) with rfl | rfl | rfl <;> rfl) (by decide) (by omega) dX4_term_55 (fun pz_43 H hz_44 hW => ?_)
        refine lv_dup hx hb dX4_term_58 rfl ?_
        refine lv_aload_n hx hb dX4_term_59 rfl (lv_at hl 2 rfl) ?_
        refine lv_iload_n hx hb dX4_term_60 rfl (lv_at hl 0 rfl) ?_
        refine lv_aload_n hx hb dX4_term_61 rfl (lv_at hl 1 rfl) ?_
        obtain ⟨⟨σ_46, c_45, o_47⟩, h_48, hf⟩ := bd_e hf
        obtain ⟨c_49, hf, hc_50⟩ := addc_e hf
        refine y_callM X hW pdOk_1 (w_t_value l had (fr := 20) (lo := 500) (by decide) h_48) (lw_V q676 q678 qs20 q127 q679) ⟨rfl, by decide, by decide, by decide +kernel⟩ (nA := 0) (by omega) hl rfl rfl (Nat.le_of_ble_eq_true rfl) (by omega) dX4_term_62 (fun ho H locs q9 ce hW hc1 hc2 hc3 => by subst ho; exact y_out X hex hW (thy_n hf) (by omega) hc1 hc2 hc3) (fun φ_51 a_52 nd_54 ho H locs hW hN_53 => ?_)
        subst ho
        replace hf := thy_s hf
        replace hN_53 := RV.r (n := n) (nd := nd) hN_53
        replace hV := RV.l (c := c_45) (nd1 := nd_54) hV
        generalize nda n nd nd_54 = nd_55 at hW hN_53 hV
        refine y_init X hW pdOk_1 (b := 19999) List.mem_cons_self hz_44 (w_X10_init l) q712 q138 q710 q711 rfl ⟨by decide, by decide, by decide +kernel⟩ (nA := 3) (by omega) hl rfl rfl (Nat.le_of_ble_eq_true rfl) (by omega) dX4_term_65 (fun H locs hW => ?_)
        replace hW := y_commit hW pdOk_1 pdOk_0 (b := 19999) List.mem_cons_self (fun k hk => (List.not_mem_nil hk).elim) (x := ((pz_43 19999).1, .inr (9, [.ref a, .ref a_52, .int (σ_38.1 9 (ix (σ_38.1 997 2)))]))) (if_pos rfl)
        generalize (fun k => if k = 19999 then ((pz_43 19999).1, (.inr (9, [.ref a, .ref a_52, .int (σ_38.1 9 (ix (σ_38.1 997 2)))]) : va_E)) else pz_43 k : Nd) = pz_57 at hW
        generalize (pz_43 19999).1 = a_56 at hW ⊢
        have hN_58 := RV.pair (a := a_56) (sg := (σ_38.1 9 (ix (σ_38.1 997 2)))) hV hN_53 (n := (n + c_45)) (nd := nd_55)
        replace hV := RV.l (c := 1) (nd1 := fun _ => (a_56, .inr (9, [.ref a, .ref a_52, .int (σ_38.1 9 (ix (σ_38.1 997 2)))]))) hV
        replace hN_53 := RV.l (c := 1) (nd1 := fun _ => (a_56, .inr (9, [.ref a, .ref a_52, .int (σ_38.1 9 (ix (σ_38.1 997 2)))]))) hN_53
        generalize nda (n + c_45) nd_55 (fun _ => (a_56, (.inr (9, [.ref a, .ref a_52, .int (σ_38.1 9 (ix (σ_38.1 997 2)))]) : va_E))) = nd_59 at hW hN_58 hV hN_53
        refine lv_astore_n (lv' := [(1, .ref a_56), (2, .int (σ_38.1 9 (ix (σ_38.1 997 2)))), (0, .ref (ad 997))]) hx hb dX4_term_68 rfl hl (by decide) rfl (fun ls hl => ?_)
        refine lv_goto (tgt := 5) hx hb dX4_term_69 (by decide) ?_
        exact W.widen (by omega) (by omega) (ih _ _ _ _ _ _ _ _ _ _ hf (by omega) hW hN_58 (lv_sub hl [2, 0] rfl))
      · replace hf := ine hf c_39
        refine lv_aload_n hx hb dX4_term_23 rfl (lv_at hl 0 rfl) ?_
        obtain ⟨⟨σ_62, r_61⟩, h_60, hf⟩ := bd_e hf
        refine ky_see X hW pdOk_0 had h_60 (by omega) hl (Nat.le_of_ble_eq_true rfl) (by omega) dX4_term_24 (fun H locs hW => ?_)
        refine lv_bipush (v := 37) hx hb dX4_term_27 (by decide) ?_
        refine lv_icmp_ne (tgt := 72) hx hb dX4_term_29 (by decide) (fun c_63 => ?_) (fun c_63 => ?_)
        · replace hf := ine hf c_63
          refine lv_aload_n hx hb dX4_term_72 rfl (lv_at hl 1 rfl) ?_
          exact y_aret X hW (by omega) hV hf (by omega) dX4_term_73
        · replace hf := ip hf c_63
          refine lv_aload_n hx hb dX4_term_32 rfl (lv_at hl 0 rfl) ?_
          refine yg_6 X hW dX4_term_33 ?_
          refine ygo_9 X hW dX4_term_36 ?_
          refine lv_aload_n hx hb dX4_term_39 rfl (lv_at hl 0 rfl) ?_
          refine yg_2 X hW dX4_term_40 ?_
          obtain ⟨h_64, hf⟩ := gd_e hf
          refine yl_9 X hW h_64 dX4_term_43 ?_
          refine lv_istore_n (lv' := [(2, .int (σ_62.1 9 (ix (σ_62.1 997 2)))), (0, .ref (ad 997)), (1, .ref a)]) hx hb dX4_term_44 rfl hl (by decide) rfl (fun ls hl => ?_)
          refine lv_aload_n hx hb dX4_term_45 rfl (lv_at hl 1 rfl) ?_
          refine lv_dup hx hb dX4_term_46 rfl ?_
          refine yg_2 X hW dX4_term_47 ?_
          refine lv_iconst (v := 1) hx hb dX4_term_50 (by decide) ?_
          refine lv_iadd hx hb dX4_term_51 ?_
          refine yp_2 X hW dX4_term_52 (fun H locs hW => ?_)
          obtain ⟨c_65, hf, hc_66⟩ := addc_e hf
          refine y_new X hW (T := TX10) in_X10 tyX10 tyX10_ok q708 q709 q138 (ci := 9) rfl (fs := [.null, .null, .int 0]) (fun j hj => by rcases (show j = 0 ∨ j = 1 ∨ j = 2 by omega) with rfl | rfl | rfl <;> rfl) (by decide) (by omega) dX4_term_55 (fun pz_67 H hz_68 hW => ?_)
          refine lv_dup hx hb dX4_term_58 rfl ?_
          refine lv_aload_n hx hb dX4_term_59 rfl (lv_at hl 2 rfl) ?_
          refine lv_iload_n hx hb dX4_term_60 rfl (lv_at hl 0 rfl) ?_
          refine lv_aload_n hx hb dX4_term_61 rfl (lv_at hl 1 rfl) ?_
          obtain ⟨⟨σ_70, c_69, o_71⟩, h_72, hf⟩ := bd_e hf
          obtain ⟨c_73, hf, hc_74⟩ := addc_e hf
          refine y_callM X hW pdOk_1 (w_t_value l had (fr := 20) (lo := 500) (by decide) h_72) (lw_V q676 q678 qs20 q127 q679) ⟨rfl, by decide, by decide, by decide +kernel⟩ (nA := 0) (by omega) hl rfl rfl (Nat.le_of_ble_eq_true rfl) (by omega) dX4_term_62 (fun ho H locs q9 ce hW hc1 hc2 hc3 => by subst ho; exact y_out X hex hW (thy_n hf) (by omega) hc1 hc2 hc3) (fun φ_75 a_76 nd_78 ho H locs hW hN_77 => ?_)
          subst ho
          replace hf := thy_s hf
          replace hN_77 := RV.r (n := n) (nd := nd) hN_77
          replace hV := RV.l (c := c_69) (nd1 := nd_78) hV
          generalize nda n nd nd_78 = nd_79 at hW hN_77 hV
          refine y_init X hW pdOk_1 (b := 19999) List.mem_cons_self hz_68 (w_X10_init l) q712 q138 q710 q711 rfl ⟨by decide, by decide, by decide +kernel⟩ (nA := 3) (by omega) hl rfl rfl (Nat.le_of_ble_eq_true rfl) (by omega) dX4_term_65 (fun H locs hW => ?_)
          replace hW := y_commit hW pdOk_1 pdOk_0 (b := 19999) List.mem_cons_self (fun k hk => (List.not_mem_nil hk).elim) (x := ((pz_67 19999).1, .inr (9, [.ref a, .ref a_76, .int (σ_62.1 9 (ix (σ_62.1 997 2)))]))) (if_pos rfl)
          generalize (fun k => if k = 19999 then ((pz_67 19999).1, (.inr (9, [.ref a, .ref a_76, .int (σ_62.1 9 (ix (σ_62.1 997 2)))]) : va_E)) else pz_67 k : Nd) = pz_81 at hW
          generalize (pz_67 19999).1 = a_80 at hW ⊢
          have hN_82 := RV.pair (a := a_80) (sg := (σ_62.1 9 (ix (σ_62.1 997 2)))) hV hN_77 (n := (n + c_69)) (nd := nd_79)
          replace hV := RV.l (c := 1) (nd1 := fun _ => (a_80, .inr (9, [.ref a, .ref a_76, .int (σ_62.1 9 (ix (σ_62.1 997 2)))]))) hV
          replace hN_77 := RV.l (c := 1) (nd1 := fun _ => (a_80, .inr (9, [.ref a, .ref a_76, .int (σ_62.1 9 (ix (σ_62.1 997 2)))]))) hN_77
          generalize nda (n + c_69) nd_79 (fun _ => (a_80, (.inr (9, [.ref a, .ref a_76, .int (σ_62.1 9 (ix (σ_62.1 997 2)))]) : va_E))) = nd_83 at hW hN_82 hV hN_77
          refine lv_astore_n (lv' := [(1, .ref a_80), (2, .int (σ_62.1 9 (ix (σ_62.1 997 2)))), (0, .ref (ad 997))]) hx hb dX4_term_68 rfl hl (by decide) rfl (fun ls hl => ?_)
          refine lv_goto (tgt := 5) hx hb dX4_term_69 (by decide) ?_
          exact W.widen (by omega) (by omega) (ih _ _ _ _ _ _ _ _ _ _ hf (by omega) hW hN_82 (lv_sub hl [2, 0] rfl))
noncomputable def t_term (σ : cS) : Option (cS × Nat × Option (Wds → Int64)) :=
  ((t_value σ).bind fun (σ_2, c_1, o_3) => addc c_1 (thy σ_2 o_3 fun φ_7 => t_term_5 FU σ_2 φ_7))
set_option maxHeartbeats 4000000 in
theorem wb_t_term {p : Program} {l : Launch} {e : Env} {s : State} {m : MethodId} {args : Array Value} {below : List Frame} {meth : Method} {c : Code} {g : gG} {ad : Nat → Nat} {q : xR} {fr lo : Nat} (X : MX p s m args meth c cX4_term 3 RX4 (some (.object "DoughBorder$Value")) g (wA tIds ad s.heap.size)) (had : tI_ ad) (hex : ∀ x ∈ c.exceptionTable.toList, False) {σ σr : cS} {cnt : Nat} {o : Option (Wds → Int64)} (hfr : 21 ≤ fr ∧ 530 ≤ lo) {H : Heap} {locs : List Loc} {ls : Array Slot} (hW : WBY g (wA tIds ad s.heap.size) s.heap ad q σ [] z0 0 z0 H locs) (hl : lv_has ls 3 [(0, .ref (ad 997))]) (hf : t_term σ = some (σr, cnt, o)) : W p l e (rmy fr lo cnt) s m args below meth c H locs 0 (12 * 0) (QY below g ad q σr cnt RV o args s s.heap.size) (F0 m 0 ls []) := by
  have hx := X.1.1
  have hb := X.1.2.1
  obtain ⟨cnt0, hcnt⟩ : ∃ x, x = cnt := ⟨_, rfl⟩
  unfold t_term at hf
  refine lv_aload_n hx hb dX4_term_0 rfl (lv_at hl 0 rfl) ?_
  obtain ⟨⟨σ_2, c_1, o_3⟩, h_4, hf⟩ := bd_e hf
  obtain ⟨c_5, hf, hc_6⟩ := addc_e hf
  refine y_callM X hW pdOk_0 (w_t_value l had (fr := 20) (lo := 500) (by decide) h_4) (lw_V q676 q678 qs20 q127 q679) ⟨rfl, by decide, by decide, by decide +kernel⟩ (nA := 0) (by omega) hl rfl rfl (Nat.le_of_ble_eq_true rfl) (by omega) dX4_term_1 (fun ho H locs q9 ce hW hc1 hc2 hc3 => by subst ho; exact y_out X hex hW (thy_n hf) (by omega) hc1 hc2 hc3) (fun φ_7 a_8 nd_10 ho H locs hW hN_9 => ?_)
  subst ho
  replace hf := thy_s hf
  replace hN_9 := RV.r (n := 0) (nd := z0) hN_9
  generalize nda 0 z0 nd_10 = nd_11 at hW hN_9
  refine lv_astore_n (lv' := [(1, .ref a_8), (0, .ref (ad 997))]) hx hb dX4_term_4 rfl hl (by decide) rfl (fun ls hl => ?_)
  exact wt_term_5 X had hex hfr _ _ _ _ _ _ _ _ _ _ _ hf (by omega) hW hN_9 (lv_sub hl [1, 0] rfl)
theorem w_t_term (l : Launch) {g : gG} {ad : Nat → Nat} {q : xR} (had : tI_ ad) {fr lo : Nat} {σ σr : cS} {cnt : Nat} {o : Option (Wds → Int64)} (hfr : 21 ≤ fr ∧ 530 ≤ lo) (hf : t_term σ = some (σr, cnt, o)) : MY l yX4_term cX4_term 3 (some (.object "DoughBorder$Value")) fr lo g ad q σ σr cnt [.ref (ad 997)] RV o :=
  MY.of (by decide) had (Nat.le_of_ble_eq_true rfl) (fun p e s m below meth c ls X hex hW hl => wb_t_term X had hex hfr hW hl hf)
-- sum
noncomputable def t_sum_5 : Nat → cS → (Wds → Int64) → Option (cS × Nat × Option (Wds → Int64))
  | 0, _, _ => none
  | N + 1, σ, φ => ((t_see σ).bind fun (σ_14, r_13) => if r_13 = 43 then (gd (inb (σ_14.1 997 2) 400) (addc 1 (((t_term (si σ_14 997 2 ((σ_14.1 997 2) + 1))).bind fun (σ_22, c_21, o_23) => addc c_21 (thy σ_22 o_23 fun φ_27 => t_sum_5 N σ_22 (fun ws => vPair (σ_14.1 9 (ix (σ_14.1 997 2))) (φ ws) (φ_27 ws))))))) else (((t_see σ_14).bind fun (σ_38, r_37) => if r_37 = 45 then (gd (inb (σ_38.1 997 2) 400) (addc 1 (((t_term (si σ_38 997 2 ((σ_38.1 997 2) + 1))).bind fun (σ_46, c_45, o_47) => addc c_45 (thy σ_46 o_47 fun φ_51 => t_sum_5 N σ_46 (fun ws => vPair (σ_38.1 9 (ix (σ_38.1 997 2))) (φ ws) (φ_51 ws))))))) else (some (σ_38, 0, some φ)))))
set_option maxHeartbeats 4000000 in
theorem wt_sum_5 {p : Program} {l : Launch} {e : Env} {s : State} {m : MethodId} {args : Array Value} {below : List Frame} {meth : Method} {c : Code} {g : gG} {ad : Nat → Nat} {q : xR} {fr lo : Nat} (X : MX p s m args meth c cX4_sum 3 RX4 (some (.object "DoughBorder$Value")) g (wA tIds ad s.heap.size)) (had : tI_ ad) (hex : ∀ x ∈ c.exceptionTable.toList, False) {σr : cS} {o : Option (Wds → Int64)} {cnt : Nat} (hfr : 22 ≤ fr ∧ 560 ≤ lo) : ∀ (N : Nat) (σ : cS) (φ : Wds → Int64) (a n cr : Nat) (nd pz : Nd) (H : Heap) (locs : List Loc) (ls : Array Slot), t_sum_5 N σ φ = some (σr, cr, o) → n + cr = cnt → WBY g (wA tIds ad s.heap.size) s.heap ad q σ [] pz n nd H locs → RV (ndl n nd) φ a → lv_has ls 3 [(0, .ref (ad 997)), (1, .ref a)] → W p l e (rmy fr lo cnt) s m args below meth c H locs n (12 * n) (QY below g ad q σr cnt RV o args s s.heap.size) (F0 m 5 ls []) := by
  have hx := X.1.1
  have hb := X.1.2.1
  intro N
  induction N with
  | zero =>
    intro σ φ a n cr nd pz H locs ls hf
    rw [t_sum_5] at hf
    cases hf
  | succ N ih =>
    intro σ φ a n cr nd pz H locs ls hf hc hW hV hl
    rw [t_sum_5] at hf
    refine lv_aload_n hx hb dX4_sum_5 rfl (lv_at hl 0 rfl) ?_
    obtain ⟨⟨σ_14, r_13⟩, h_12, hf⟩ := bd_e hf
    refine ky_see X hW pdOk_0 had h_12 (by omega) hl (Nat.le_of_ble_eq_true rfl) (by omega) dX4_sum_6 (fun H locs hW => ?_)
    refine lv_bipush (v := 43) hx hb dX4_sum_9 (by decide) ?_
    refine lv_icmp_eq (tgt := 23) hx hb dX4_sum_11 (by decide) (fun c_15 => ?_) (fun c_15 => ?_)
    · replace hf := ip hf c_15
      refine lv_aload_n hx hb dX4_sum_23 rfl (lv_at hl 0 rfl) ?_
      refine yg_6 X hW dX4_sum_24 ?_
      refine ygo_9 X hW dX4_sum_27 ?_
      refine lv_aload_n hx hb dX4_sum_30 rfl (lv_at hl 0 rfl) ?_
      refine yg_2 X hW dX4_sum_31 ?_
      obtain ⟨h_16, hf⟩ := gd_e hf
      refine yl_9 X hW h_16 dX4_sum_34 ?_
      refine lv_istore_n (lv' := [(2, .int (σ_14.1 9 (ix (σ_14.1 997 2)))), (0, .ref (ad 997)), (1, .ref a)]) hx hb dX4_sum_35 rfl hl (by decide) rfl (fun ls hl => ?_)
      refine lv_aload_n hx hb dX4_sum_36 rfl (lv_at hl 1 rfl) ?_
      refine lv_dup hx hb dX4_sum_37 rfl ?_
      refine yg_2 X hW dX4_sum_38 ?_
      refine lv_iconst (v := 1) hx hb dX4_sum_41 (by decide) ?_
      refine lv_iadd hx hb dX4_sum_42 ?_
      refine yp_2 X hW dX4_sum_43 (fun H locs hW => ?_)
      obtain ⟨c_17, hf, hc_18⟩ := addc_e hf
      refine y_new X hW (T := TX10) in_X10 tyX10 tyX10_ok q708 q709 q138 (ci := 9) rfl (fs := [.null, .null, .int 0]) (fun j hj => by rcases (show j = 0 ∨ j = 1 ∨ j = 2 by omega) with rfl | rfl | rfl <;> rfl) (by decide) (by omega) dX4_sum_46 (fun pz_19 H hz_20 hW => ?_)
      refine lv_dup hx hb dX4_sum_49 rfl ?_
      refine lv_aload_n hx hb dX4_sum_50 rfl (lv_at hl 2 rfl) ?_
      refine lv_iload_n hx hb dX4_sum_51 rfl (lv_at hl 0 rfl) ?_
      refine lv_aload_n hx hb dX4_sum_52 rfl (lv_at hl 1 rfl) ?_
      obtain ⟨⟨σ_22, c_21, o_23⟩, h_24, hf⟩ := bd_e hf
      obtain ⟨c_25, hf, hc_26⟩ := addc_e hf
      refine y_callM X hW pdOk_1 (w_t_term l had (fr := 21) (lo := 530) (by decide) h_24) (lw_V q672 q674 qs19 q127 q675) ⟨rfl, by decide, by decide, by decide +kernel⟩ (nA := 0) (by omega) hl rfl rfl (Nat.le_of_ble_eq_true rfl) (by omega) dX4_sum_53 (fun ho H locs q9 ce hW hc1 hc2 hc3 => by subst ho; exact y_out X hex hW (thy_n hf) (by omega) hc1 hc2 hc3) (fun φ_27 a_28 nd_30 ho H locs hW hN_29 => ?_)
      subst ho
      replace hf := thy_s hf
      replace hN_29 := RV.r (n := n) (nd := nd) hN_29
      replace hV := RV.l (c := c_21) (nd1 := nd_30) hV
      generalize nda n nd nd_30 = nd_31 at hW hN_29 hV
      refine y_init X hW pdOk_1 (b := 19999) List.mem_cons_self hz_20 (w_X10_init l) q712 q138 q710 q711 rfl ⟨by decide, by decide, by decide +kernel⟩ (nA := 3) (by omega) hl rfl rfl (Nat.le_of_ble_eq_true rfl) (by omega) dX4_sum_56 (fun H locs hW => ?_)
      replace hW := y_commit hW pdOk_1 pdOk_0 (b := 19999) List.mem_cons_self (fun k hk => (List.not_mem_nil hk).elim) (x := ((pz_19 19999).1, .inr (9, [.ref a, .ref a_28, .int (σ_14.1 9 (ix (σ_14.1 997 2)))]))) (if_pos rfl)
      generalize (fun k => if k = 19999 then ((pz_19 19999).1, (.inr (9, [.ref a, .ref a_28, .int (σ_14.1 9 (ix (σ_14.1 997 2)))]) : va_E)) else pz_19 k : Nd) = pz_33 at hW
      generalize (pz_19 19999).1 = a_32 at hW ⊢
      have hN_34 := RV.pair (a := a_32) (sg := (σ_14.1 9 (ix (σ_14.1 997 2)))) hV hN_29 (n := (n + c_21)) (nd := nd_31)
      replace hV := RV.l (c := 1) (nd1 := fun _ => (a_32, .inr (9, [.ref a, .ref a_28, .int (σ_14.1 9 (ix (σ_14.1 997 2)))]))) hV
      replace hN_29 := RV.l (c := 1) (nd1 := fun _ => (a_32, .inr (9, [.ref a, .ref a_28, .int (σ_14.1 9 (ix (σ_14.1 997 2)))]))) hN_29
      generalize nda (n + c_21) nd_31 (fun _ => (a_32, (.inr (9, [.ref a, .ref a_28, .int (σ_14.1 9 (ix (σ_14.1 997 2)))]) : va_E))) = nd_35 at hW hN_34 hV hN_29
      refine lv_astore_n (lv' := [(1, .ref a_32), (2, .int (σ_14.1 9 (ix (σ_14.1 997 2)))), (0, .ref (ad 997))]) hx hb dX4_sum_59 rfl hl (by decide) rfl (fun ls hl => ?_)
      refine lv_goto (tgt := 5) hx hb dX4_sum_60 (by decide) ?_
      exact W.widen (by omega) (by omega) (ih _ _ _ _ _ _ _ _ _ _ hf (by omega) hW hN_34 (lv_sub hl [2, 0] rfl))
    · replace hf := ine hf c_15
      refine lv_aload_n hx hb dX4_sum_14 rfl (lv_at hl 0 rfl) ?_
      obtain ⟨⟨σ_38, r_37⟩, h_36, hf⟩ := bd_e hf
      refine ky_see X hW pdOk_0 had h_36 (by omega) hl (Nat.le_of_ble_eq_true rfl) (by omega) dX4_sum_15 (fun H locs hW => ?_)
      refine lv_bipush (v := 45) hx hb dX4_sum_18 (by decide) ?_
      refine lv_icmp_ne (tgt := 63) hx hb dX4_sum_20 (by decide) (fun c_39 => ?_) (fun c_39 => ?_)
      · replace hf := ine hf c_39
        refine lv_aload_n hx hb dX4_sum_63 rfl (lv_at hl 1 rfl) ?_
        exact y_aret X hW (by omega) hV hf (by omega) dX4_sum_64
      · replace hf := ip hf c_39
        refine lv_aload_n hx hb dX4_sum_23 rfl (lv_at hl 0 rfl) ?_
        refine yg_6 X hW dX4_sum_24 ?_
        refine ygo_9 X hW dX4_sum_27 ?_
        refine lv_aload_n hx hb dX4_sum_30 rfl (lv_at hl 0 rfl) ?_
        refine yg_2 X hW dX4_sum_31 ?_
        obtain ⟨h_40, hf⟩ := gd_e hf
        refine yl_9 X hW h_40 dX4_sum_34 ?_
        refine lv_istore_n (lv' := [(2, .int (σ_38.1 9 (ix (σ_38.1 997 2)))), (0, .ref (ad 997)), (1, .ref a)]) hx hb dX4_sum_35 rfl hl (by decide) rfl (fun ls hl => ?_)
        refine lv_aload_n hx hb dX4_sum_36 rfl (lv_at hl 1 rfl) ?_
        refine lv_dup hx hb dX4_sum_37 rfl ?_
        refine yg_2 X hW dX4_sum_38 ?_
        refine lv_iconst (v := 1) hx hb dX4_sum_41 (by decide) ?_
        refine lv_iadd hx hb dX4_sum_42 ?_
        refine yp_2 X hW dX4_sum_43 (fun H locs hW => ?_)
        obtain ⟨c_41, hf, hc_42⟩ := addc_e hf
        refine y_new X hW (T := TX10) in_X10 tyX10 tyX10_ok q708 q709 q138 (ci := 9) rfl (fs := [.null, .null, .int 0]) (fun j hj => by rcases (show j = 0 ∨ j = 1 ∨ j = 2 by omega) with rfl | rfl | rfl <;> rfl) (by decide) (by omega) dX4_sum_46 (fun pz_43 H hz_44 hW => ?_)
        refine lv_dup hx hb dX4_sum_49 rfl ?_
        refine lv_aload_n hx hb dX4_sum_50 rfl (lv_at hl 2 rfl) ?_
        refine lv_iload_n hx hb dX4_sum_51 rfl (lv_at hl 0 rfl) ?_
        refine lv_aload_n hx hb dX4_sum_52 rfl (lv_at hl 1 rfl) ?_
        obtain ⟨⟨σ_46, c_45, o_47⟩, h_48, hf⟩ := bd_e hf
        obtain ⟨c_49, hf, hc_50⟩ := addc_e hf
        refine y_callM X hW pdOk_1 (w_t_term l had (fr := 21) (lo := 530) (by decide) h_48) (lw_V q672 q674 qs19 q127 q675) ⟨rfl, by decide, by decide, by decide +kernel⟩ (nA := 0) (by omega) hl rfl rfl (Nat.le_of_ble_eq_true rfl) (by omega) dX4_sum_53 (fun ho H locs q9 ce hW hc1 hc2 hc3 => by subst ho; exact y_out X hex hW (thy_n hf) (by omega) hc1 hc2 hc3) (fun φ_51 a_52 nd_54 ho H locs hW hN_53 => ?_)
        subst ho
        replace hf := thy_s hf
        replace hN_53 := RV.r (n := n) (nd := nd) hN_53
        replace hV := RV.l (c := c_45) (nd1 := nd_54) hV
        generalize nda n nd nd_54 = nd_55 at hW hN_53 hV
        refine y_init X hW pdOk_1 (b := 19999) List.mem_cons_self hz_44 (w_X10_init l) q712 q138 q710 q711 rfl ⟨by decide, by decide, by decide +kernel⟩ (nA := 3) (by omega) hl rfl rfl (Nat.le_of_ble_eq_true rfl) (by omega) dX4_sum_56 (fun H locs hW => ?_)
        replace hW := y_commit hW pdOk_1 pdOk_0 (b := 19999) List.mem_cons_self (fun k hk => (List.not_mem_nil hk).elim) (x := ((pz_43 19999).1, .inr (9, [.ref a, .ref a_52, .int (σ_38.1 9 (ix (σ_38.1 997 2)))]))) (if_pos rfl)
        generalize (fun k => if k = 19999 then ((pz_43 19999).1, (.inr (9, [.ref a, .ref a_52, .int (σ_38.1 9 (ix (σ_38.1 997 2)))]) : va_E)) else pz_43 k : Nd) = pz_57 at hW
        generalize (pz_43 19999).1 = a_56 at hW ⊢
        have hN_58 := RV.pair (a := a_56) (sg := (σ_38.1 9 (ix (σ_38.1 997 2)))) hV hN_53 (n := (n + c_45)) (nd := nd_55)
        replace hV := RV.l (c := 1) (nd1 := fun _ => (a_56, .inr (9, [.ref a, .ref a_52, .int (σ_38.1 9 (ix (σ_38.1 997 2)))]))) hV
        replace hN_53 := RV.l (c := 1) (nd1 := fun _ => (a_56, .inr (9, [.ref a, .ref a_52, .int (σ_38.1 9 (ix (σ_38.1 997 2)))]))) hN_53
        generalize nda (n + c_45) nd_55 (fun _ => (a_56, (.inr (9, [.ref a, .ref a_52, .int (σ_38.1 9 (ix (σ_38.1 997 2)))]) : va_E))) = nd_59 at hW hN_58 hV hN_53
        refine lv_astore_n (lv' := [(1, .ref a_56), (2, .int (σ_38.1 9 (ix (σ_38.1 997 2)))), (0, .ref (ad 997))]) hx hb dX4_sum_59 rfl hl (by decide) rfl (fun ls hl => ?_)
        refine lv_goto (tgt := 5) hx hb dX4_sum_60 (by decide) ?_
        exact W.widen (by omega) (by omega) (ih _ _ _ _ _ _ _ _ _ _ hf (by omega) hW hN_58 (lv_sub hl [2, 0] rfl))
noncomputable def t_sum (σ : cS) : Option (cS × Nat × Option (Wds → Int64)) :=
  ((t_term σ).bind fun (σ_2, c_1, o_3) => addc c_1 (thy σ_2 o_3 fun φ_7 => t_sum_5 FU σ_2 φ_7))
set_option maxHeartbeats 4000000 in
theorem wb_t_sum {p : Program} {l : Launch} {e : Env} {s : State} {m : MethodId} {args : Array Value} {below : List Frame} {meth : Method} {c : Code} {g : gG} {ad : Nat → Nat} {q : xR} {fr lo : Nat} (X : MX p s m args meth c cX4_sum 3 RX4 (some (.object "DoughBorder$Value")) g (wA tIds ad s.heap.size)) (had : tI_ ad) (hex : ∀ x ∈ c.exceptionTable.toList, False) {σ σr : cS} {cnt : Nat} {o : Option (Wds → Int64)} (hfr : 22 ≤ fr ∧ 560 ≤ lo) {H : Heap} {locs : List Loc} {ls : Array Slot} (hW : WBY g (wA tIds ad s.heap.size) s.heap ad q σ [] z0 0 z0 H locs) (hl : lv_has ls 3 [(0, .ref (ad 997))]) (hf : t_sum σ = some (σr, cnt, o)) : W p l e (rmy fr lo cnt) s m args below meth c H locs 0 (12 * 0) (QY below g ad q σr cnt RV o args s s.heap.size) (F0 m 0 ls []) := by
  have hx := X.1.1
  have hb := X.1.2.1
  obtain ⟨cnt0, hcnt⟩ : ∃ x, x = cnt := ⟨_, rfl⟩
  unfold t_sum at hf
  refine lv_aload_n hx hb dX4_sum_0 rfl (lv_at hl 0 rfl) ?_
  obtain ⟨⟨σ_2, c_1, o_3⟩, h_4, hf⟩ := bd_e hf
  obtain ⟨c_5, hf, hc_6⟩ := addc_e hf
  refine y_callM X hW pdOk_0 (w_t_term l had (fr := 21) (lo := 530) (by decide) h_4) (lw_V q672 q674 qs19 q127 q675) ⟨rfl, by decide, by decide, by decide +kernel⟩ (nA := 0) (by omega) hl rfl rfl (Nat.le_of_ble_eq_true rfl) (by omega) dX4_sum_1 (fun ho H locs q9 ce hW hc1 hc2 hc3 => by subst ho; exact y_out X hex hW (thy_n hf) (by omega) hc1 hc2 hc3) (fun φ_7 a_8 nd_10 ho H locs hW hN_9 => ?_)
  subst ho
  replace hf := thy_s hf
  replace hN_9 := RV.r (n := 0) (nd := z0) hN_9
  generalize nda 0 z0 nd_10 = nd_11 at hW hN_9
  refine lv_astore_n (lv' := [(1, .ref a_8), (0, .ref (ad 997))]) hx hb dX4_sum_4 rfl hl (by decide) rfl (fun ls hl => ?_)
  exact wt_sum_5 X had hex hfr _ _ _ _ _ _ _ _ _ _ _ hf (by omega) hW hN_9 (lv_sub hl [1, 0] rfl)
theorem w_t_sum (l : Launch) {g : gG} {ad : Nat → Nat} {q : xR} (had : tI_ ad) {fr lo : Nat} {σ σr : cS} {cnt : Nat} {o : Option (Wds → Int64)} (hfr : 22 ≤ fr ∧ 560 ≤ lo) (hf : t_sum σ = some (σr, cnt, o)) : MY l yX4_sum cX4_sum 3 (some (.object "DoughBorder$Value")) fr lo g ad q σ σr cnt [.ref (ad 997)] RV o :=
  MY.of (by decide) had (Nat.le_of_ble_eq_true rfl) (fun p e s m below meth c ls X hex hW hl => wb_t_sum X had hex hfr hW hl hf)
-- parted
noncomputable def t_parted_5 (F : cS → Option (cS × Nat × Option (Wds → Int32))) : Nat → cS → (Wds → Int32) → Option (cS × Nat × Option (Wds → Int32))
  | 0, _, _ => none
  | N + 1, σ, φ => ((t_takesWord σ 20).bind fun (σ_14, r_13) => if r_13 = 0 then (some (σ_14, 0, some φ)) else (addc 1 (((F σ_14).bind fun (σ_21, c_20, o_22) => addc c_20 (thy σ_21 o_22 fun φ_26 => t_parted_5 F N σ_21 (fun ws => vBoth 1 (φ ws) (φ_26 ws)))))))
set_option maxHeartbeats 4000000 in
theorem wt_parted_5 {p : Program} {l : Launch} {e : Env} {s : State} {m : MethodId} {args : Array Value} {below : List Frame} {meth : Method} {c : Code} {g : gG} {ad : Nat → Nat} {q : xR} {fr lo fF lF : Nat} (X : MX p s m args meth c cX4_parted 2 RX4 (some (.object "DoughBorder$Test")) g (wA tIds ad s.heap.size)) (had : tI_ ad) (hex : ∀ x ∈ c.exceptionTable.toList, False) {σr : cS} {o : Option (Wds → Int32)} {cnt : Nat} {F : cS → Option (cS × Nat × Option (Wds → Int32))} (HF : ∀ (σ σr : cS) (c : Nat) (o : Option (Wds → Int32)), F σ = some (σr, c, o) → MY l yX4_fact cX4_fact 6 (some (.object "DoughBorder$Test")) fF lF g ad q σ σr c [.ref (ad 997)] RT o) (hfr : 30 ≤ fr ∧ 700 ≤ lo ∧ fF + 1 ≤ fr ∧ lF + 40 ≤ lo) : ∀ (N : Nat) (σ : cS) (φ : Wds → Int32) (a n cr : Nat) (nd pz : Nd) (H : Heap) (locs : List Loc) (ls : Array Slot), t_parted_5 F N σ φ = some (σr, cr, o) → n + cr = cnt → WBY g (wA tIds ad s.heap.size) s.heap ad q σ [] pz n nd H locs → RT (ndl n nd) φ a → lv_has ls 2 [(0, .ref (ad 997)), (1, .ref a)] → W p l e (rmy fr lo cnt) s m args below meth c H locs n (12 * n) (QY below g ad q σr cnt RT o args s s.heap.size) (F0 m 5 ls []) := by
  have hx := X.1.1
  have hb := X.1.2.1
  intro N
  induction N with
  | zero =>
    intro σ φ a n cr nd pz H locs ls hf
    rw [t_parted_5] at hf
    cases hf
  | succ N ih =>
    intro σ φ a n cr nd pz H locs ls hf hc hW hV hl
    rw [t_parted_5] at hf
    refine lv_aload_n hx hb dX4_parted_5 rfl (lv_at hl 0 rfl) ?_
    refine va_ldcS hx hb X.1.2.2.2.1 (X.2.2.2.2.1.1 20 _ rfl).1 dX4_parted_6 ?_
    obtain ⟨⟨σ_14, r_13⟩, h_12, hf⟩ := bd_e hf
    refine ky_takesWord X hW pdOk_0 had (by decide) h_12 (by omega) hl (Nat.le_of_ble_eq_true rfl) (by omega) dX4_parted_8 (fun H locs hW => ?_)
    refine lv_if_eq (tgt := 31) hx hb dX4_parted_11 (by decide) (fun c_15 => ?_) (fun c_15 => ?_)
    · replace hf := ip hf c_15
      refine lv_aload_n hx hb dX4_parted_31 rfl (lv_at hl 1 rfl) ?_
      exact y_aret X hW (by omega) hV hf (by omega) dX4_parted_32
    · replace hf := ine hf c_15
      obtain ⟨c_16, hf, hc_17⟩ := addc_e hf
      refine y_new X hW (T := TX14) in_X14 tyX14 tyX14_ok q780 q781 q142 (ci := 12) rfl (fs := [.null, .null, .int 0]) (fun j hj => by rcases (show j = 0 ∨ j = 1 ∨ j = 2 by omega) with rfl | rfl | rfl <;> rfl) (by decide) (by omega) dX4_parted_14 (fun pz_18 H hz_19 hW => ?_)
      refine lv_dup hx hb dX4_parted_17 rfl ?_
      refine lv_aload_n hx hb dX4_parted_18 rfl (lv_at hl 1 rfl) ?_
      refine lv_iconst (v := 1) hx hb dX4_parted_19 (by decide) ?_
      refine lv_aload_n hx hb dX4_parted_20 rfl (lv_at hl 0 rfl) ?_
      obtain ⟨⟨σ_21, c_20, o_22⟩, h_23, hf⟩ := bd_e hf
      obtain ⟨c_24, hf, hc_25⟩ := addc_e hf
      refine y_callM X hW pdOk_1 (HF _ _ _ _ h_23) (lw_V q737 q739 qs25 q127 q740) ⟨rfl, by decide, by decide, by decide +kernel⟩ (nA := 0) (by omega) hl rfl rfl (Nat.le_of_ble_eq_true rfl) (by omega) dX4_parted_21 (fun ho H locs q9 ce hW hc1 hc2 hc3 => by subst ho; exact y_out X hex hW (thy_n hf) (by omega) hc1 hc2 hc3) (fun φ_26 a_27 nd_29 ho H locs hW hN_28 => ?_)
      subst ho
      replace hf := thy_s hf
      replace hN_28 := RT.r (n := n) (nd := nd) hN_28
      replace hV := RT.l (c := c_20) (nd1 := nd_29) hV
      generalize nda n nd nd_29 = nd_30 at hW hN_28 hV
      refine y_init X hW pdOk_1 (b := 19999) List.mem_cons_self hz_19 (w_X14_init l (by decide)) q784 q142 q782 q783 rfl ⟨by decide, by decide, by decide +kernel⟩ (nA := 3) (by omega) hl rfl rfl (Nat.le_of_ble_eq_true rfl) (by omega) dX4_parted_24 (fun H locs hW => ?_)
      replace hW := y_commit hW pdOk_1 pdOk_0 (b := 19999) List.mem_cons_self (fun k hk => (List.not_mem_nil hk).elim) (x := ((pz_18 19999).1, .inr (12, [.ref a, .ref a_27, .int 1]))) (if_pos rfl)
      generalize (fun k => if k = 19999 then ((pz_18 19999).1, (.inr (12, [.ref a, .ref a_27, .int 1]) : va_E)) else pz_18 k : Nd) = pz_32 at hW
      generalize (pz_18 19999).1 = a_31 at hW ⊢
      have hN_33 := RT.both (a := a_31) (z := 1) hV hN_28 (n := (n + c_20)) (nd := nd_30)
      replace hV := RT.l (c := 1) (nd1 := fun _ => (a_31, .inr (12, [.ref a, .ref a_27, .int 1]))) hV
      replace hN_28 := RT.l (c := 1) (nd1 := fun _ => (a_31, .inr (12, [.ref a, .ref a_27, .int 1]))) hN_28
      generalize nda (n + c_20) nd_30 (fun _ => (a_31, (.inr (12, [.ref a, .ref a_27, .int 1]) : va_E))) = nd_34 at hW hN_33 hV hN_28
      refine lv_astore_n (lv' := [(1, .ref a_31), (0, .ref (ad 997))]) hx hb dX4_parted_27 rfl hl (by decide) rfl (fun ls hl => ?_)
      refine lv_goto (tgt := 5) hx hb dX4_parted_28 (by decide) ?_
      exact W.widen (by omega) (by omega) (ih _ _ _ _ _ _ _ _ _ _ hf (by omega) hW hN_33 (lv_sub hl [1, 0] rfl))
noncomputable def t_parted (F : cS → Option (cS × Nat × Option (Wds → Int32))) (σ : cS) : Option (cS × Nat × Option (Wds → Int32)) :=
  ((F σ).bind fun (σ_2, c_1, o_3) => addc c_1 (thy σ_2 o_3 fun φ_7 => t_parted_5 F FU σ_2 φ_7))
set_option maxHeartbeats 4000000 in
theorem wb_t_parted {p : Program} {l : Launch} {e : Env} {s : State} {m : MethodId} {args : Array Value} {below : List Frame} {meth : Method} {c : Code} {g : gG} {ad : Nat → Nat} {q : xR} {fr lo fF lF : Nat} (X : MX p s m args meth c cX4_parted 2 RX4 (some (.object "DoughBorder$Test")) g (wA tIds ad s.heap.size)) (had : tI_ ad) (hex : ∀ x ∈ c.exceptionTable.toList, False) {σ σr : cS} {cnt : Nat} {o : Option (Wds → Int32)} {F : cS → Option (cS × Nat × Option (Wds → Int32))} (HF : ∀ (σ σr : cS) (c : Nat) (o : Option (Wds → Int32)), F σ = some (σr, c, o) → MY l yX4_fact cX4_fact 6 (some (.object "DoughBorder$Test")) fF lF g ad q σ σr c [.ref (ad 997)] RT o) (hfr : 30 ≤ fr ∧ 700 ≤ lo ∧ fF + 1 ≤ fr ∧ lF + 40 ≤ lo) {H : Heap} {locs : List Loc} {ls : Array Slot} (hW : WBY g (wA tIds ad s.heap.size) s.heap ad q σ [] z0 0 z0 H locs) (hl : lv_has ls 2 [(0, .ref (ad 997))]) (hf : t_parted F σ = some (σr, cnt, o)) : W p l e (rmy fr lo cnt) s m args below meth c H locs 0 (12 * 0) (QY below g ad q σr cnt RT o args s s.heap.size) (F0 m 0 ls []) := by
  have hx := X.1.1
  have hb := X.1.2.1
  obtain ⟨cnt0, hcnt⟩ : ∃ x, x = cnt := ⟨_, rfl⟩
  unfold t_parted at hf
  refine lv_aload_n hx hb dX4_parted_0 rfl (lv_at hl 0 rfl) ?_
  obtain ⟨⟨σ_2, c_1, o_3⟩, h_4, hf⟩ := bd_e hf
  obtain ⟨c_5, hf, hc_6⟩ := addc_e hf
  refine y_callM X hW pdOk_0 (HF _ _ _ _ h_4) (lw_V q737 q739 qs25 q127 q740) ⟨rfl, by decide, by decide, by decide +kernel⟩ (nA := 0) (by omega) hl rfl rfl (Nat.le_of_ble_eq_true rfl) (by omega) dX4_parted_1 (fun ho H locs q9 ce hW hc1 hc2 hc3 => by subst ho; exact y_out X hex hW (thy_n hf) (by omega) hc1 hc2 hc3) (fun φ_7 a_8 nd_10 ho H locs hW hN_9 => ?_)
  subst ho
  replace hf := thy_s hf
  replace hN_9 := RT.r (n := 0) (nd := z0) hN_9
  generalize nda 0 z0 nd_10 = nd_11 at hW hN_9
  refine lv_astore_n (lv' := [(1, .ref a_8), (0, .ref (ad 997))]) hx hb dX4_parted_4 rfl hl (by decide) rfl (fun ls hl => ?_)
  exact wt_parted_5 X had hex HF hfr _ _ _ _ _ _ _ _ _ _ _ hf (by omega) hW hN_9 (lv_sub hl [1, 0] rfl)
theorem w_t_parted (l : Launch) {g : gG} {ad : Nat → Nat} {q : xR} (had : tI_ ad) {fr lo fF lF : Nat} {σ σr : cS} {cnt : Nat} {o : Option (Wds → Int32)} {F : cS → Option (cS × Nat × Option (Wds → Int32))} (HF : ∀ (σ σr : cS) (c : Nat) (o : Option (Wds → Int32)), F σ = some (σr, c, o) → MY l yX4_fact cX4_fact 6 (some (.object "DoughBorder$Test")) fF lF g ad q σ σr c [.ref (ad 997)] RT o) (hfr : 30 ≤ fr ∧ 700 ≤ lo ∧ fF + 1 ≤ fr ∧ lF + 40 ≤ lo) (hf : t_parted F σ = some (σr, cnt, o)) : MY l yX4_parted cX4_parted 2 (some (.object "DoughBorder$Test")) fr lo g ad q σ σr cnt [.ref (ad 997)] RT o :=
  MY.of (by decide) had (Nat.le_of_ble_eq_true rfl) (fun p e s m below meth c ls X hex hW hl => wb_t_parted X had hex HF hfr hW hl hf)
-- tested
noncomputable def t_tested_5 (P : cS → Option (cS × Nat × Option (Wds → Int32))) : Nat → cS → (Wds → Int32) → Option (cS × Nat × Option (Wds → Int32))
  | 0, _, _ => none
  | N + 1, σ, φ => ((t_takesWord σ 19).bind fun (σ_14, r_13) => if r_13 = 0 then (some (σ_14, 0, some φ)) else (addc 1 (((P σ_14).bind fun (σ_21, c_20, o_22) => addc c_20 (thy σ_21 o_22 fun φ_26 => t_tested_5 P N σ_21 (fun ws => vBoth 0 (φ ws) (φ_26 ws)))))))
set_option maxHeartbeats 4000000 in
theorem wt_tested_5 {p : Program} {l : Launch} {e : Env} {s : State} {m : MethodId} {args : Array Value} {below : List Frame} {meth : Method} {c : Code} {g : gG} {ad : Nat → Nat} {q : xR} {fr lo fP lP : Nat} (X : MX p s m args meth c cX4_tested 2 RX4 (some (.object "DoughBorder$Test")) g (wA tIds ad s.heap.size)) (had : tI_ ad) (hex : ∀ x ∈ c.exceptionTable.toList, False) {σr : cS} {o : Option (Wds → Int32)} {cnt : Nat} {P : cS → Option (cS × Nat × Option (Wds → Int32))} (HP : ∀ (σ σr : cS) (c : Nat) (o : Option (Wds → Int32)), P σ = some (σr, c, o) → MY l yX4_parted cX4_parted 2 (some (.object "DoughBorder$Test")) fP lP g ad q σ σr c [.ref (ad 997)] RT o) (hfr : 30 ≤ fr ∧ 700 ≤ lo ∧ fP + 1 ≤ fr ∧ lP + 40 ≤ lo) : ∀ (N : Nat) (σ : cS) (φ : Wds → Int32) (a n cr : Nat) (nd pz : Nd) (H : Heap) (locs : List Loc) (ls : Array Slot), t_tested_5 P N σ φ = some (σr, cr, o) → n + cr = cnt → WBY g (wA tIds ad s.heap.size) s.heap ad q σ [] pz n nd H locs → RT (ndl n nd) φ a → lv_has ls 2 [(0, .ref (ad 997)), (1, .ref a)] → W p l e (rmy fr lo cnt) s m args below meth c H locs n (12 * n) (QY below g ad q σr cnt RT o args s s.heap.size) (F0 m 5 ls []) := by
  have hx := X.1.1
  have hb := X.1.2.1
  intro N
  induction N with
  | zero =>
    intro σ φ a n cr nd pz H locs ls hf
    rw [t_tested_5] at hf
    cases hf
  | succ N ih =>
    intro σ φ a n cr nd pz H locs ls hf hc hW hV hl
    rw [t_tested_5] at hf
    refine lv_aload_n hx hb dX4_tested_5 rfl (lv_at hl 0 rfl) ?_
    refine va_ldcS hx hb X.1.2.2.2.1 (X.2.2.2.2.1.1 19 _ rfl).1 dX4_tested_6 ?_
    obtain ⟨⟨σ_14, r_13⟩, h_12, hf⟩ := bd_e hf
    refine ky_takesWord X hW pdOk_0 had (by decide) h_12 (by omega) hl (Nat.le_of_ble_eq_true rfl) (by omega) dX4_tested_8 (fun H locs hW => ?_)
    refine lv_if_eq (tgt := 31) hx hb dX4_tested_11 (by decide) (fun c_15 => ?_) (fun c_15 => ?_)
    · replace hf := ip hf c_15
      refine lv_aload_n hx hb dX4_tested_31 rfl (lv_at hl 1 rfl) ?_
      exact y_aret X hW (by omega) hV hf (by omega) dX4_tested_32
    · replace hf := ine hf c_15
      obtain ⟨c_16, hf, hc_17⟩ := addc_e hf
      refine y_new X hW (T := TX14) in_X14 tyX14 tyX14_ok q780 q781 q142 (ci := 12) rfl (fs := [.null, .null, .int 0]) (fun j hj => by rcases (show j = 0 ∨ j = 1 ∨ j = 2 by omega) with rfl | rfl | rfl <;> rfl) (by decide) (by omega) dX4_tested_14 (fun pz_18 H hz_19 hW => ?_)
      refine lv_dup hx hb dX4_tested_17 rfl ?_
      refine lv_aload_n hx hb dX4_tested_18 rfl (lv_at hl 1 rfl) ?_
      refine lv_iconst (v := 0) hx hb dX4_tested_19 (by decide) ?_
      refine lv_aload_n hx hb dX4_tested_20 rfl (lv_at hl 0 rfl) ?_
      obtain ⟨⟨σ_21, c_20, o_22⟩, h_23, hf⟩ := bd_e hf
      obtain ⟨c_24, hf, hc_25⟩ := addc_e hf
      refine y_callM X hW pdOk_1 (HP _ _ _ _ h_23) (lw_V q733 q735 qs24 q127 q736) ⟨rfl, by decide, by decide, by decide +kernel⟩ (nA := 0) (by omega) hl rfl rfl (Nat.le_of_ble_eq_true rfl) (by omega) dX4_tested_21 (fun ho H locs q9 ce hW hc1 hc2 hc3 => by subst ho; exact y_out X hex hW (thy_n hf) (by omega) hc1 hc2 hc3) (fun φ_26 a_27 nd_29 ho H locs hW hN_28 => ?_)
      subst ho
      replace hf := thy_s hf
      replace hN_28 := RT.r (n := n) (nd := nd) hN_28
      replace hV := RT.l (c := c_20) (nd1 := nd_29) hV
      generalize nda n nd nd_29 = nd_30 at hW hN_28 hV
      refine y_init X hW pdOk_1 (b := 19999) List.mem_cons_self hz_19 (w_X14_init l (by decide)) q784 q142 q782 q783 rfl ⟨by decide, by decide, by decide +kernel⟩ (nA := 3) (by omega) hl rfl rfl (Nat.le_of_ble_eq_true rfl) (by omega) dX4_tested_24 (fun H locs hW => ?_)
      replace hW := y_commit hW pdOk_1 pdOk_0 (b := 19999) List.mem_cons_self (fun k hk => (List.not_mem_nil hk).elim) (x := ((pz_18 19999).1, .inr (12, [.ref a, .ref a_27, .int 0]))) (if_pos rfl)
      generalize (fun k => if k = 19999 then ((pz_18 19999).1, (.inr (12, [.ref a, .ref a_27, .int 0]) : va_E)) else pz_18 k : Nd) = pz_32 at hW
      generalize (pz_18 19999).1 = a_31 at hW ⊢
      have hN_33 := RT.both (a := a_31) (z := 0) hV hN_28 (n := (n + c_20)) (nd := nd_30)
      replace hV := RT.l (c := 1) (nd1 := fun _ => (a_31, .inr (12, [.ref a, .ref a_27, .int 0]))) hV
      replace hN_28 := RT.l (c := 1) (nd1 := fun _ => (a_31, .inr (12, [.ref a, .ref a_27, .int 0]))) hN_28
      generalize nda (n + c_20) nd_30 (fun _ => (a_31, (.inr (12, [.ref a, .ref a_27, .int 0]) : va_E))) = nd_34 at hW hN_33 hV hN_28
      refine lv_astore_n (lv' := [(1, .ref a_31), (0, .ref (ad 997))]) hx hb dX4_tested_27 rfl hl (by decide) rfl (fun ls hl => ?_)
      refine lv_goto (tgt := 5) hx hb dX4_tested_28 (by decide) ?_
      exact W.widen (by omega) (by omega) (ih _ _ _ _ _ _ _ _ _ _ hf (by omega) hW hN_33 (lv_sub hl [1, 0] rfl))
noncomputable def t_tested (P : cS → Option (cS × Nat × Option (Wds → Int32))) (σ : cS) : Option (cS × Nat × Option (Wds → Int32)) :=
  ((P σ).bind fun (σ_2, c_1, o_3) => addc c_1 (thy σ_2 o_3 fun φ_7 => t_tested_5 P FU σ_2 φ_7))
set_option maxHeartbeats 4000000 in
theorem wb_t_tested {p : Program} {l : Launch} {e : Env} {s : State} {m : MethodId} {args : Array Value} {below : List Frame} {meth : Method} {c : Code} {g : gG} {ad : Nat → Nat} {q : xR} {fr lo fP lP : Nat} (X : MX p s m args meth c cX4_tested 2 RX4 (some (.object "DoughBorder$Test")) g (wA tIds ad s.heap.size)) (had : tI_ ad) (hex : ∀ x ∈ c.exceptionTable.toList, False) {σ σr : cS} {cnt : Nat} {o : Option (Wds → Int32)} {P : cS → Option (cS × Nat × Option (Wds → Int32))} (HP : ∀ (σ σr : cS) (c : Nat) (o : Option (Wds → Int32)), P σ = some (σr, c, o) → MY l yX4_parted cX4_parted 2 (some (.object "DoughBorder$Test")) fP lP g ad q σ σr c [.ref (ad 997)] RT o) (hfr : 30 ≤ fr ∧ 700 ≤ lo ∧ fP + 1 ≤ fr ∧ lP + 40 ≤ lo) {H : Heap} {locs : List Loc} {ls : Array Slot} (hW : WBY g (wA tIds ad s.heap.size) s.heap ad q σ [] z0 0 z0 H locs) (hl : lv_has ls 2 [(0, .ref (ad 997))]) (hf : t_tested P σ = some (σr, cnt, o)) : W p l e (rmy fr lo cnt) s m args below meth c H locs 0 (12 * 0) (QY below g ad q σr cnt RT o args s s.heap.size) (F0 m 0 ls []) := by
  have hx := X.1.1
  have hb := X.1.2.1
  obtain ⟨cnt0, hcnt⟩ : ∃ x, x = cnt := ⟨_, rfl⟩
  unfold t_tested at hf
  refine lv_aload_n hx hb dX4_tested_0 rfl (lv_at hl 0 rfl) ?_
  obtain ⟨⟨σ_2, c_1, o_3⟩, h_4, hf⟩ := bd_e hf
  obtain ⟨c_5, hf, hc_6⟩ := addc_e hf
  refine y_callM X hW pdOk_0 (HP _ _ _ _ h_4) (lw_V q733 q735 qs24 q127 q736) ⟨rfl, by decide, by decide, by decide +kernel⟩ (nA := 0) (by omega) hl rfl rfl (Nat.le_of_ble_eq_true rfl) (by omega) dX4_tested_1 (fun ho H locs q9 ce hW hc1 hc2 hc3 => by subst ho; exact y_out X hex hW (thy_n hf) (by omega) hc1 hc2 hc3) (fun φ_7 a_8 nd_10 ho H locs hW hN_9 => ?_)
  subst ho
  replace hf := thy_s hf
  replace hN_9 := RT.r (n := 0) (nd := z0) hN_9
  generalize nda 0 z0 nd_10 = nd_11 at hW hN_9
  refine lv_astore_n (lv' := [(1, .ref a_8), (0, .ref (ad 997))]) hx hb dX4_tested_4 rfl hl (by decide) rfl (fun ls hl => ?_)
  exact wt_tested_5 X had hex HP hfr _ _ _ _ _ _ _ _ _ _ _ hf (by omega) hW hN_9 (lv_sub hl [1, 0] rfl)
theorem w_t_tested (l : Launch) {g : gG} {ad : Nat → Nat} {q : xR} (had : tI_ ad) {fr lo fP lP : Nat} {σ σr : cS} {cnt : Nat} {o : Option (Wds → Int32)} {P : cS → Option (cS × Nat × Option (Wds → Int32))} (HP : ∀ (σ σr : cS) (c : Nat) (o : Option (Wds → Int32)), P σ = some (σr, c, o) → MY l yX4_parted cX4_parted 2 (some (.object "DoughBorder$Test")) fP lP g ad q σ σr c [.ref (ad 997)] RT o) (hfr : 30 ≤ fr ∧ 700 ≤ lo ∧ fP + 1 ≤ fr ∧ lP + 40 ≤ lo) (hf : t_tested P σ = some (σr, cnt, o)) : MY l yX4_tested cX4_tested 2 (some (.object "DoughBorder$Test")) fr lo g ad q σ σr cnt [.ref (ad 997)] RT o :=
  MY.of (by decide) had (Nat.le_of_ble_eq_true rfl) (fun p e s m below meth c ls X hex hW hl => wb_t_tested X had hex HP hfr hW hl hf)
-- fact
noncomputable def t_fact (F : cS → Option (cS × Nat × Option (Wds → Int32))) (T : cS → Option (cS × Nat × Option (Wds → Int32))) (σ : cS) : Option (cS × Nat × Option (Wds → Int32)) :=
  ((t_see σ).bind fun (σ_3, r_2) => ((t_isWord σ_3 21).bind fun (σ_6, r_5) => if r_5 = 0 then (if r_2 = 91 then (((t_opens σ_6 (σ_3.1 997 2)).bind fun (σ_52, o_53) => thy σ_52 o_53 fun _ => ((T (si σ_52 997 2 ((σ_52.1 997 2) + 1))).bind fun (σ_55, c_54, o_56) => addc c_54 (thy σ_55 o_56 fun φ_60 => ((t_takesSign σ_55 93).bind fun (σ_67, r_66) => ((t_demand σ_67 r_66 0 (σ_67.1 997 2)).bind fun (σ_70, o_71) => thy σ_70 o_71 fun _ => some ((si σ_70 997 3 ((σ_70.1 997 3) - 1)), 0, some φ_60))))))) else (((t_sum σ_6).bind fun (σ_10, c_9, o_11) => addc c_9 (thy σ_10 o_11 fun φ_15 => ((t_see σ_10).bind fun (σ_22, r_21) => ((t_sign σ_22).bind fun (σ_25, o_26) => thy σ_25 o_26 fun r_24 => ((t_makes σ_25 (σ_22.1 997 2)).bind fun (σ_29, o_30) => thy σ_29 o_30 fun _ => addc 1 (((t_sum σ_29).bind fun (σ_36, c_35, o_37) => addc c_35 (thy σ_36 o_37 fun φ_41 => some (σ_36, 0, some (fun ws => vCmp r_24 (φ_15 ws) (φ_41 ws))))))))))))) else (((t_opens σ_6 (σ_3.1 997 2)).bind fun (σ_74, o_75) => thy σ_74 o_75 fun _ => addc 1 (((F (si σ_74 997 2 ((σ_74.1 997 2) + 3))).bind fun (σ_81, c_80, o_82) => addc c_80 (thy σ_81 o_82 fun φ_86 => some ((si σ_81 997 3 ((σ_81.1 997 3) - 1)), 0, some (fun ws => if φ_86 ws = 0 then 1 else 0)))))))))
set_option maxHeartbeats 4000000 in
theorem wb_t_fact {p : Program} {l : Launch} {e : Env} {s : State} {m : MethodId} {args : Array Value} {below : List Frame} {meth : Method} {c : Code} {g : gG} {ad : Nat → Nat} {q : xR} {fr lo fF lF fT lT : Nat} (X : MX p s m args meth c cX4_fact 6 RX4 (some (.object "DoughBorder$Test")) g (wA tIds ad s.heap.size)) (had : tI_ ad) (hex : ∀ x ∈ c.exceptionTable.toList, False) {σ σr : cS} {cnt : Nat} {o : Option (Wds → Int32)} {F : cS → Option (cS × Nat × Option (Wds → Int32))} {T : cS → Option (cS × Nat × Option (Wds → Int32))} (HF : ∀ (σ σr : cS) (c : Nat) (o : Option (Wds → Int32)), F σ = some (σr, c, o) → MY l yX4_fact cX4_fact 6 (some (.object "DoughBorder$Test")) fF lF g ad q σ σr c [.ref (ad 997)] RT o) (HT : ∀ (σ σr : cS) (c : Nat) (o : Option (Wds → Int32)), T σ = some (σr, c, o) → MY l yX4_tested cX4_tested 2 (some (.object "DoughBorder$Test")) fT lT g ad q σ σr c [.ref (ad 997)] RT o) (hfr : 30 ≤ fr ∧ 700 ≤ lo ∧ fF + 1 ≤ fr ∧ lF + 40 ≤ lo ∧ fT + 1 ≤ fr ∧ lT + 40 ≤ lo) {H : Heap} {locs : List Loc} {ls : Array Slot} (hW : WBY g (wA tIds ad s.heap.size) s.heap ad q σ [] z0 0 z0 H locs) (hl : lv_has ls 6 [(0, .ref (ad 997))]) (hf : t_fact F T σ = some (σr, cnt, o)) : W p l e (rmy fr lo cnt) s m args below meth c H locs 0 (12 * 0) (QY below g ad q σr cnt RT o args s s.heap.size) (F0 m 0 ls []) := by
  have hx := X.1.1
  have hb := X.1.2.1
  obtain ⟨cnt0, hcnt⟩ : ∃ x, x = cnt := ⟨_, rfl⟩
  unfold t_fact at hf
  refine lv_aload_n hx hb dX4_fact_0 rfl (lv_at hl 0 rfl) ?_
  obtain ⟨⟨σ_3, r_2⟩, h_1, hf⟩ := bd_e hf
  refine ky_see X hW pdOk_0 had h_1 (by omega) hl (Nat.le_of_ble_eq_true rfl) (by omega) dX4_fact_1 (fun H locs hW => ?_)
  refine lv_istore_n (lv' := [(1, .int r_2), (0, .ref (ad 997))]) hx hb dX4_fact_4 rfl hl (by decide) rfl (fun ls hl => ?_)
  refine lv_aload_n hx hb dX4_fact_5 rfl (lv_at hl 1 rfl) ?_
  refine yg_2 X hW dX4_fact_6 ?_
  refine lv_istore_n (lv' := [(2, .int (σ_3.1 997 2)), (1, .int r_2), (0, .ref (ad 997))]) hx hb dX4_fact_9 rfl hl (by decide) rfl (fun ls hl => ?_)
  refine lv_aload_n hx hb dX4_fact_10 rfl (lv_at hl 2 rfl) ?_
  refine va_ldcS hx hb X.1.2.2.2.1 (X.2.2.2.2.1.1 21 _ rfl).1 dX4_fact_11 ?_
  obtain ⟨⟨σ_6, r_5⟩, h_4, hf⟩ := bd_e hf
  refine ky_isWord X hW pdOk_0 had (by decide) h_4 (by omega) hl (Nat.le_of_ble_eq_true rfl) (by omega) dX4_fact_13 (fun H locs hW => ?_)
  refine lv_if_eq (tgt := 58) hx hb dX4_fact_16 (by decide) (fun c_7 => ?_) (fun c_7 => ?_)
  · replace hf := ip hf c_7
    refine lv_iload_n hx hb dX4_fact_58 rfl (lv_at hl 1 rfl) ?_
    refine lv_bipush (v := 91) hx hb dX4_fact_59 (by decide) ?_
    refine lv_icmp_ne (tgt := 111) hx hb dX4_fact_61 (by decide) (fun c_8 => ?_) (fun c_8 => ?_)
    · replace hf := ine hf c_8
      refine lv_aload_n hx hb dX4_fact_111 rfl (lv_at hl 2 rfl) ?_
      obtain ⟨⟨σ_10, c_9, o_11⟩, h_12, hf⟩ := bd_e hf
      obtain ⟨c_13, hf, hc_14⟩ := addc_e hf
      refine y_callM X hW pdOk_0 (w_t_sum l had (fr := 22) (lo := 560) (by decide) h_12) (lw_V q668 q670 qs18 q127 q671) ⟨rfl, by decide, by decide, by decide +kernel⟩ (nA := 0) (by omega) hl rfl rfl (Nat.le_of_ble_eq_true rfl) (by omega) dX4_fact_112 (fun ho H locs q9 ce hW hc1 hc2 hc3 => by subst ho; exact y_out X hex hW (thy_n hf) (by omega) hc1 hc2 hc3) (fun φ_15 a_16 nd_18 ho H locs hW hN_17 => ?_)
      subst ho
      replace hf := thy_s hf
      replace hN_17 := RV.r (n := 0) (nd := z0) hN_17
      generalize nda 0 z0 nd_18 = nd_19 at hW hN_17
      refine lv_astore_n (lv' := [(3, .ref a_16), (2, .int (σ_3.1 997 2)), (1, .int r_2), (0, .ref (ad 997))]) hx hb dX4_fact_115 rfl hl (by decide) rfl (fun ls hl => ?_)
      refine lv_aload_n hx hb dX4_fact_116 rfl (lv_at hl 3 rfl) ?_
      obtain ⟨⟨σ_22, r_21⟩, h_20, hf⟩ := bd_e hf
      refine ky_see X hW pdOk_0 had h_20 (by omega) hl (Nat.le_of_ble_eq_true rfl) (by omega) dX4_fact_117 (fun H locs hW => ?_)
      refine lv_pop hx hb dX4_fact_120 rfl ?_
      refine lv_aload_n hx hb dX4_fact_121 rfl (lv_at hl 3 rfl) ?_
      refine yg_2 X hW dX4_fact_122 ?_
      refine lv_istore (lv' := [(4, .int (σ_22.1 997 2)), (3, .ref a_16), (2, .int (σ_3.1 997 2)), (1, .int r_2), (0, .ref (ad 997))]) hx hb dX4_fact_125 hl (by decide) rfl (fun ls hl => ?_)
      refine lv_aload_n hx hb dX4_fact_127 rfl (lv_at hl 4 rfl) ?_
      obtain ⟨⟨σ_25, o_26⟩, h_23, hf⟩ := bd_e hf
      refine ky_sign X hW pdOk_0 had h_23 (by omega) hl (Nat.le_of_ble_eq_true rfl) (by omega) dX4_fact_128 (fun ho H locs q9 ce hW hc1 hc2 hc3 => by subst ho; exact y_out X hex hW (thy_n hf) (by omega) hc1 hc2 hc3) (fun r_24 ho H locs hW => ?_)
      subst ho
      replace hf := thy_s hf
      refine lv_istore (lv' := [(5, .int r_24), (4, .int (σ_22.1 997 2)), (3, .ref a_16), (2, .int (σ_3.1 997 2)), (1, .int r_2), (0, .ref (ad 997))]) hx hb dX4_fact_131 hl (by decide) rfl (fun ls hl => ?_)
      refine lv_aload_n hx hb dX4_fact_133 rfl (lv_at hl 5 rfl) ?_
      refine lv_iload hx hb dX4_fact_134 (lv_at hl 1 rfl) ?_
      obtain ⟨⟨σ_29, o_30⟩, h_27, hf⟩ := bd_e hf
      refine ky_makes X hW pdOk_0 had h_27 (by omega) hl (Nat.le_of_ble_eq_true rfl) (by omega) dX4_fact_136 (fun ho H locs q9 ce hW hc1 hc2 hc3 => by subst ho; exact y_out X hex hW (thy_n hf) (by omega) hc1 hc2 hc3) (fun r_28 ho H locs hW => ?_)
      subst ho
      replace hf := thy_s hf
      obtain ⟨c_31, hf, hc_32⟩ := addc_e hf
      refine y_new X hW (T := TX13) in_X13 tyX13 tyX13_ok q763 q764 q141 (ci := 11) rfl (fs := [.null, .null, .int 0]) (fun j hj => by rcases (show j = 0 ∨ j = 1 ∨ j = 2 by omega) with rfl | rfl | rfl <;> rfl) (by decide) (by omega) dX4_fact_139 (fun pz_33 H hz_34 hW => ?_)
      refine lv_dup hx hb dX4_fact_142 rfl ?_
      refine lv_aload_n hx hb dX4_fact_143 rfl (lv_at hl 2 rfl) ?_
      refine lv_iload hx hb dX4_fact_144 (lv_at hl 0 rfl) ?_
      refine lv_aload_n hx hb dX4_fact_146 rfl (lv_at hl 5 rfl) ?_
      obtain ⟨⟨σ_36, c_35, o_37⟩, h_38, hf⟩ := bd_e hf
      obtain ⟨c_39, hf, hc_40⟩ := addc_e hf
      refine y_callM X hW pdOk_1 (w_t_sum l had (fr := 22) (lo := 560) (by decide) h_38) (lw_V q668 q670 qs18 q127 q671) ⟨rfl, by decide, by decide, by decide +kernel⟩ (nA := 0) (by omega) hl rfl rfl (Nat.le_of_ble_eq_true rfl) (by omega) dX4_fact_147 (fun ho H locs q9 ce hW hc1 hc2 hc3 => by subst ho; exact y_out X hex hW (thy_n hf) (by omega) hc1 hc2 hc3) (fun φ_41 a_42 nd_44 ho H locs hW hN_43 => ?_)
      subst ho
      replace hf := thy_s hf
      replace hN_43 := RV.r (n := (0 + c_9)) (nd := nd_19) hN_43
      replace hN_17 := RV.l (c := c_35) (nd1 := nd_44) hN_17
      generalize nda (0 + c_9) nd_19 nd_44 = nd_45 at hW hN_43 hN_17
      refine y_init X hW pdOk_1 (b := 19999) List.mem_cons_self hz_34 (w_X13_init l) q767 q141 q765 q766 rfl ⟨by decide, by decide, by decide +kernel⟩ (nA := 3) (by omega) hl rfl rfl (Nat.le_of_ble_eq_true rfl) (by omega) dX4_fact_150 (fun H locs hW => ?_)
      replace hW := y_commit hW pdOk_1 pdOk_0 (b := 19999) List.mem_cons_self (fun k hk => (List.not_mem_nil hk).elim) (x := ((pz_33 19999).1, .inr (11, [.ref a_16, .ref a_42, .int r_24]))) (if_pos rfl)
      generalize (fun k => if k = 19999 then ((pz_33 19999).1, (.inr (11, [.ref a_16, .ref a_42, .int r_24]) : va_E)) else pz_33 k : Nd) = pz_47 at hW
      generalize (pz_33 19999).1 = a_46 at hW ⊢
      have hN_48 := RT.cmp (a := a_46) (sg := r_24) hN_17 hN_43 (n := ((0 + c_9) + c_35)) (nd := nd_45)
      replace hN_17 := RV.l (c := 1) (nd1 := fun _ => (a_46, .inr (11, [.ref a_16, .ref a_42, .int r_24]))) hN_17
      replace hN_43 := RV.l (c := 1) (nd1 := fun _ => (a_46, .inr (11, [.ref a_16, .ref a_42, .int r_24]))) hN_43
      generalize nda ((0 + c_9) + c_35) nd_45 (fun _ => (a_46, (.inr (11, [.ref a_16, .ref a_42, .int r_24]) : va_E))) = nd_49 at hW hN_48 hN_17 hN_43
      exact y_aret X hW (by omega) hN_48 hf (by omega) dX4_fact_153
    · replace hf := ip hf c_8
      refine lv_aload_n hx hb dX4_fact_64 rfl (lv_at hl 2 rfl) ?_
      refine lv_iload_n hx hb dX4_fact_65 rfl (lv_at hl 0 rfl) ?_
      obtain ⟨⟨σ_52, o_53⟩, h_50, hf⟩ := bd_e hf
      refine ky_opens X hW pdOk_0 had h_50 (by omega) hl (Nat.le_of_ble_eq_true rfl) (by omega) dX4_fact_66 (fun ho H locs q9 ce hW hc1 hc2 hc3 => by subst ho; exact y_out X hex hW (thy_n hf) (by omega) hc1 hc2 hc3) (fun r_51 ho H locs hW => ?_)
      subst ho
      replace hf := thy_s hf
      refine lv_aload_n hx hb dX4_fact_69 rfl (lv_at hl 2 rfl) ?_
      refine lv_dup hx hb dX4_fact_70 rfl ?_
      refine yg_2 X hW dX4_fact_71 ?_
      refine lv_iconst (v := 1) hx hb dX4_fact_74 (by decide) ?_
      refine lv_iadd hx hb dX4_fact_75 ?_
      refine yp_2 X hW dX4_fact_76 (fun H locs hW => ?_)
      refine lv_aload_n hx hb dX4_fact_79 rfl (lv_at hl 2 rfl) ?_
      obtain ⟨⟨σ_55, c_54, o_56⟩, h_57, hf⟩ := bd_e hf
      obtain ⟨c_58, hf, hc_59⟩ := addc_e hf
      refine y_callM X hW pdOk_0 (HT _ _ _ _ h_57) (lw_V q729 q731 qs23 q127 q732) ⟨rfl, by decide, by decide, by decide +kernel⟩ (nA := 0) (by omega) hl rfl rfl (Nat.le_of_ble_eq_true rfl) (by omega) dX4_fact_80 (fun ho H locs q9 ce hW hc1 hc2 hc3 => by subst ho; exact y_out X hex hW (thy_n hf) (by omega) hc1 hc2 hc3) (fun φ_60 a_61 nd_63 ho H locs hW hN_62 => ?_)
      subst ho
      replace hf := thy_s hf
      replace hN_62 := RT.r (n := 0) (nd := z0) hN_62
      generalize nda 0 z0 nd_63 = nd_64 at hW hN_62
      refine lv_astore_n (lv' := [(3, .ref a_61), (2, .int (σ_3.1 997 2)), (1, .int r_2), (0, .ref (ad 997))]) hx hb dX4_fact_83 rfl hl (by decide) rfl (fun ls hl => ?_)
      refine lv_aload_n hx hb dX4_fact_84 rfl (lv_at hl 3 rfl) ?_
      refine lv_aload_n hx hb dX4_fact_85 rfl (lv_at hl 3 rfl) ?_
      refine lv_bipush (v := 93) hx hb dX4_fact_86 (by decide) ?_
      obtain ⟨⟨σ_67, r_66⟩, h_65, hf⟩ := bd_e hf
      refine ky_takesSign X hW pdOk_0 had h_65 (by omega) hl (Nat.le_of_ble_eq_true rfl) (by omega) dX4_fact_88 (fun H locs hW => ?_)
      refine lv_iconst (v := 0) hx hb dX4_fact_91 (by decide) ?_
      refine lv_aload_n hx hb dX4_fact_92 rfl (lv_at hl 3 rfl) ?_
      refine yg_2 X hW dX4_fact_93 ?_
      obtain ⟨⟨σ_70, o_71⟩, h_68, hf⟩ := bd_e hf
      refine ky_demand X hW pdOk_0 had h_68 (by omega) hl (Nat.le_of_ble_eq_true rfl) (by omega) dX4_fact_96 (fun ho H locs q9 ce hW hc1 hc2 hc3 => by subst ho; exact y_out X hex hW (thy_n hf) (by omega) hc1 hc2 hc3) (fun r_69 ho H locs hW => ?_)
      subst ho
      replace hf := thy_s hf
      refine lv_aload_n hx hb dX4_fact_99 rfl (lv_at hl 3 rfl) ?_
      refine lv_dup hx hb dX4_fact_100 rfl ?_
      refine yg_3 X hW dX4_fact_101 ?_
      refine lv_iconst (v := 1) hx hb dX4_fact_104 (by decide) ?_
      refine lv_isub hx hb dX4_fact_105 ?_
      refine yp_3 X hW dX4_fact_106 (fun H locs hW => ?_)
      refine lv_aload_n hx hb dX4_fact_109 rfl (lv_at hl 0 rfl) ?_
      exact y_aret X hW (by omega) hN_62 hf (by omega) dX4_fact_110
  · replace hf := ine hf c_7
    refine lv_aload_n hx hb dX4_fact_19 rfl (lv_at hl 2 rfl) ?_
    refine lv_iload_n hx hb dX4_fact_20 rfl (lv_at hl 0 rfl) ?_
    obtain ⟨⟨σ_74, o_75⟩, h_72, hf⟩ := bd_e hf
    refine ky_opens X hW pdOk_0 had h_72 (by omega) hl (Nat.le_of_ble_eq_true rfl) (by omega) dX4_fact_21 (fun ho H locs q9 ce hW hc1 hc2 hc3 => by subst ho; exact y_out X hex hW (thy_n hf) (by omega) hc1 hc2 hc3) (fun r_73 ho H locs hW => ?_)
    subst ho
    replace hf := thy_s hf
    refine lv_aload_n hx hb dX4_fact_24 rfl (lv_at hl 2 rfl) ?_
    refine lv_dup hx hb dX4_fact_25 rfl ?_
    refine yg_2 X hW dX4_fact_26 ?_
    refine lv_iconst (v := 3) hx hb dX4_fact_29 (by decide) ?_
    refine lv_iadd hx hb dX4_fact_30 ?_
    refine yp_2 X hW dX4_fact_31 (fun H locs hW => ?_)
    obtain ⟨c_76, hf, hc_77⟩ := addc_e hf
    refine y_new X hW (T := TX12) in_X12 tyX12 tyX12_ok q746 q747 q140 (ci := 10) rfl (fs := [.null]) (fun j hj => by rcases (show j = 0 by omega) with rfl <;> rfl) (by decide) (by omega) dX4_fact_34 (fun pz_78 H hz_79 hW => ?_)
    refine lv_dup hx hb dX4_fact_37 rfl ?_
    refine lv_aload_n hx hb dX4_fact_38 rfl (lv_at hl 2 rfl) ?_
    obtain ⟨⟨σ_81, c_80, o_82⟩, h_83, hf⟩ := bd_e hf
    obtain ⟨c_84, hf, hc_85⟩ := addc_e hf
    refine y_callM X hW pdOk_1 (HF _ _ _ _ h_83) (lw_V q737 q739 qs25 q127 q740) ⟨rfl, by decide, by decide, by decide +kernel⟩ (nA := 0) (by omega) hl rfl rfl (Nat.le_of_ble_eq_true rfl) (by omega) dX4_fact_39 (fun ho H locs q9 ce hW hc1 hc2 hc3 => by subst ho; exact y_out X hex hW (thy_n hf) (by omega) hc1 hc2 hc3) (fun φ_86 a_87 nd_89 ho H locs hW hN_88 => ?_)
    subst ho
    replace hf := thy_s hf
    replace hN_88 := RT.r (n := 0) (nd := z0) hN_88
    generalize nda 0 z0 nd_89 = nd_90 at hW hN_88
    refine y_init X hW pdOk_1 (b := 19999) List.mem_cons_self hz_79 (w_X12_init l) q750 q140 q748 q749 rfl ⟨by decide, by decide, by decide +kernel⟩ (nA := 1) (by omega) hl rfl rfl (Nat.le_of_ble_eq_true rfl) (by omega) dX4_fact_42 (fun H locs hW => ?_)
    replace hW := y_commit hW pdOk_1 pdOk_0 (b := 19999) List.mem_cons_self (fun k hk => (List.not_mem_nil hk).elim) (x := ((pz_78 19999).1, .inr (10, [.ref a_87]))) (if_pos rfl)
    generalize (fun k => if k = 19999 then ((pz_78 19999).1, (.inr (10, [.ref a_87]) : va_E)) else pz_78 k : Nd) = pz_92 at hW
    generalize (pz_78 19999).1 = a_91 at hW ⊢
    have hN_93 := RT.not (a := a_91) hN_88 (n := (0 + c_80)) (nd := nd_90)
    replace hN_88 := RT.l (c := 1) (nd1 := fun _ => (a_91, .inr (10, [.ref a_87]))) hN_88
    generalize nda (0 + c_80) nd_90 (fun _ => (a_91, (.inr (10, [.ref a_87]) : va_E))) = nd_94 at hW hN_93 hN_88
    refine lv_astore_n (lv' := [(3, .ref a_91), (2, .int (σ_3.1 997 2)), (1, .int r_2), (0, .ref (ad 997))]) hx hb dX4_fact_45 rfl hl (by decide) rfl (fun ls hl => ?_)
    refine lv_aload_n hx hb dX4_fact_46 rfl (lv_at hl 3 rfl) ?_
    refine lv_dup hx hb dX4_fact_47 rfl ?_
    refine yg_3 X hW dX4_fact_48 ?_
    refine lv_iconst (v := 1) hx hb dX4_fact_51 (by decide) ?_
    refine lv_isub hx hb dX4_fact_52 ?_
    refine yp_3 X hW dX4_fact_53 (fun H locs hW => ?_)
    refine lv_aload_n hx hb dX4_fact_56 rfl (lv_at hl 0 rfl) ?_
    exact y_aret X hW (by omega) hN_93 hf (by omega) dX4_fact_57
theorem w_t_fact (l : Launch) {g : gG} {ad : Nat → Nat} {q : xR} (had : tI_ ad) {fr lo fF lF fT lT : Nat} {σ σr : cS} {cnt : Nat} {o : Option (Wds → Int32)} {F : cS → Option (cS × Nat × Option (Wds → Int32))} {T : cS → Option (cS × Nat × Option (Wds → Int32))} (HF : ∀ (σ σr : cS) (c : Nat) (o : Option (Wds → Int32)), F σ = some (σr, c, o) → MY l yX4_fact cX4_fact 6 (some (.object "DoughBorder$Test")) fF lF g ad q σ σr c [.ref (ad 997)] RT o) (HT : ∀ (σ σr : cS) (c : Nat) (o : Option (Wds → Int32)), T σ = some (σr, c, o) → MY l yX4_tested cX4_tested 2 (some (.object "DoughBorder$Test")) fT lT g ad q σ σr c [.ref (ad 997)] RT o) (hfr : 30 ≤ fr ∧ 700 ≤ lo ∧ fF + 1 ≤ fr ∧ lF + 40 ≤ lo ∧ fT + 1 ≤ fr ∧ lT + 40 ≤ lo) (hf : t_fact F T σ = some (σr, cnt, o)) : MY l yX4_fact cX4_fact 6 (some (.object "DoughBorder$Test")) fr lo g ad q σ σr cnt [.ref (ad 997)] RT o :=
  MY.of (by decide) had (Nat.le_of_ble_eq_true rfl) (fun p e s m below meth c ls X hex hW hl => wb_t_fact X had hex HF HT hfr hW hl hf)
