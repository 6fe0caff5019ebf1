set_option maxRecDepth 100000
-- standsAs
noncomputable def d_standsAs (σ : cS) : Option (cS) :=
  nmb (si σ 999 7 (σ.1 1999 7)) fun σ_1 => (nmb (si σ_1 999 8 ((si σ 999 7 (σ.1 1999 7)).1 1999 8)) fun σ_3 => (nmb (sA σ_3 16 (va_cpy (σ_3.1 1016) (σ_3.1 16) (ix 0) (ix 0) (ix 10))) fun σ_5 => (nmb (sA σ_5 17 (va_cpy (σ_5.1 1017) (σ_5.1 17) (ix 0) (ix 0) (ix 10))) fun σ_7 => (nmb (sA σ_7 18 (va_cpy (σ_7.1 1018) (σ_7.1 18) (ix 0) (ix 0) (ix 10))) fun σ_9 => (some (sA σ_9 19 (va_cpy (σ_9.1 1019) (σ_9.1 19) (ix 0) (ix 0) (ix 8))))))))
set_option maxHeartbeats 4000000 in
theorem wb_d_standsAs {p : Program} {l : Launch} {e : Env} {s : State} {m : MethodId} {args : Array Value} {below : List Frame} {meth : Method} {c : Code} {g : gG} {A : Nat → Prop} {ad : Nat → Nat} (X : MX p s m args meth c cX1_standsAs 2 RX1 (some (.object "DoughBorder$Dough")) g A) (had : eI_ ad) {σr : cS}  {σ : cS}  {H : Heap} {locs : List Loc} {ls : Array Slot} (hW : WB g A s.heap eIds ad (dE g ad σ) H locs) (hl : lv_has ls 2 [(0, .ref (ad 999)), (1, .ref (ad 1999))]) (hf : d_standsAs σ = some σr) : W p l e (rm_ 2 60) s m args below meth c H locs 0 0 (Qm below g eIds ad (dE g ad σr) (some (.ref (ad 999))) A args s) (F0 m 0 ls []) := by
  have hx := X.1.1
  have hb := X.1.2.1
  unfold d_standsAs at hf
  refine lv_aload_n hx hb dX1_standsAs_0 rfl (lv_at hl 0 rfl) ?_
  refine lv_aload_n hx hb dX1_standsAs_1 rfl (lv_at hl 1 rfl) ?_
  refine dg_1007 X hW em_1999 dX1_standsAs_2 ?_
  refine dp_7 X hW em_999 dX1_standsAs_5 (fun H locs hW => ?_)
  refine lv_aload_n hx hb dX1_standsAs_8 rfl (lv_at hl 0 rfl) ?_
  refine lv_aload_n hx hb dX1_standsAs_9 rfl (lv_at hl 1 rfl) ?_
  refine dg_1008 X hW em_1999 dX1_standsAs_10 ?_
  obtain ⟨σ_1, e_2, hf⟩ := nmb_e hf
  rw [← e_2] at hW
  clear e_2
  refine dp_8 X hW em_999 dX1_standsAs_13 (fun H locs hW => ?_)
  refine lv_aload_n hx hb dX1_standsAs_16 rfl (lv_at hl 1 rfl) ?_
  refine dg_1016 X hW em_1999 dX1_standsAs_17 ?_
  refine lv_iconst (v := 0) hx hb dX1_standsAs_20 (by decide) ?_
  refine lv_aload_n hx hb dX1_standsAs_21 rfl (lv_at hl 0 rfl) ?_
  refine dg_16 X hW em_999 dX1_standsAs_22 ?_
  refine lv_iconst (v := 0) hx hb dX1_standsAs_25 (by decide) ?_
  refine lv_bipush (v := 10) hx hb dX1_standsAs_26 (by decide) ?_
  obtain ⟨σ_3, e_4, hf⟩ := nmb_e hf
  rw [← e_4] at hW
  clear e_4
  refine d_copy X hW hl q504 (by decide) (Nat.le_of_ble_eq_true rfl) em_1016 em_16 ⟨by decide, by decide⟩ ⟨by decide, by decide⟩ (by decide) dX1_standsAs_28 (fun H locs hW => ?_)
  refine lv_aload_n hx hb dX1_standsAs_31 rfl (lv_at hl 1 rfl) ?_
  refine dg_1017 X hW em_1999 dX1_standsAs_32 ?_
  refine lv_iconst (v := 0) hx hb dX1_standsAs_35 (by decide) ?_
  refine lv_aload_n hx hb dX1_standsAs_36 rfl (lv_at hl 0 rfl) ?_
  refine dg_17 X hW em_999 dX1_standsAs_37 ?_
  refine lv_iconst (v := 0) hx hb dX1_standsAs_40 (by decide) ?_
  refine lv_bipush (v := 10) hx hb dX1_standsAs_41 (by decide) ?_
  obtain ⟨σ_5, e_6, hf⟩ := nmb_e hf
  rw [← e_6] at hW
  clear e_6
  refine d_copy X hW hl q504 (by decide) (Nat.le_of_ble_eq_true rfl) em_1017 em_17 ⟨by decide, by decide⟩ ⟨by decide, by decide⟩ (by decide) dX1_standsAs_43 (fun H locs hW => ?_)
  refine lv_aload_n hx hb dX1_standsAs_46 rfl (lv_at hl 1 rfl) ?_
  refine dg_1018 X hW em_1999 dX1_standsAs_47 ?_
  refine lv_iconst (v := 0) hx hb dX1_standsAs_50 (by decide) ?_
  refine lv_aload_n hx hb dX1_standsAs_51 rfl (lv_at hl 0 rfl) ?_
  refine dg_18 X hW em_999 dX1_standsAs_52 ?_
  refine lv_iconst (v := 0) hx hb dX1_standsAs_55 (by decide) ?_
  refine lv_bipush (v := 10) hx hb dX1_standsAs_56 (by decide) ?_
  obtain ⟨σ_7, e_8, hf⟩ := nmb_e hf
  rw [← e_8] at hW
  clear e_8
  refine d_copy X hW hl q504 (by decide) (Nat.le_of_ble_eq_true rfl) em_1018 em_18 ⟨by decide, by decide⟩ ⟨by decide, by decide⟩ (by decide) dX1_standsAs_58 (fun H locs hW => ?_)
  refine lv_aload_n hx hb dX1_standsAs_61 rfl (lv_at hl 1 rfl) ?_
  refine dg_1019 X hW em_1999 dX1_standsAs_62 ?_
  refine lv_iconst (v := 0) hx hb dX1_standsAs_65 (by decide) ?_
  refine lv_aload_n hx hb dX1_standsAs_66 rfl (lv_at hl 0 rfl) ?_
  refine dg_19 X hW em_999 dX1_standsAs_67 ?_
  refine lv_iconst (v := 0) hx hb dX1_standsAs_70 (by decide) ?_
  refine lv_bipush (v := 8) hx hb dX1_standsAs_71 (by decide) ?_
  obtain ⟨σ_9, e_10, hf⟩ := nmb_e hf
  rw [← e_10] at hW
  clear e_10
  refine d_copy X hW hl q504 (by decide) (Nat.le_of_ble_eq_true rfl) em_1019 em_19 ⟨by decide, by decide⟩ ⟨by decide, by decide⟩ (by decide) dX1_standsAs_73 (fun H locs hW => ?_)
  refine lv_aload_n hx hb dX1_standsAs_76 rfl (lv_at hl 0 rfl) ?_
  exact d_tret X hW hf dX1_standsAs_77
theorem w_d_standsAs (l : Launch) {g : gG} {ad : Nat → Nat} (had : eI_ ad) {σr : cS}  {σ : cS}  (hf : d_standsAs σ = some σr) : MC l yX1_standsAs cX1_standsAs 2 (some (.object "DoughBorder$Dough")) 2 60 g eIds ad (dE g ad σ) (dE g ad σr) [.ref (ad 999), .ref (ad 1999)] (some (.ref (ad 999))) := by
  exact MC.of (by decide) eIds_nd had (Nat.le_of_ble_eq_true rfl) (fun p e s m below meth c A ls X hW hl => wb_d_standsAs X had hW hl hf)
theorem kd_standsAs {p : Program} {l : Launch} {e : Env} {R : Room} {s : State} {m : MethodId} {args : Array Value} {below : List Frame} {meth : Method} {c : Code} {H : Heap} {locs : List Loc} {Q : State → Prop} {cc : ByteArray} {nL : Nat} {ret : Option FieldType} {g : gG} {A : Nat → Prop} {ad : Nat → Nat} {pc : Nat} {ls : Array Slot} {rest : List Value} {lv : List (Nat × Value)} {σr : cS}  {σ : cS} (X : MX p s m args meth c cc nL RX1 ret g A) (hW : WB g A s.heap eIds ad (dE g ad σ) H locs) (had : eI_ ad)  (hf : d_standsAs σ = some σr) (hR : 3 ≤ R.frames ∧ 81 ≤ R.locals) (hl : lv_has ls nL lv) (hcat : (rest.map fun v => v.category).sum ≤ 8) (hdg : decode cc pc = .ok (.invokevirtual 86, 3)) (kk : ∀ (H1 : Heap) (l1 : List Loc), WB g A s.heap eIds ad (dE g ad σr) H1 l1 → W p l e R s m args below meth c H1 l1 0 0 Q (F0 m (pc + 3) ls (.ref (ad 999) :: rest))) : W p l e R s m args below meth c H locs 0 0 Q (F0 m pc ls (.ref (ad 1999) :: .ref (ad 999) :: rest)) :=
  r_callV X hW Sub.all (w_d_standsAs l had hf) (lw_V q507 q508 q509 q121 q510) ⟨rfl, by decide, by decide, by decide +kernel⟩ em_999 (dE_o rfl) rfl (n := 1) hR hl rfl rfl hcat ⟨Nat.zero_le _, Nat.zero_le _⟩ hdg kk
-- copies
noncomputable def d_copies (σ : cS) : Option (cS) :=
  nmb (si σ 999 0 (σ.1 1999 0)) fun σ_1 => (nmb (si σ_1 999 1 ((si σ 999 0 (σ.1 1999 0)).1 1999 1)) fun σ_3 => (nmb (si σ_3 999 2 ((si σ_1 999 1 ((si σ 999 0 (σ.1 1999 0)).1 1999 1)).1 1999 2)) fun σ_5 => (nmb (si σ_5 999 3 ((si σ_3 999 2 ((si σ_1 999 1 ((si σ 999 0 (σ.1 1999 0)).1 1999 1)).1 1999 2)).1 1999 3)) fun σ_7 => (nmb (si σ_7 999 4 ((si σ_5 999 3 ((si σ_3 999 2 ((si σ_1 999 1 ((si σ 999 0 (σ.1 1999 0)).1 1999 1)).1 1999 2)).1 1999 3)).1 1999 4)) fun σ_9 => (nmb (si σ_9 999 5 ((si σ_7 999 4 ((si σ_5 999 3 ((si σ_3 999 2 ((si σ_1 999 1 ((si σ 999 0 (σ.1 1999 0)).1 1999 1)).1 1999 2)).1 1999 3)).1 1999 4)).1 1999 5)) fun σ_11 => (nmb (si σ_11 999 6 ((si σ_9 999 5 ((si σ_7 999 4 ((si σ_5 999 3 ((si σ_3 999 2 ((si σ_1 999 1 ((si σ 999 0 (σ.1 1999 0)).1 1999 1)).1 1999 2)).1 1999 3)).1 1999 4)).1 1999 5)).1 1999 6)) fun σ_13 => (nmb (sA σ_13 9 (va_cpy (σ_13.1 1009) (σ_13.1 9) (ix 0) (ix 0) (ix 10))) fun σ_15 => (nmb (sA σ_15 10 (va_cpy (σ_15.1 1010) (σ_15.1 10) (ix 0) (ix 0) (ix 100))) fun σ_17 => (nmb (sA σ_17 11 (va_cpy (σ_17.1 1011) (σ_17.1 11) (ix 0) (ix 0) (ix 8))) fun σ_19 => (nmb (sA σ_19 12 (va_cpy (σ_19.1 1012) (σ_19.1 12) (ix 0) (ix 0) (ix 8))) fun σ_21 => (nmb (sA σ_21 13 (va_cpy (σ_21.1 1013) (σ_21.1 13) (ix 0) (ix 0) (ix 8))) fun σ_23 => (nmb (sA σ_23 14 (va_cpy (σ_23.1 1014) (σ_23.1 14) (ix 0) (ix 0) (ix 16))) fun σ_25 => (nmb (sA σ_25 15 (va_cpy (σ_25.1 1015) (σ_25.1 15) (ix 0) (ix 0) (ix 30))) fun σ_27 => (((d_standsAs (sA σ_27 20 (va_cpy (σ_27.1 1020) (σ_27.1 20) (ix 0) (ix 0) (ix 800)))).bind fun σ_30 => some σ_30)))))))))))))))
set_option maxHeartbeats 4000000 in
theorem wb_d_copies {p : Program} {l : Launch} {e : Env} {s : State} {m : MethodId} {args : Array Value} {below : List Frame} {meth : Method} {c : Code} {g : gG} {A : Nat → Prop} {ad : Nat → Nat} (X : MX p s m args meth c cX1_copies 2 RX1 (some (.object "DoughBorder$Dough")) g A) (had : eI_ ad) {σr : cS}  {σ : cS}  {H : Heap} {locs : List Loc} {ls : Array Slot} (hW : WB g A s.heap eIds ad (dE g ad σ) H locs) (hl : lv_has ls 2 [(0, .ref (ad 999)), (1, .ref (ad 1999))]) (hf : d_copies σ = some σr) : W p l e (rm_ 3 81) s m args below meth c H locs 0 0 (Qm below g eIds ad (dE g ad σr) (some (.ref (ad 999))) A args s) (F0 m 0 ls []) := by
  have hx := X.1.1
  have hb := X.1.2.1
  unfold d_copies at hf
  refine lv_aload_n hx hb dX1_copies_0 rfl (lv_at hl 0 rfl) ?_
  refine lv_aload_n hx hb dX1_copies_1 rfl (lv_at hl 1 rfl) ?_
  refine dg_1000 X hW em_1999 dX1_copies_2 ?_
  refine dp_0 X hW em_999 dX1_copies_5 (fun H locs hW => ?_)
  refine lv_aload_n hx hb dX1_copies_8 rfl (lv_at hl 0 rfl) ?_
  refine lv_aload_n hx hb dX1_copies_9 rfl (lv_at hl 1 rfl) ?_
  refine dg_1001 X hW em_1999 dX1_copies_10 ?_
  obtain ⟨σ_1, e_2, hf⟩ := nmb_e hf
  rw [← e_2] at hW
  clear e_2
  refine dp_1 X hW em_999 dX1_copies_13 (fun H locs hW => ?_)
  refine lv_aload_n hx hb dX1_copies_16 rfl (lv_at hl 0 rfl) ?_
  refine lv_aload_n hx hb dX1_copies_17 rfl (lv_at hl 1 rfl) ?_
  refine dg_1002 X hW em_1999 dX1_copies_18 ?_
  obtain ⟨σ_3, e_4, hf⟩ := nmb_e hf
  rw [← e_4] at hW
  clear e_4
  refine dp_2 X hW em_999 dX1_copies_21 (fun H locs hW => ?_)
  refine lv_aload_n hx hb dX1_copies_24 rfl (lv_at hl 0 rfl) ?_
  refine lv_aload_n hx hb dX1_copies_25 rfl (lv_at hl 1 rfl) ?_
  refine dg_1003 X hW em_1999 dX1_copies_26 ?_
  obtain ⟨σ_5, e_6, hf⟩ := nmb_e hf
  rw [← e_6] at hW
  clear e_6
  refine dp_3 X hW em_999 dX1_copies_29 (fun H locs hW => ?_)
  refine lv_aload_n hx hb dX1_copies_32 rfl (lv_at hl 0 rfl) ?_
  refine lv_aload_n hx hb dX1_copies_33 rfl (lv_at hl 1 rfl) ?_
  refine dg_1004 X hW em_1999 dX1_copies_34 ?_
  obtain ⟨σ_7, e_8, hf⟩ := nmb_e hf
  rw [← e_8] at hW
  clear e_8
  refine dp_4 X hW em_999 dX1_copies_37 (fun H locs hW => ?_)
  refine lv_aload_n hx hb dX1_copies_40 rfl (lv_at hl 0 rfl) ?_
  refine lv_aload_n hx hb dX1_copies_41 rfl (lv_at hl 1 rfl) ?_
  refine dg_1005 X hW em_1999 dX1_copies_42 ?_
  obtain ⟨σ_9, e_10, hf⟩ := nmb_e hf
  rw [← e_10] at hW
  clear e_10
  refine dp_5 X hW em_999 dX1_copies_45 (fun H locs hW => ?_)
  refine lv_aload_n hx hb dX1_copies_48 rfl (lv_at hl 0 rfl) ?_
  refine lv_aload_n hx hb dX1_copies_49 rfl (lv_at hl 1 rfl) ?_
  refine dg_1006 X hW em_1999 dX1_copies_50 ?_
  obtain ⟨σ_11, e_12, hf⟩ := nmb_e hf
  rw [← e_12] at hW
  clear e_12
  refine dp_6 X hW em_999 dX1_copies_53 (fun H locs hW => ?_)
  refine lv_aload_n hx hb dX1_copies_56 rfl (lv_at hl 1 rfl) ?_
  refine dg_1009 X hW em_1999 dX1_copies_57 ?_
  refine lv_iconst (v := 0) hx hb dX1_copies_60 (by decide) ?_
  refine lv_aload_n hx hb dX1_copies_61 rfl (lv_at hl 0 rfl) ?_
  refine dg_9 X hW em_999 dX1_copies_62 ?_
  refine lv_iconst (v := 0) hx hb dX1_copies_65 (by decide) ?_
  refine lv_bipush (v := 10) hx hb dX1_copies_66 (by decide) ?_
  obtain ⟨σ_13, e_14, hf⟩ := nmb_e hf
  rw [← e_14] at hW
  clear e_14
  refine d_copy X hW hl q504 (by decide) (Nat.le_of_ble_eq_true rfl) em_1009 em_9 ⟨by decide, by decide⟩ ⟨by decide, by decide⟩ (by decide) dX1_copies_68 (fun H locs hW => ?_)
  refine lv_aload_n hx hb dX1_copies_71 rfl (lv_at hl 1 rfl) ?_
  refine dg_1010 X hW em_1999 dX1_copies_72 ?_
  refine lv_iconst (v := 0) hx hb dX1_copies_75 (by decide) ?_
  refine lv_aload_n hx hb dX1_copies_76 rfl (lv_at hl 0 rfl) ?_
  refine dg_10 X hW em_999 dX1_copies_77 ?_
  refine lv_iconst (v := 0) hx hb dX1_copies_80 (by decide) ?_
  refine lv_bipush (v := 100) hx hb dX1_copies_81 (by decide) ?_
  obtain ⟨σ_15, e_16, hf⟩ := nmb_e hf
  rw [← e_16] at hW
  clear e_16
  refine d_copy X hW hl q504 (by decide) (Nat.le_of_ble_eq_true rfl) em_1010 em_10 ⟨by decide, by decide⟩ ⟨by decide, by decide⟩ (by decide) dX1_copies_83 (fun H locs hW => ?_)
  refine lv_aload_n hx hb dX1_copies_86 rfl (lv_at hl 1 rfl) ?_
  refine dg_1011 X hW em_1999 dX1_copies_87 ?_
  refine lv_iconst (v := 0) hx hb dX1_copies_90 (by decide) ?_
  refine lv_aload_n hx hb dX1_copies_91 rfl (lv_at hl 0 rfl) ?_
  refine dg_11 X hW em_999 dX1_copies_92 ?_
  refine lv_iconst (v := 0) hx hb dX1_copies_95 (by decide) ?_
  refine lv_bipush (v := 8) hx hb dX1_copies_96 (by decide) ?_
  obtain ⟨σ_17, e_18, hf⟩ := nmb_e hf
  rw [← e_18] at hW
  clear e_18
  refine d_copy X hW hl q504 (by decide) (Nat.le_of_ble_eq_true rfl) em_1011 em_11 ⟨by decide, by decide⟩ ⟨by decide, by decide⟩ (by decide) dX1_copies_98 (fun H locs hW => ?_)
  refine lv_aload_n hx hb dX1_copies_101 rfl (lv_at hl 1 rfl) ?_
  refine dg_1012 X hW em_1999 dX1_copies_102 ?_
  refine lv_iconst (v := 0) hx hb dX1_copies_105 (by decide) ?_
  refine lv_aload_n hx hb dX1_copies_106 rfl (lv_at hl 0 rfl) ?_
  refine dg_12 X hW em_999 dX1_copies_107 ?_
  refine lv_iconst (v := 0) hx hb dX1_copies_110 (by decide) ?_
  refine lv_bipush (v := 8) hx hb dX1_copies_111 (by decide) ?_
  obtain ⟨σ_19, e_20, hf⟩ := nmb_e hf
  rw [← e_20] at hW
  clear e_20
  refine d_copy X hW hl q504 (by decide) (Nat.le_of_ble_eq_true rfl) em_1012 em_12 ⟨by decide, by decide⟩ ⟨by decide, by decide⟩ (by decide) dX1_copies_113 (fun H locs hW => ?_)
  refine lv_aload_n hx hb dX1_copies_116 rfl (lv_at hl 1 rfl) ?_
  refine dg_1013 X hW em_1999 dX1_copies_117 ?_
  refine lv_iconst (v := 0) hx hb dX1_copies_120 (by decide) ?_
  refine lv_aload_n hx hb dX1_copies_121 rfl (lv_at hl 0 rfl) ?_
  refine dg_13 X hW em_999 dX1_copies_122 ?_
  refine lv_iconst (v := 0) hx hb dX1_copies_125 (by decide) ?_
  refine lv_bipush (v := 8) hx hb dX1_copies_126 (by decide) ?_
  obtain ⟨σ_21, e_22, hf⟩ := nmb_e hf
  rw [← e_22] at hW
  clear e_22
  refine d_copy X hW hl q504 (by decide) (Nat.le_of_ble_eq_true rfl) em_1013 em_13 ⟨by decide, by decide⟩ ⟨by decide, by decide⟩ (by decide) dX1_copies_128 (fun H locs hW => ?_)
  refine lv_aload_n hx hb dX1_copies_131 rfl (lv_at hl 1 rfl) ?_
  refine dg_1014 X hW em_1999 dX1_copies_132 ?_
  refine lv_iconst (v := 0) hx hb dX1_copies_135 (by decide) ?_
  refine lv_aload_n hx hb dX1_copies_136 rfl (lv_at hl 0 rfl) ?_
  refine dg_14 X hW em_999 dX1_copies_137 ?_
  refine lv_iconst (v := 0) hx hb dX1_copies_140 (by decide) ?_
  refine lv_bipush (v := 16) hx hb dX1_copies_141 (by decide) ?_
  obtain ⟨σ_23, e_24, hf⟩ := nmb_e hf
  rw [← e_24] at hW
  clear e_24
  refine d_copy X hW hl q504 (by decide) (Nat.le_of_ble_eq_true rfl) em_1014 em_14 ⟨by decide, by decide⟩ ⟨by decide, by decide⟩ (by decide) dX1_copies_143 (fun H locs hW => ?_)
  refine lv_aload_n hx hb dX1_copies_146 rfl (lv_at hl 1 rfl) ?_
  refine dg_1015 X hW em_1999 dX1_copies_147 ?_
  refine lv_iconst (v := 0) hx hb dX1_copies_150 (by decide) ?_
  refine lv_aload_n hx hb dX1_copies_151 rfl (lv_at hl 0 rfl) ?_
  refine dg_15 X hW em_999 dX1_copies_152 ?_
  refine lv_iconst (v := 0) hx hb dX1_copies_155 (by decide) ?_
  refine lv_bipush (v := 30) hx hb dX1_copies_156 (by decide) ?_
  obtain ⟨σ_25, e_26, hf⟩ := nmb_e hf
  rw [← e_26] at hW
  clear e_26
  refine d_copy X hW hl q504 (by decide) (Nat.le_of_ble_eq_true rfl) em_1015 em_15 ⟨by decide, by decide⟩ ⟨by decide, by decide⟩ (by decide) dX1_copies_158 (fun H locs hW => ?_)
  refine lv_aload_n hx hb dX1_copies_161 rfl (lv_at hl 1 rfl) ?_
  refine dg_1020 X hW em_1999 dX1_copies_162 ?_
  refine lv_iconst (v := 0) hx hb dX1_copies_165 (by decide) ?_
  refine lv_aload_n hx hb dX1_copies_166 rfl (lv_at hl 0 rfl) ?_
  refine dg_20 X hW em_999 dX1_copies_167 ?_
  refine lv_iconst (v := 0) hx hb dX1_copies_170 (by decide) ?_
  refine lv_sipush (v := 800) hx hb dX1_copies_171 (by decide) ?_
  obtain ⟨σ_27, e_28, hf⟩ := nmb_e hf
  rw [← e_28] at hW
  clear e_28
  refine d_copy X hW hl q504 (by decide) (Nat.le_of_ble_eq_true rfl) em_1020 em_20 ⟨by decide, by decide⟩ ⟨by decide, by decide⟩ (by decide) dX1_copies_174 (fun H locs hW => ?_)
  refine lv_aload_n hx hb dX1_copies_177 rfl (lv_at hl 0 rfl) ?_
  refine lv_aload_n hx hb dX1_copies_178 rfl (lv_at hl 1 rfl) ?_
  obtain ⟨σ_30, h_29, hf⟩ := bd_e hf
  refine kd_standsAs X hW had h_29 (by decide) hl (Nat.le_of_ble_eq_true rfl) dX1_copies_179 (fun H locs hW => ?_)
  exact d_tret X hW hf dX1_copies_182
theorem w_d_copies (l : Launch) {g : gG} {ad : Nat → Nat} (had : eI_ ad) {σr : cS}  {σ : cS}  (hf : d_copies σ = some σr) : MC l yX1_copies cX1_copies 2 (some (.object "DoughBorder$Dough")) 3 81 g eIds ad (dE g ad σ) (dE g ad σr) [.ref (ad 999), .ref (ad 1999)] (some (.ref (ad 999))) := by
  exact MC.of (by decide) eIds_nd had (Nat.le_of_ble_eq_true rfl) (fun p e s m below meth c A ls X hW hl => wb_d_copies X had hW hl hf)
-- isBaked
noncomputable def d_isBaked (σ : cS) (v1 : Int32) : Option (Int32) :=
  ((x_has (σ.1 999 7) v1).bind fun r_1 => gd (zb r_1) (some r_1))
set_option maxHeartbeats 4000000 in
theorem wb_d_isBaked {p : Program} {l : Launch} {e : Env} {s : State} {m : MethodId} {args : Array Value} {below : List Frame} {meth : Method} {c : Code} {g : gG} {A : Nat → Prop} {ad : Nat → Nat} (X : MX p s m args meth c cX1_isBaked 2 RX1 (some .boolean) g A) (had : dI_ ad) {r : Int32} {σ : cS} {v1 : Int32}  {H : Heap} {locs : List Loc} {ls : Array Slot} (hW : WB g A s.heap dIds ad (dE g ad σ) H locs) (hl : lv_has ls 2 [(0, .ref (ad 999)), (1, .int v1)]) (hf : d_isBaked σ v1 = some r) : W p l e (rm_ 4 100) s m args below meth c H locs 0 0 (Qm below g dIds ad (dE g ad σ) (some (.int r)) A args s) (F0 m 0 ls []) := by
  have hx := X.1.1
  have hb := X.1.2.1
  unfold d_isBaked at hf
  refine lv_aload_n hx hb dX1_isBaked_0 rfl (lv_at hl 0 rfl) ?_
  refine dg_7 X hW dm_999 dX1_isBaked_1 ?_
  refine lv_iload_n hx hb dX1_isBaked_4 rfl (lv_at hl 1 rfl) ?_
  obtain ⟨r_1, h_2, hf⟩ := bd_e hf
  refine kn_has X hW h_2 q813 (by decide) hl (Nat.le_of_ble_eq_true rfl) dX1_isBaked_5 (fun H locs hW => ?_)
  obtain ⟨h_3, hf⟩ := gd_e hf
  exact p_zret X hW hf h_3 dX1_isBaked_8
theorem w_d_isBaked (l : Launch) {g : gG} {ad : Nat → Nat} (had : dI_ ad) {r : Int32} {σ : cS} {v1 : Int32}  (hf : d_isBaked σ v1 = some r) : MC l yX1_isBaked cX1_isBaked 2 (some .boolean) 4 100 g dIds ad (dE g ad σ) (dE g ad σ) [.ref (ad 999), .int v1] (some (.int r)) := by
  exact MC.of (by decide) dIds_nd had (Nat.le_of_ble_eq_true rfl) (fun p e s m below meth c A ls X hW hl => wb_d_isBaked X had hW hl hf)
theorem kd_isBaked {p : Program} {l : Launch} {e : Env} {R : Room} {s : State} {m : MethodId} {args : Array Value} {below : List Frame} {meth : Method} {c : Code} {H : Heap} {locs : List Loc} {Q : State → Prop} {cc : ByteArray} {nL : Nat} {ret : Option FieldType} {g : gG} {A : Nat → Prop} {ad : Nat → Nat} {pc : Nat} {ls : Array Slot} {rest : List Value} {lv : List (Nat × Value)} {r : Int32} {σ : cS} {v1 : Int32} (X : MX p s m args meth c cc nL RX1 ret g A) (hW : WB g A s.heap dIds ad (dE g ad σ) H locs) (had : dI_ ad)  (hf : d_isBaked σ v1 = some r) (hR : 5 ≤ R.frames ∧ 121 ≤ R.locals) (hl : lv_has ls nL lv) (hcat : (rest.map fun v => v.category).sum ≤ 8) (hdg : decode cc pc = .ok (.invokevirtual 116, 3)) (kk : ∀ (H1 : Heap) (l1 : List Loc), WB g A s.heap dIds ad (dE g ad σ) H1 l1 → W p l e R s m args below meth c H1 l1 0 0 Q (F0 m (pc + 3) ls (.int r :: rest))) : W p l e R s m args below meth c H locs 0 0 Q (F0 m pc ls (.int v1 :: .ref (ad 999) :: rest)) :=
  r_callV X hW Sub.all (w_d_isBaked l had hf) (lw_V q875 q810 q811 q121 q812) ⟨rfl, by decide, by decide, by decide +kernel⟩ dm_999 (dE_o rfl) rfl (n := 1) hR hl rfl rfl hcat ⟨Nat.zero_le _, Nat.zero_le _⟩ hdg kk
-- sideOf
noncomputable def d_sideOf (σ : cS) (v1 : Int32) : Option (Int32) :=
  gd (inb v1 8) (gd (inb (σ.1 11 (ix v1)) 10) (if (σ.1 16 (ix (σ.1 11 (ix v1)))) ≤ (σ.1 12 (ix v1)) then (if (σ.1 12 (ix v1)) ≤ (σ.1 16 (ix (σ.1 11 (ix v1)))) then (some 2) else (some 1)) else (some 0)))
set_option maxHeartbeats 4000000 in
theorem wb_d_sideOf {p : Program} {l : Launch} {e : Env} {s : State} {m : MethodId} {args : Array Value} {below : List Frame} {meth : Method} {c : Code} {g : gG} {A : Nat → Prop} {ad : Nat → Nat} (X : MX p s m args meth c cX1_sideOf 2 RX1 (some .int) g A) (had : dI_ ad) {r : Int32} {σ : cS} {v1 : Int32}  {H : Heap} {locs : List Loc} {ls : Array Slot} (hW : WB g A s.heap dIds ad (dE g ad σ) H locs) (hl : lv_has ls 2 [(0, .ref (ad 999)), (1, .int v1)]) (hf : d_sideOf σ v1 = some r) : W p l e (rm_ 2 60) s m args below meth c H locs 0 0 (Qm below g dIds ad (dE g ad σ) (some (.int r)) A args s) (F0 m 0 ls []) := by
  have hx := X.1.1
  have hb := X.1.2.1
  unfold d_sideOf at hf
  refine lv_aload_n hx hb dX1_sideOf_0 rfl (lv_at hl 0 rfl) ?_
  refine dg_12 X hW dm_999 dX1_sideOf_1 ?_
  refine lv_iload_n hx hb dX1_sideOf_4 rfl (lv_at hl 1 rfl) ?_
  obtain ⟨h_1, hf⟩ := gd_e hf
  refine dl_12 X hW dm_12 h_1 dX1_sideOf_5 ?_
  refine lv_aload_n hx hb dX1_sideOf_6 rfl (lv_at hl 0 rfl) ?_
  refine dg_16 X hW dm_999 dX1_sideOf_7 ?_
  refine lv_aload_n hx hb dX1_sideOf_10 rfl (lv_at hl 0 rfl) ?_
  refine dg_11 X hW dm_999 dX1_sideOf_11 ?_
  refine lv_iload_n hx hb dX1_sideOf_14 rfl (lv_at hl 1 rfl) ?_
  refine dl_11 X hW dm_11 h_1 dX1_sideOf_15 ?_
  obtain ⟨h_2, hf⟩ := gd_e hf
  refine dl_16 X hW dm_16 h_2 dX1_sideOf_16 ?_
  refine lv_icmp_ge (tgt := 24) hx hb dX1_sideOf_17 (by decide) (fun c_3 => ?_) (fun c_3 => ?_)
  · replace hf := ip hf c_3
    refine lv_aload_n hx hb dX1_sideOf_24 rfl (lv_at hl 0 rfl) ?_
    refine dg_12 X hW dm_999 dX1_sideOf_25 ?_
    refine lv_iload_n hx hb dX1_sideOf_28 rfl (lv_at hl 1 rfl) ?_
    refine dl_12 X hW dm_12 h_1 dX1_sideOf_29 ?_
    refine lv_aload_n hx hb dX1_sideOf_30 rfl (lv_at hl 0 rfl) ?_
    refine dg_16 X hW dm_999 dX1_sideOf_31 ?_
    refine lv_aload_n hx hb dX1_sideOf_34 rfl (lv_at hl 0 rfl) ?_
    refine dg_11 X hW dm_999 dX1_sideOf_35 ?_
    refine lv_iload_n hx hb dX1_sideOf_38 rfl (lv_at hl 1 rfl) ?_
    refine dl_11 X hW dm_11 h_1 dX1_sideOf_39 ?_
    refine dl_16 X hW dm_16 h_2 dX1_sideOf_40 ?_
    refine lv_icmp_le (tgt := 48) hx hb dX1_sideOf_41 (by decide) (fun c_4 => ?_) (fun c_4 => ?_)
    · replace hf := ip hf c_4
      refine lv_iconst (v := 2) hx hb dX1_sideOf_48 (by decide) ?_
      exact p_iret X hW hf dX1_sideOf_49
    · replace hf := ine hf c_4
      refine lv_iconst (v := 1) hx hb dX1_sideOf_44 (by decide) ?_
      refine lv_goto (tgt := 49) hx hb dX1_sideOf_45 (by decide) ?_
      exact p_iret X hW hf dX1_sideOf_49
  · replace hf := ine hf c_3
    refine lv_iconst (v := 0) hx hb dX1_sideOf_20 (by decide) ?_
    refine lv_goto (tgt := 49) hx hb dX1_sideOf_21 (by decide) ?_
    exact p_iret X hW hf dX1_sideOf_49
theorem w_d_sideOf (l : Launch) {g : gG} {ad : Nat → Nat} (had : dI_ ad) {r : Int32} {σ : cS} {v1 : Int32}  (hf : d_sideOf σ v1 = some r) : MC l yX1_sideOf cX1_sideOf 2 (some .int) 2 60 g dIds ad (dE g ad σ) (dE g ad σ) [.ref (ad 999), .int v1] (some (.int r)) := by
  exact MC.of (by decide) dIds_nd had (Nat.le_of_ble_eq_true rfl) (fun p e s m below meth c A ls X hW hl => wb_d_sideOf X had hW hl hf)
theorem kd_sideOf {p : Program} {l : Launch} {e : Env} {R : Room} {s : State} {m : MethodId} {args : Array Value} {below : List Frame} {meth : Method} {c : Code} {H : Heap} {locs : List Loc} {Q : State → Prop} {cc : ByteArray} {nL : Nat} {ret : Option FieldType} {g : gG} {A : Nat → Prop} {ad : Nat → Nat} {pc : Nat} {ls : Array Slot} {rest : List Value} {lv : List (Nat × Value)} {r : Int32} {σ : cS} {v1 : Int32} (X : MX p s m args meth c cc nL RX1 ret g A) (hW : WB g A s.heap dIds ad (dE g ad σ) H locs) (had : dI_ ad)  (hf : d_sideOf σ v1 = some r) (hR : 3 ≤ R.frames ∧ 81 ≤ R.locals) (hl : lv_has ls nL lv) (hcat : (rest.map fun v => v.category).sum ≤ 8) (hdg : decode cc pc = .ok (.invokevirtual 100, 3)) (kk : ∀ (H1 : Heap) (l1 : List Loc), WB g A s.heap dIds ad (dE g ad σ) H1 l1 → W p l e R s m args below meth c H1 l1 0 0 Q (F0 m (pc + 3) ls (.int r :: rest))) : W p l e R s m args below meth c H locs 0 0 Q (F0 m pc ls (.int v1 :: .ref (ad 999) :: rest)) :=
  r_callV X hW Sub.all (w_d_sideOf l had hf) (lw_V q874 q825 q826 q121 q827) ⟨rfl, by decide, by decide, by decide +kernel⟩ dm_999 (dE_o rfl) rfl (n := 1) hR hl rfl rfl hcat ⟨Nat.zero_le _, Nat.zero_le _⟩ hdg kk
-- warmOn
noncomputable def d_warmOn (σ : cS) (v1 : Int32) : Option (Int32) :=
  if 100 ≤ v1 then (some 0) else (gd (inb v1 100) (some (σ.1 10 (ix v1))))
set_option maxHeartbeats 4000000 in
theorem wb_d_warmOn {p : Program} {l : Launch} {e : Env} {s : State} {m : MethodId} {args : Array Value} {below : List Frame} {meth : Method} {c : Code} {g : gG} {A : Nat → Prop} {ad : Nat → Nat} (X : MX p s m args meth c cX1_warmOn 2 RX1 (some .int) g A) (had : dI_ ad) {r : Int32} {σ : cS} {v1 : Int32}  {H : Heap} {locs : List Loc} {ls : Array Slot} (hW : WB g A s.heap dIds ad (dE g ad σ) H locs) (hl : lv_has ls 2 [(0, .ref (ad 999)), (1, .int v1)]) (hf : d_warmOn σ v1 = some r) : W p l e (rm_ 2 60) s m args below meth c H locs 0 0 (Qm below g dIds ad (dE g ad σ) (some (.int r)) A args s) (F0 m 0 ls []) := by
  have hx := X.1.1
  have hb := X.1.2.1
  unfold d_warmOn at hf
  refine lv_iload_n hx hb dX1_warmOn_0 rfl (lv_at hl 1 rfl) ?_
  refine lv_bipush (v := 100) hx hb dX1_warmOn_1 (by decide) ?_
  refine lv_icmp_ge (tgt := 15) hx hb dX1_warmOn_3 (by decide) (fun c_1 => ?_) (fun c_1 => ?_)
  · replace hf := ip hf c_1
    refine lv_iconst (v := 0) hx hb dX1_warmOn_15 (by decide) ?_
    exact p_iret X hW hf dX1_warmOn_16
  · replace hf := ine hf c_1
    refine lv_aload_n hx hb dX1_warmOn_6 rfl (lv_at hl 0 rfl) ?_
    refine dg_10 X hW dm_999 dX1_warmOn_7 ?_
    refine lv_iload_n hx hb dX1_warmOn_10 rfl (lv_at hl 1 rfl) ?_
    obtain ⟨h_2, hf⟩ := gd_e hf
    refine dl_10 X hW dm_10 h_2 dX1_warmOn_11 ?_
    refine lv_goto (tgt := 16) hx hb dX1_warmOn_12 (by decide) ?_
    exact p_iret X hW hf dX1_warmOn_16
theorem w_d_warmOn (l : Launch) {g : gG} {ad : Nat → Nat} (had : dI_ ad) {r : Int32} {σ : cS} {v1 : Int32}  (hf : d_warmOn σ v1 = some r) : MC l yX1_warmOn cX1_warmOn 2 (some .int) 2 60 g dIds ad (dE g ad σ) (dE g ad σ) [.ref (ad 999), .int v1] (some (.int r)) := by
  exact MC.of (by decide) dIds_nd had (Nat.le_of_ble_eq_true rfl) (fun p e s m below meth c A ls X hW hl => wb_d_warmOn X had hW hl hf)
theorem kd_warmOn {p : Program} {l : Launch} {e : Env} {R : Room} {s : State} {m : MethodId} {args : Array Value} {below : List Frame} {meth : Method} {c : Code} {H : Heap} {locs : List Loc} {Q : State → Prop} {cc : ByteArray} {nL : Nat} {ret : Option FieldType} {g : gG} {A : Nat → Prop} {ad : Nat → Nat} {pc : Nat} {ls : Array Slot} {rest : List Value} {lv : List (Nat × Value)} {r : Int32} {σ : cS} {v1 : Int32} (X : MX p s m args meth c cc nL RX1 ret g A) (hW : WB g A s.heap dIds ad (dE g ad σ) H locs) (had : dI_ ad)  (hf : d_warmOn σ v1 = some r) (hR : 3 ≤ R.frames ∧ 81 ≤ R.locals) (hl : lv_has ls nL lv) (hcat : (rest.map fun v => v.category).sum ≤ 8) (hdg : decode cc pc = .ok (.invokevirtual 151, 3)) (kk : ∀ (H1 : Heap) (l1 : List Loc), WB g A s.heap dIds ad (dE g ad σ) H1 l1 → W p l e R s m args below meth c H1 l1 0 0 Q (F0 m (pc + 3) ls (.int r :: rest))) : W p l e R s m args below meth c H locs 0 0 Q (F0 m pc ls (.int v1 :: .ref (ad 999) :: rest)) :=
  r_callV X hW Sub.all (w_d_warmOn l had hf) (lw_V q865 q833 q834 q121 q835) ⟨rfl, by decide, by decide, by decide +kernel⟩ dm_999 (dE_o rfl) rfl (n := 1) hR hl rfl rfl hcat ⟨Nat.zero_le _, Nat.zero_le _⟩ hdg kk
-- takes
noncomputable def d_takes (σ : cS) (v1 : Int32) : Option (cS) :=
  gd (inb (40 * v1) 800) (gd (inb ((40 * v1) + 1) 800) (nmb (si σ 999 7 (σ.1 20 (ix (40 * v1)))) fun σ_3 => (nmb (si σ_3 999 8 ((si σ 999 7 (σ.1 20 (ix (40 * v1)))).1 20 (ix ((40 * v1) + 1)))) fun σ_5 => (gd (cpb ((40 * v1) + 2) 0 10 800 10) (nmb (sA σ_5 16 (va_cpy (σ_5.1 20) (σ_5.1 16) (ix ((40 * v1) + 2)) (ix 0) (ix 10))) fun σ_8 => (gd (cpb ((40 * v1) + 12) 0 10 800 10) (nmb (sA σ_8 17 (va_cpy (σ_8.1 20) (σ_8.1 17) (ix ((40 * v1) + 12)) (ix 0) (ix 10))) fun σ_11 => (gd (cpb ((40 * v1) + 22) 0 10 800 10) (nmb (sA σ_11 18 (va_cpy (σ_11.1 20) (σ_11.1 18) (ix ((40 * v1) + 22)) (ix 0) (ix 10))) fun σ_14 => (gd (cpb ((40 * v1) + 32) 0 8 800 8) (some (sA σ_14 19 (va_cpy (σ_14.1 20) (σ_14.1 19) (ix ((40 * v1) + 32)) (ix 0) (ix 8))))))))))))))
set_option maxHeartbeats 4000000 in
theorem wb_d_takes {p : Program} {l : Launch} {e : Env} {s : State} {m : MethodId} {args : Array Value} {below : List Frame} {meth : Method} {c : Code} {g : gG} {A : Nat → Prop} {ad : Nat → Nat} (X : MX p s m args meth c cX1_takes 3 RX1 none g A) (had : dI_ ad) {σr : cS}  {σ : cS} {v1 : Int32}  {H : Heap} {locs : List Loc} {ls : Array Slot} (hW : WB g A s.heap dIds ad (dE g ad σ) H locs) (hl : lv_has ls 3 [(0, .ref (ad 999)), (1, .int v1)]) (hf : d_takes σ v1 = some σr) : W p l e (rm_ 2 60) s m args below meth c H locs 0 0 (Qm below g dIds ad (dE g ad σr) none A args s) (F0 m 0 ls []) := by
  have hx := X.1.1
  have hb := X.1.2.1
  unfold d_takes at hf
  refine lv_bipush (v := 40) hx hb dX1_takes_0 (by decide) ?_
  refine lv_iload_n hx hb dX1_takes_2 rfl (lv_at hl 1 rfl) ?_
  refine lv_imul hx hb dX1_takes_3 ?_
  refine lv_istore_n (lv' := [(2, .int (40 * v1)), (0, .ref (ad 999)), (1, .int v1)]) hx hb dX1_takes_4 rfl hl (by decide) rfl (fun ls hl => ?_)
  refine lv_aload_n hx hb dX1_takes_5 rfl (lv_at hl 1 rfl) ?_
  refine lv_aload_n hx hb dX1_takes_6 rfl (lv_at hl 1 rfl) ?_
  refine dg_20 X hW dm_999 dX1_takes_7 ?_
  refine lv_iload_n hx hb dX1_takes_10 rfl (lv_at hl 0 rfl) ?_
  obtain ⟨h_1, hf⟩ := gd_e hf
  refine dl_20 X hW dm_20 h_1 dX1_takes_11 ?_
  refine dp_7 X hW dm_999 dX1_takes_12 (fun H locs hW => ?_)
  refine lv_aload_n hx hb dX1_takes_15 rfl (lv_at hl 1 rfl) ?_
  refine lv_aload_n hx hb dX1_takes_16 rfl (lv_at hl 1 rfl) ?_
  refine dg_20 X hW dm_999 dX1_takes_17 ?_
  refine lv_iload_n hx hb dX1_takes_20 rfl (lv_at hl 0 rfl) ?_
  refine lv_iconst (v := 1) hx hb dX1_takes_21 (by decide) ?_
  refine lv_iadd hx hb dX1_takes_22 ?_
  obtain ⟨h_2, hf⟩ := gd_e hf
  refine dl_20 X hW dm_20 h_2 dX1_takes_23 ?_
  obtain ⟨σ_3, e_4, hf⟩ := nmb_e hf
  rw [← e_4] at hW
  clear e_4
  refine dp_8 X hW dm_999 dX1_takes_24 (fun H locs hW => ?_)
  refine lv_aload_n hx hb dX1_takes_27 rfl (lv_at hl 1 rfl) ?_
  refine dg_20 X hW dm_999 dX1_takes_28 ?_
  refine lv_iload_n hx hb dX1_takes_31 rfl (lv_at hl 0 rfl) ?_
  refine lv_iconst (v := 2) hx hb dX1_takes_32 (by decide) ?_
  refine lv_iadd hx hb dX1_takes_33 ?_
  refine lv_aload_n hx hb dX1_takes_34 rfl (lv_at hl 1 rfl) ?_
  refine dg_16 X hW dm_999 dX1_takes_35 ?_
  refine lv_iconst (v := 0) hx hb dX1_takes_38 (by decide) ?_
  refine lv_bipush (v := 10) hx hb dX1_takes_39 (by decide) ?_
  obtain ⟨σ_5, e_6, hf⟩ := nmb_e hf
  rw [← e_6] at hW
  clear e_6
  obtain ⟨h_7, hf⟩ := gd_e hf
  refine d_copy X hW hl q504 (by decide) (Nat.le_of_ble_eq_true rfl) dm_20 dm_16 ⟨by decide, by decide⟩ ⟨by decide, by decide⟩ h_7 dX1_takes_41 (fun H locs hW => ?_)
  refine lv_aload_n hx hb dX1_takes_44 rfl (lv_at hl 1 rfl) ?_
  refine dg_20 X hW dm_999 dX1_takes_45 ?_
  refine lv_iload_n hx hb dX1_takes_48 rfl (lv_at hl 0 rfl) ?_
  refine lv_bipush (v := 12) hx hb dX1_takes_49 (by decide) ?_
  refine lv_iadd hx hb dX1_takes_51 ?_
  refine lv_aload_n hx hb dX1_takes_52 rfl (lv_at hl 1 rfl) ?_
  refine dg_17 X hW dm_999 dX1_takes_53 ?_
  refine lv_iconst (v := 0) hx hb dX1_takes_56 (by decide) ?_
  refine lv_bipush (v := 10) hx hb dX1_takes_57 (by decide) ?_
  obtain ⟨σ_8, e_9, hf⟩ := nmb_e hf
  rw [← e_9] at hW
  clear e_9
  obtain ⟨h_10, hf⟩ := gd_e hf
  refine d_copy X hW hl q504 (by decide) (Nat.le_of_ble_eq_true rfl) dm_20 dm_17 ⟨by decide, by decide⟩ ⟨by decide, by decide⟩ h_10 dX1_takes_59 (fun H locs hW => ?_)
  refine lv_aload_n hx hb dX1_takes_62 rfl (lv_at hl 1 rfl) ?_
  refine dg_20 X hW dm_999 dX1_takes_63 ?_
  refine lv_iload_n hx hb dX1_takes_66 rfl (lv_at hl 0 rfl) ?_
  refine lv_bipush (v := 22) hx hb dX1_takes_67 (by decide) ?_
  refine lv_iadd hx hb dX1_takes_69 ?_
  refine lv_aload_n hx hb dX1_takes_70 rfl (lv_at hl 1 rfl) ?_
  refine dg_18 X hW dm_999 dX1_takes_71 ?_
  refine lv_iconst (v := 0) hx hb dX1_takes_74 (by decide) ?_
  refine lv_bipush (v := 10) hx hb dX1_takes_75 (by decide) ?_
  obtain ⟨σ_11, e_12, hf⟩ := nmb_e hf
  rw [← e_12] at hW
  clear e_12
  obtain ⟨h_13, hf⟩ := gd_e hf
  refine d_copy X hW hl q504 (by decide) (Nat.le_of_ble_eq_true rfl) dm_20 dm_18 ⟨by decide, by decide⟩ ⟨by decide, by decide⟩ h_13 dX1_takes_77 (fun H locs hW => ?_)
  refine lv_aload_n hx hb dX1_takes_80 rfl (lv_at hl 1 rfl) ?_
  refine dg_20 X hW dm_999 dX1_takes_81 ?_
  refine lv_iload_n hx hb dX1_takes_84 rfl (lv_at hl 0 rfl) ?_
  refine lv_bipush (v := 32) hx hb dX1_takes_85 (by decide) ?_
  refine lv_iadd hx hb dX1_takes_87 ?_
  refine lv_aload_n hx hb dX1_takes_88 rfl (lv_at hl 1 rfl) ?_
  refine dg_19 X hW dm_999 dX1_takes_89 ?_
  refine lv_iconst (v := 0) hx hb dX1_takes_92 (by decide) ?_
  refine lv_bipush (v := 8) hx hb dX1_takes_93 (by decide) ?_
  obtain ⟨σ_14, e_15, hf⟩ := nmb_e hf
  rw [← e_15] at hW
  clear e_15
  obtain ⟨h_16, hf⟩ := gd_e hf
  refine d_copy X hW hl q504 (by decide) (Nat.le_of_ble_eq_true rfl) dm_20 dm_19 ⟨by decide, by decide⟩ ⟨by decide, by decide⟩ h_16 dX1_takes_95 (fun H locs hW => ?_)
  exact d_vret X hW hf dX1_takes_98
theorem w_d_takes (l : Launch) {g : gG} {ad : Nat → Nat} (had : dI_ ad) {σr : cS}  {σ : cS} {v1 : Int32}  (hf : d_takes σ v1 = some σr) : MC l yX1_takes cX1_takes 3 none 2 60 g dIds ad (dE g ad σ) (dE g ad σr) [.ref (ad 999), .int v1] none := by
  exact MC.of (by decide) dIds_nd had (Nat.le_of_ble_eq_true rfl) (fun p e s m below meth c A ls X hW hl => wb_d_takes X had hW hl hf)
-- lays
noncomputable def d_lays (σ : cS) (v1 : Int32) : Option (cS) :=
  gd (inb (40 * v1) 800) (nmb (si σ 20 (ix (40 * v1)) (σ.1 999 7)) fun σ_2 => (gd (inb ((40 * v1) + 1) 800) (nmb (si σ_2 20 (ix ((40 * v1) + 1)) ((si σ 20 (ix (40 * v1)) (σ.1 999 7)).1 999 8)) fun σ_5 => (gd (cpb 0 ((40 * v1) + 2) 10 10 800) (nmb (sA σ_5 20 (va_cpy (σ_5.1 16) (σ_5.1 20) (ix 0) (ix ((40 * v1) + 2)) (ix 10))) fun σ_8 => (gd (cpb 0 ((40 * v1) + 12) 10 10 800) (nmb (sA σ_8 20 (va_cpy (σ_8.1 17) (σ_8.1 20) (ix 0) (ix ((40 * v1) + 12)) (ix 10))) fun σ_11 => (gd (cpb 0 ((40 * v1) + 22) 10 10 800) (nmb (sA σ_11 20 (va_cpy (σ_11.1 18) (σ_11.1 20) (ix 0) (ix ((40 * v1) + 22)) (ix 10))) fun σ_14 => (gd (cpb 0 ((40 * v1) + 32) 8 8 800) (some (sA σ_14 20 (va_cpy (σ_14.1 19) (σ_14.1 20) (ix 0) (ix ((40 * v1) + 32)) (ix 8))))))))))))))
set_option maxHeartbeats 4000000 in
theorem wb_d_lays {p : Program} {l : Launch} {e : Env} {s : State} {m : MethodId} {args : Array Value} {below : List Frame} {meth : Method} {c : Code} {g : gG} {A : Nat → Prop} {ad : Nat → Nat} (X : MX p s m args meth c cX1_lays 3 RX1 none g A) (had : dI_ ad) {σr : cS}  {σ : cS} {v1 : Int32}  {H : Heap} {locs : List Loc} {ls : Array Slot} (hW : WB g A s.heap dIds ad (dE g ad σ) H locs) (hl : lv_has ls 3 [(0, .ref (ad 999)), (1, .int v1)]) (hf : d_lays σ v1 = some σr) : W p l e (rm_ 2 60) s m args below meth c H locs 0 0 (Qm below g dIds ad (dE g ad σr) none A args s) (F0 m 0 ls []) := by
  have hx := X.1.1
  have hb := X.1.2.1
  unfold d_lays at hf
  refine lv_bipush (v := 40) hx hb dX1_lays_0 (by decide) ?_
  refine lv_iload_n hx hb dX1_lays_2 rfl (lv_at hl 1 rfl) ?_
  refine lv_imul hx hb dX1_lays_3 ?_
  refine lv_istore_n (lv' := [(2, .int (40 * v1)), (0, .ref (ad 999)), (1, .int v1)]) hx hb dX1_lays_4 rfl hl (by decide) rfl (fun ls hl => ?_)
  refine lv_aload_n hx hb dX1_lays_5 rfl (lv_at hl 1 rfl) ?_
  refine dg_20 X hW dm_999 dX1_lays_6 ?_
  refine lv_iload_n hx hb dX1_lays_9 rfl (lv_at hl 0 rfl) ?_
  refine lv_aload_n hx hb dX1_lays_10 rfl (lv_at hl 1 rfl) ?_
  refine dg_7 X hW dm_999 dX1_lays_11 ?_
  obtain ⟨h_1, hf⟩ := gd_e hf
  refine ds_20 X hW dm_20 h_1 dX1_lays_14 (fun H locs hW => ?_)
  refine lv_aload_n hx hb dX1_lays_15 rfl (lv_at hl 1 rfl) ?_
  refine dg_20 X hW dm_999 dX1_lays_16 ?_
  refine lv_iload_n hx hb dX1_lays_19 rfl (lv_at hl 0 rfl) ?_
  refine lv_iconst (v := 1) hx hb dX1_lays_20 (by decide) ?_
  refine lv_iadd hx hb dX1_lays_21 ?_
  refine lv_aload_n hx hb dX1_lays_22 rfl (lv_at hl 1 rfl) ?_
  refine dg_8 X hW dm_999 dX1_lays_23 ?_
  obtain ⟨σ_2, e_3, hf⟩ := nmb_e hf
  rw [← e_3] at hW
  clear e_3
  obtain ⟨h_4, hf⟩ := gd_e hf
  refine ds_20 X hW dm_20 h_4 dX1_lays_26 (fun H locs hW => ?_)
  refine lv_aload_n hx hb dX1_lays_27 rfl (lv_at hl 1 rfl) ?_
  refine dg_16 X hW dm_999 dX1_lays_28 ?_
  refine lv_iconst (v := 0) hx hb dX1_lays_31 (by decide) ?_
  refine lv_aload_n hx hb dX1_lays_32 rfl (lv_at hl 1 rfl) ?_
  refine dg_20 X hW dm_999 dX1_lays_33 ?_
  refine lv_iload_n hx hb dX1_lays_36 rfl (lv_at hl 0 rfl) ?_
  refine lv_iconst (v := 2) hx hb dX1_lays_37 (by decide) ?_
  refine lv_iadd hx hb dX1_lays_38 ?_
  refine lv_bipush (v := 10) hx hb dX1_lays_39 (by decide) ?_
  obtain ⟨σ_5, e_6, hf⟩ := nmb_e hf
  rw [← e_6] at hW
  clear e_6
  obtain ⟨h_7, hf⟩ := gd_e hf
  refine d_copy X hW hl q504 (by decide) (Nat.le_of_ble_eq_true rfl) dm_16 dm_20 ⟨by decide, by decide⟩ ⟨by decide, by decide⟩ h_7 dX1_lays_41 (fun H locs hW => ?_)
  refine lv_aload_n hx hb dX1_lays_44 rfl (lv_at hl 1 rfl) ?_
  refine dg_17 X hW dm_999 dX1_lays_45 ?_
  refine lv_iconst (v := 0) hx hb dX1_lays_48 (by decide) ?_
  refine lv_aload_n hx hb dX1_lays_49 rfl (lv_at hl 1 rfl) ?_
  refine dg_20 X hW dm_999 dX1_lays_50 ?_
  refine lv_iload_n hx hb dX1_lays_53 rfl (lv_at hl 0 rfl) ?_
  refine lv_bipush (v := 12) hx hb dX1_lays_54 (by decide) ?_
  refine lv_iadd hx hb dX1_lays_56 ?_
  refine lv_bipush (v := 10) hx hb dX1_lays_57 (by decide) ?_
  obtain ⟨σ_8, e_9, hf⟩ := nmb_e hf
  rw [← e_9] at hW
  clear e_9
  obtain ⟨h_10, hf⟩ := gd_e hf
  refine d_copy X hW hl q504 (by decide) (Nat.le_of_ble_eq_true rfl) dm_17 dm_20 ⟨by decide, by decide⟩ ⟨by decide, by decide⟩ h_10 dX1_lays_59 (fun H locs hW => ?_)
  refine lv_aload_n hx hb dX1_lays_62 rfl (lv_at hl 1 rfl) ?_
  refine dg_18 X hW dm_999 dX1_lays_63 ?_
  refine lv_iconst (v := 0) hx hb dX1_lays_66 (by decide) ?_
  refine lv_aload_n hx hb dX1_lays_67 rfl (lv_at hl 1 rfl) ?_
  refine dg_20 X hW dm_999 dX1_lays_68 ?_
  refine lv_iload_n hx hb dX1_lays_71 rfl (lv_at hl 0 rfl) ?_
  refine lv_bipush (v := 22) hx hb dX1_lays_72 (by decide) ?_
  refine lv_iadd hx hb dX1_lays_74 ?_
  refine lv_bipush (v := 10) hx hb dX1_lays_75 (by decide) ?_
  obtain ⟨σ_11, e_12, hf⟩ := nmb_e hf
  rw [← e_12] at hW
  clear e_12
  obtain ⟨h_13, hf⟩ := gd_e hf
  refine d_copy X hW hl q504 (by decide) (Nat.le_of_ble_eq_true rfl) dm_18 dm_20 ⟨by decide, by decide⟩ ⟨by decide, by decide⟩ h_13 dX1_lays_77 (fun H locs hW => ?_)
  refine lv_aload_n hx hb dX1_lays_80 rfl (lv_at hl 1 rfl) ?_
  refine dg_19 X hW dm_999 dX1_lays_81 ?_
  refine lv_iconst (v := 0) hx hb dX1_lays_84 (by decide) ?_
  refine lv_aload_n hx hb dX1_lays_85 rfl (lv_at hl 1 rfl) ?_
  refine dg_20 X hW dm_999 dX1_lays_86 ?_
  refine lv_iload_n hx hb dX1_lays_89 rfl (lv_at hl 0 rfl) ?_
  refine lv_bipush (v := 32) hx hb dX1_lays_90 (by decide) ?_
  refine lv_iadd hx hb dX1_lays_92 ?_
  refine lv_bipush (v := 8) hx hb dX1_lays_93 (by decide) ?_
  obtain ⟨σ_14, e_15, hf⟩ := nmb_e hf
  rw [← e_15] at hW
  clear e_15
  obtain ⟨h_16, hf⟩ := gd_e hf
  refine d_copy X hW hl q504 (by decide) (Nat.le_of_ble_eq_true rfl) dm_19 dm_20 ⟨by decide, by decide⟩ ⟨by decide, by decide⟩ h_16 dX1_lays_95 (fun H locs hW => ?_)
  exact d_vret X hW hf dX1_lays_98
theorem w_d_lays (l : Launch) {g : gG} {ad : Nat → Nat} (had : dI_ ad) {σr : cS}  {σ : cS} {v1 : Int32}  (hf : d_lays σ v1 = some σr) : MC l yX1_lays cX1_lays 3 none 2 60 g dIds ad (dE g ad σ) (dE g ad σr) [.ref (ad 999), .int v1] none := by
  exact MC.of (by decide) dIds_nd had (Nat.le_of_ble_eq_true rfl) (fun p e s m below meth c A ls X hW hl => wb_d_lays X had hW hl hf)
-- remembers
noncomputable def d_remembers_2 {ρ : Type}  (K : cS → Option ρ) : Nat → cS → Int32 → Option ρ
  | 0, _, _ => none
  | n + 1, σ, v1 => if (σ.1 999 2) ≤ v1 then (K σ) else (((d_sideOf σ v1).bind fun r_3 => gd (inb v1 8) (d_remembers_2 K n (si σ 22 (ix v1) r_3) (v1 + 1))))
set_option maxHeartbeats 4000000 in
theorem wd_remembers_2 {p : Program} {l : Launch} {e : Env} {s : State} {m : MethodId} {args : Array Value} {below : List Frame} {meth : Method} {c : Code} {g : gG} {A : Nat → Prop} {ad : Nat → Nat} (X : MX p s m args meth c cX1_remembers 2 RX1 none g A) (had : dI_ ad) {ρ : Type} {res : ρ} {Q : State → Prop}   {K : cS → Option ρ}
    (hK : ∀ (σ : cS) (H : Heap) (locs : List Loc) (ls : Array Slot), WB g A s.heap dIds ad (dE g ad σ) H locs → lv_has ls 2 [] → K σ = some res → W p l e (rm_ 3 81) s m args below meth c H locs 0 0 Q (F0 m 27 ls [])) :
    ∀ (n : Nat) (σ : cS) (v1 : Int32) (H : Heap) (locs : List Loc) (ls : Array Slot), WB g A s.heap dIds ad (dE g ad σ) H locs → lv_has ls 2 [(0, .ref (ad 999)), (1, .int v1)] → d_remembers_2 K n σ v1 = some res → W p l e (rm_ 3 81) s m args below meth c H locs 0 0 Q (F0 m 2 ls []) := by
  have hx := X.1.1
  have hb := X.1.2.1
  intro n
  induction n with
  | zero =>
    intro σ v1 H locs ls hW hl hf
    rw [d_remembers_2] at hf
    cases hf
  | succ n ih =>
    intro σ v1 H locs ls hW hl hf
    rw [d_remembers_2] at hf
    refine lv_iload_n hx hb dX1_remembers_2 rfl (lv_at hl 1 rfl) ?_
    refine lv_aload_n hx hb dX1_remembers_3 rfl (lv_at hl 0 rfl) ?_
    refine dg_2 X hW dm_999 dX1_remembers_4 ?_
    refine lv_icmp_ge (tgt := 27) hx hb dX1_remembers_7 (by decide) (fun c_1 => ?_) (fun c_1 => ?_)
    · replace hf := ip hf c_1
      exact hK _ _ _ _ hW (lv_sub hl [] rfl) hf
    · replace hf := ine hf c_1
      refine lv_aload_n hx hb dX1_remembers_10 rfl (lv_at hl 0 rfl) ?_
      refine dg_22 X hW dm_999 dX1_remembers_11 ?_
      refine lv_iload_n hx hb dX1_remembers_14 rfl (lv_at hl 1 rfl) ?_
      refine lv_aload_n hx hb dX1_remembers_15 rfl (lv_at hl 0 rfl) ?_
      refine lv_iload_n hx hb dX1_remembers_16 rfl (lv_at hl 1 rfl) ?_
      obtain ⟨r_3, h_2, hf⟩ := bd_e hf
      refine kd_sideOf X hW had h_2 (by decide) hl (Nat.le_of_ble_eq_true rfl) dX1_remembers_17 (fun H locs hW => ?_)
      obtain ⟨h_4, hf⟩ := gd_e hf
      refine ds_22 X hW dm_22 h_4 dX1_remembers_20 (fun H locs hW => ?_)
      refine lv_iinc (v := (v1 + 1)) (lv' := [(1, .int (v1 + 1)), (0, .ref (ad 999))]) hx hb dX1_remembers_21 hl (k := 1) rfl (ii_v _ _ _ (by decide)) (by decide) rfl (fun ls hl => ?_)
      refine lv_goto (tgt := 2) hx hb dX1_remembers_24 (by decide) ?_
      exact ih _ _ _ _ _ hW (lv_sub hl [1, 0] rfl) hf
noncomputable def d_remembers (σ : cS) : Option (cS) :=
  d_remembers_2  (fun σ_5 => (some σ_5)) FU σ 0
set_option maxHeartbeats 4000000 in
theorem wb_d_remembers {p : Program} {l : Launch} {e : Env} {s : State} {m : MethodId} {args : Array Value} {below : List Frame} {meth : Method} {c : Code} {g : gG} {A : Nat → Prop} {ad : Nat → Nat} (X : MX p s m args meth c cX1_remembers 2 RX1 none g A) (had : dI_ ad) {σr : cS}  {σ : cS}  {H : Heap} {locs : List Loc} {ls : Array Slot} (hW : WB g A s.heap dIds ad (dE g ad σ) H locs) (hl : lv_has ls 2 [(0, .ref (ad 999))]) (hf : d_remembers σ = some σr) : W p l e (rm_ 3 81) s m args below meth c H locs 0 0 (Qm below g dIds ad (dE g ad σr) none A args s) (F0 m 0 ls []) := by
  have hx := X.1.1
  have hb := X.1.2.1
  unfold d_remembers at hf
  refine lv_iconst (v := 0) hx hb dX1_remembers_0 (by decide) ?_
  refine lv_istore_n (lv' := [(1, .int 0), (0, .ref (ad 999))]) hx hb dX1_remembers_1 rfl hl (by decide) rfl (fun ls hl => ?_)
  refine wd_remembers_2 X had (fun σ_5 H locs ls hW hl hf => ?_) _ _ _ _ _ _ hW (lv_sub hl [1, 0] rfl) hf
  exact d_vret X hW hf dX1_remembers_27
theorem w_d_remembers (l : Launch) {g : gG} {ad : Nat → Nat} (had : dI_ ad) {σr : cS}  {σ : cS}  (hf : d_remembers σ = some σr) : MC l yX1_remembers cX1_remembers 2 none 3 81 g dIds ad (dE g ad σ) (dE g ad σr) [.ref (ad 999)] none := by
  exact MC.of (by decide) dIds_nd had (Nat.le_of_ble_eq_true rfl) (fun p e s m below meth c A ls X hW hl => wb_d_remembers X had hW hl hf)
theorem kd_remembers {p : Program} {l : Launch} {e : Env} {R : Room} {s : State} {m : MethodId} {args : Array Value} {below : List Frame} {meth : Method} {c : Code} {H : Heap} {locs : List Loc} {Q : State → Prop} {cc : ByteArray} {nL : Nat} {ret : Option FieldType} {g : gG} {A : Nat → Prop} {ad : Nat → Nat} {pc : Nat} {ls : Array Slot} {rest : List Value} {lv : List (Nat × Value)} {σr : cS}  {σ : cS} (X : MX p s m args meth c cc nL RX1 ret g A) (hW : WB g A s.heap dIds ad (dE g ad σ) H locs) (had : dI_ ad)  (hf : d_remembers σ = some σr) (hR : 4 ≤ R.frames ∧ 102 ≤ R.locals) (hl : lv_has ls nL lv) (hcat : (rest.map fun v => v.category).sum ≤ 8) (hdg : decode cc pc = .ok (.invokevirtual 133, 3)) (kk : ∀ (H1 : Heap) (l1 : List Loc), WB g A s.heap dIds ad (dE g ad σr) H1 l1 → W p l e R s m args below meth c H1 l1 0 0 Q (F0 m (pc + 3) ls (rest))) : W p l e R s m args below meth c H locs 0 0 Q (F0 m pc ls (.ref (ad 999) :: rest)) :=
  r_callV X hW Sub.all (w_d_remembers l had hf) (lw_V q870 q871 q872 q121 q873) ⟨rfl, by decide, by decide, by decide +kernel⟩ dm_999 (dE_o rfl) rfl (n := 0) hR hl rfl rfl hcat ⟨Nat.zero_le _, Nat.zero_le _⟩ hdg kk
-- villagesIn
noncomputable def d_villagesIn_5 {ρ : Type} (σ : cS) (v1 : Int32) (v2 : Int32) (K : Int32 → Option ρ) : Nat → Int32 → Int32 → Option ρ
  | 0, _, _ => none
  | n + 1, v3, v4 => if (σ.1 999 2) ≤ v4 then (K v3) else (gd (inb v4 8) (if (σ.1 11 (ix v4)) = v1 then (((d_sideOf σ v4).bind fun r_5 => if r_5 = v2 then (d_villagesIn_5 σ v1 v2 K n (v3 + 1) (v4 + 1)) else (d_villagesIn_5 σ v1 v2 K n (v3 + 0) (v4 + 1)))) else (d_villagesIn_5 σ v1 v2 K n (v3 + 0) (v4 + 1))))
set_option maxHeartbeats 4000000 in
theorem wd_villagesIn_5 {p : Program} {l : Launch} {e : Env} {s : State} {m : MethodId} {args : Array Value} {below : List Frame} {meth : Method} {c : Code} {g : gG} {A : Nat → Prop} {ad : Nat → Nat} (X : MX p s m args meth c cX1_villagesIn 5 RX1 (some .int) g A) (had : dI_ ad) {ρ : Type} {res : ρ} {Q : State → Prop} {v1 : Int32} {v2 : Int32} {σ : cS}  {K : Int32 → Option ρ}
    (hK : ∀ (k3 : Int32) (H : Heap) (locs : List Loc) (ls : Array Slot), WB g A s.heap dIds ad (dE g ad σ) H locs → lv_has ls 5 [(3, .int k3)] → K k3 = some res → W p l e (rm_ 3 81) s m args below meth c H locs 0 0 Q (F0 m 49 ls [])) :
    ∀ (n : Nat) (v3 : Int32) (v4 : Int32) (H : Heap) (locs : List Loc) (ls : Array Slot), WB g A s.heap dIds ad (dE g ad σ) H locs → lv_has ls 5 [(0, .ref (ad 999)), (1, .int v1), (2, .int v2), (3, .int v3), (4, .int v4)] → d_villagesIn_5 σ v1 v2 K n v3 v4 = some res → W p l e (rm_ 3 81) s m args below meth c H locs 0 0 Q (F0 m 5 ls []) := by
  have hx := X.1.1
  have hb := X.1.2.1
  intro n
  induction n with
  | zero =>
    intro v3 v4 H locs ls hW hl hf
    rw [d_villagesIn_5] at hf
    cases hf
  | succ n ih =>
    intro v3 v4 H locs ls hW hl hf
    rw [d_villagesIn_5] at hf
    refine lv_iload hx hb dX1_villagesIn_5 (lv_at hl 4 rfl) ?_
    refine lv_aload_n hx hb dX1_villagesIn_7 rfl (lv_at hl 0 rfl) ?_
    refine dg_2 X hW dm_999 dX1_villagesIn_8 ?_
    refine lv_icmp_ge (tgt := 49) hx hb dX1_villagesIn_11 (by decide) (fun c_1 => ?_) (fun c_1 => ?_)
    · replace hf := ip hf c_1
      exact hK _ _ _ _ hW (lv_sub hl [3] rfl) hf
    · replace hf := ine hf c_1
      refine lv_iload_n hx hb dX1_villagesIn_14 rfl (lv_at hl 3 rfl) ?_
      refine lv_aload_n hx hb dX1_villagesIn_15 rfl (lv_at hl 0 rfl) ?_
      refine dg_11 X hW dm_999 dX1_villagesIn_16 ?_
      refine lv_iload hx hb dX1_villagesIn_19 (lv_at hl 4 rfl) ?_
      obtain ⟨h_2, hf⟩ := gd_e hf
      refine dl_11 X hW dm_11 h_2 dX1_villagesIn_21 ?_
      refine lv_iload_n hx hb dX1_villagesIn_22 rfl (lv_at hl 1 rfl) ?_
      refine lv_icmp_ne (tgt := 40) hx hb dX1_villagesIn_23 (by decide) (fun c_3 => ?_) (fun c_3 => ?_)
      · replace hf := ine hf c_3
        refine lv_iconst (v := 0) hx hb dX1_villagesIn_40 (by decide) ?_
        refine lv_iadd hx hb dX1_villagesIn_41 ?_
        refine lv_istore_n (lv' := [(3, .int (v3 + 0)), (0, .ref (ad 999)), (1, .int v1), (2, .int v2), (4, .int v4)]) hx hb dX1_villagesIn_42 rfl hl (by decide) rfl (fun ls hl => ?_)
        refine lv_iinc (v := (v4 + 1)) (lv' := [(4, .int (v4 + 1)), (3, .int (v3 + 0)), (0, .ref (ad 999)), (1, .int v1), (2, .int v2)]) hx hb dX1_villagesIn_43 hl (k := 4) rfl (ii_v _ _ _ (by decide)) (by decide) rfl (fun ls hl => ?_)
        refine lv_goto (tgt := 5) hx hb dX1_villagesIn_46 (by decide) ?_
        exact ih _ _ _ _ _ hW (lv_sub hl [2, 3, 4, 1, 0] rfl) hf
      · replace hf := ip hf c_3
        refine lv_aload_n hx hb dX1_villagesIn_26 rfl (lv_at hl 0 rfl) ?_
        refine lv_iload hx hb dX1_villagesIn_27 (lv_at hl 4 rfl) ?_
        obtain ⟨r_5, h_4, hf⟩ := bd_e hf
        refine kd_sideOf X hW had h_4 (by decide) hl (Nat.le_of_ble_eq_true rfl) dX1_villagesIn_29 (fun H locs hW => ?_)
        refine lv_iload_n hx hb dX1_villagesIn_32 rfl (lv_at hl 2 rfl) ?_
        refine lv_icmp_ne (tgt := 40) hx hb dX1_villagesIn_33 (by decide) (fun c_6 => ?_) (fun c_6 => ?_)
        · replace hf := ine hf c_6
          refine lv_iconst (v := 0) hx hb dX1_villagesIn_40 (by decide) ?_
          refine lv_iadd hx hb dX1_villagesIn_41 ?_
          refine lv_istore_n (lv' := [(3, .int (v3 + 0)), (0, .ref (ad 999)), (1, .int v1), (2, .int v2), (4, .int v4)]) hx hb dX1_villagesIn_42 rfl hl (by decide) rfl (fun ls hl => ?_)
          refine lv_iinc (v := (v4 + 1)) (lv' := [(4, .int (v4 + 1)), (3, .int (v3 + 0)), (0, .ref (ad 999)), (1, .int v1), (2, .int v2)]) hx hb dX1_villagesIn_43 hl (k := 4) rfl (ii_v _ _ _ (by decide)) (by decide) rfl (fun ls hl => ?_)
          refine lv_goto (tgt := 5) hx hb dX1_villagesIn_46 (by decide) ?_
          exact ih _ _ _ _ _ hW (lv_sub hl [2, 3, 4, 1, 0] rfl) hf
        · replace hf := ip hf c_6
          refine lv_iconst (v := 1) hx hb dX1_villagesIn_36 (by decide) ?_
          refine lv_goto (tgt := 41) hx hb dX1_villagesIn_37 (by decide) ?_
          refine lv_iadd hx hb dX1_villagesIn_41 ?_
          refine lv_istore_n (lv' := [(3, .int (v3 + 1)), (0, .ref (ad 999)), (1, .int v1), (2, .int v2), (4, .int v4)]) hx hb dX1_villagesIn_42 rfl hl (by decide) rfl (fun ls hl => ?_)
          refine lv_iinc (v := (v4 + 1)) (lv' := [(4, .int (v4 + 1)), (3, .int (v3 + 1)), (0, .ref (ad 999)), (1, .int v1), (2, .int v2)]) hx hb dX1_villagesIn_43 hl (k := 4) rfl (ii_v _ _ _ (by decide)) (by decide) rfl (fun ls hl => ?_)
          refine lv_goto (tgt := 5) hx hb dX1_villagesIn_46 (by decide) ?_
          exact ih _ _ _ _ _ hW (lv_sub hl [2, 3, 4, 1, 0] rfl) hf
noncomputable def d_villagesIn (σ : cS) (v1 : Int32) (v2 : Int32) : Option (Int32) :=
  d_villagesIn_5 σ v1 v2 (fun v_7 => (some v_7)) FU 0 0
set_option maxHeartbeats 4000000 in
theorem wb_d_villagesIn {p : Program} {l : Launch} {e : Env} {s : State} {m : MethodId} {args : Array Value} {below : List Frame} {meth : Method} {c : Code} {g : gG} {A : Nat → Prop} {ad : Nat → Nat} (X : MX p s m args meth c cX1_villagesIn 5 RX1 (some .int) g A) (had : dI_ ad) {r : Int32} {σ : cS} {v1 : Int32} {v2 : Int32}  {H : Heap} {locs : List Loc} {ls : Array Slot} (hW : WB g A s.heap dIds ad (dE g ad σ) H locs) (hl : lv_has ls 5 [(0, .ref (ad 999)), (1, .int v1), (2, .int v2)]) (hf : d_villagesIn σ v1 v2 = some r) : W p l e (rm_ 3 81) s m args below meth c H locs 0 0 (Qm below g dIds ad (dE g ad σ) (some (.int r)) A args s) (F0 m 0 ls []) := by
  have hx := X.1.1
  have hb := X.1.2.1
  unfold d_villagesIn at hf
  refine lv_iconst (v := 0) hx hb dX1_villagesIn_0 (by decide) ?_
  refine lv_istore_n (lv' := [(3, .int 0), (0, .ref (ad 999)), (1, .int v1), (2, .int v2)]) hx hb dX1_villagesIn_1 rfl hl (by decide) rfl (fun ls hl => ?_)
  refine lv_iconst (v := 0) hx hb dX1_villagesIn_2 (by decide) ?_
  refine lv_istore (lv' := [(4, .int 0), (3, .int 0), (0, .ref (ad 999)), (1, .int v1), (2, .int v2)]) hx hb dX1_villagesIn_3 hl (by decide) rfl (fun ls hl => ?_)
  refine wd_villagesIn_5 X had (fun v_7 H locs ls hW hl hf => ?_) _ _ _ _ _ _ hW (lv_sub hl [2, 3, 4, 1, 0] rfl) hf
  refine lv_iload_n hx hb dX1_villagesIn_49 rfl (lv_at hl 0 rfl) ?_
  exact p_iret X hW hf dX1_villagesIn_50
theorem w_d_villagesIn (l : Launch) {g : gG} {ad : Nat → Nat} (had : dI_ ad) {r : Int32} {σ : cS} {v1 : Int32} {v2 : Int32}  (hf : d_villagesIn σ v1 v2 = some r) : MC l yX1_villagesIn cX1_villagesIn 5 (some .int) 3 81 g dIds ad (dE g ad σ) (dE g ad σ) [.ref (ad 999), .int v1, .int v2] (some (.int r)) := by
  exact MC.of (by decide) dIds_nd had (Nat.le_of_ble_eq_true rfl) (fun p e s m below meth c A ls X hW hl => wb_d_villagesIn X had hW hl hf)
theorem kd_villagesIn {p : Program} {l : Launch} {e : Env} {R : Room} {s : State} {m : MethodId} {args : Array Value} {below : List Frame} {meth : Method} {c : Code} {H : Heap} {locs : List Loc} {Q : State → Prop} {cc : ByteArray} {nL : Nat} {ret : Option FieldType} {g : gG} {A : Nat → Prop} {ad : Nat → Nat} {pc : Nat} {ls : Array Slot} {rest : List Value} {lv : List (Nat × Value)} {r : Int32} {σ : cS} {v1 : Int32} {v2 : Int32} (X : MX p s m args meth c cc nL RX1 ret g A) (hW : WB g A s.heap dIds ad (dE g ad σ) H locs) (had : dI_ ad)  (hf : d_villagesIn σ v1 v2 = some r) (hR : 4 ≤ R.frames ∧ 105 ≤ R.locals) (hl : lv_has ls nL lv) (hcat : (rest.map fun v => v.category).sum ≤ 8) (hdg : decode cc pc = .ok (.invokevirtual 113, 3)) (kk : ∀ (H1 : Heap) (l1 : List Loc), WB g A s.heap dIds ad (dE g ad σ) H1 l1 → W p l e R s m args below meth c H1 l1 0 0 Q (F0 m (pc + 3) ls (.int r :: rest))) : W p l e R s m args below meth c H locs 0 0 Q (F0 m pc ls (.int v2 :: .int v1 :: .ref (ad 999) :: rest)) :=
  r_callV X hW Sub.all (w_d_villagesIn l had hf) (lw_V q895 q896 q897 q121 q898) ⟨rfl, by decide, by decide, by decide +kernel⟩ dm_999 (dE_o rfl) rfl (n := 2) hR hl rfl rfl hcat ⟨Nat.zero_le _, Nat.zero_le _⟩ hdg kk
-- fillsWords
noncomputable def d_fillsWords (σ : cS) (v1 : Int32) (v2 : Int32) : Option (cS) :=
  gd (inb v1 10) (nmb (sL σ 23 (ix 0) v1.toInt64) fun σ_2 => (nmb (sL σ_2 23 (ix 1) (((sL σ 23 (ix 0) v1.toInt64).1 16 (ix v1)).toInt64)) fun σ_4 => (nmb (sL σ_4 23 (ix 2) (((sL σ_2 23 (ix 1) (((sL σ 23 (ix 0) v1.toInt64).1 16 (ix v1)).toInt64)).1 17 (ix v1)).toInt64)) fun σ_6 => (nmb (sL σ_6 23 (ix 3) (((sL σ_4 23 (ix 2) (((sL σ_2 23 (ix 1) (((sL σ 23 (ix 0) v1.toInt64).1 16 (ix v1)).toInt64)).1 17 (ix v1)).toInt64)).1 18 (ix v1)).toInt64)) fun σ_8 => (nmb (sL σ_8 23 (ix 4) (((sL σ_6 23 (ix 3) (((sL σ_4 23 (ix 2) (((sL σ_2 23 (ix 1) (((sL σ 23 (ix 0) v1.toInt64).1 16 (ix v1)).toInt64)).1 17 (ix v1)).toInt64)).1 18 (ix v1)).toInt64)).1 999 1).toInt64)) fun σ_10 => (nmb (sL σ_10 23 (ix 5) v2.toInt64) fun σ_12 => (gd (inb (jmax 0 (v1 - 1)) 10) (nmb (sL σ_12 23 (ix 6) (((sL σ_10 23 (ix 5) v2.toInt64).1 999 8).toInt64)) fun σ_15 => (gd (inb (jmin (((sL σ_15 23 (ix 7) (((sL σ_12 23 (ix 6) (((sL σ_10 23 (ix 5) v2.toInt64).1 999 8).toInt64)).1 16 (ix (jmax 0 (v1 - 1)))).toInt64)).1 999 0) - 1) (v1 + 1)) 10) (nmb (sL σ_15 23 (ix 7) (((sL σ_12 23 (ix 6) (((sL σ_10 23 (ix 5) v2.toInt64).1 999 8).toInt64)).1 16 (ix (jmax 0 (v1 - 1)))).toInt64)) fun σ_18 => (((d_villagesIn (sL σ_18 23 (ix 8) (((sL σ_15 23 (ix 7) (((sL σ_12 23 (ix 6) (((sL σ_10 23 (ix 5) v2.toInt64).1 999 8).toInt64)).1 16 (ix (jmax 0 (v1 - 1)))).toInt64)).1 16 (ix (jmin (((sL σ_15 23 (ix 7) (((sL σ_12 23 (ix 6) (((sL σ_10 23 (ix 5) v2.toInt64).1 999 8).toInt64)).1 16 (ix (jmax 0 (v1 - 1)))).toInt64)).1 999 0) - 1) (v1 + 1)))).toInt64)) v1 0).bind fun r_21 => nmb (sL σ_18 23 (ix 8) (((sL σ_15 23 (ix 7) (((sL σ_12 23 (ix 6) (((sL σ_10 23 (ix 5) v2.toInt64).1 999 8).toInt64)).1 16 (ix (jmax 0 (v1 - 1)))).toInt64)).1 16 (ix (jmin (((sL σ_15 23 (ix 7) (((sL σ_12 23 (ix 6) (((sL σ_10 23 (ix 5) v2.toInt64).1 999 8).toInt64)).1 16 (ix (jmax 0 (v1 - 1)))).toInt64)).1 999 0) - 1) (v1 + 1)))).toInt64)) fun σ_22 => (((d_villagesIn (sL σ_22 23 (ix 9) r_21.toInt64) v1 1).bind fun r_25 => nmb (sL σ_22 23 (ix 9) r_21.toInt64) fun σ_26 => (((if v1 ≤ 0 then (some (0)) else (((d_isBaked (sL σ_26 23 (ix 10) r_25.toInt64) (v1 - 1)).bind fun r_42 => if r_42 = 0 then (some (0)) else (some (1)))) : Option (Int32)).bind fun t_28 => (if (((sL σ_26 23 (ix 10) r_25.toInt64).1 999 0) - 1) ≤ v1 then (nmb (sL σ_26 23 (ix 10) r_25.toInt64) fun σ_31 => (some (sL σ_31 23 (ix 11) ((t_28 + 0).toInt64)))) else (((d_isBaked (sL σ_26 23 (ix 10) r_25.toInt64) (v1 + 1)).bind fun r_34 => if r_34 = 0 then (nmb (sL σ_26 23 (ix 10) r_25.toInt64) fun σ_36 => (some (sL σ_36 23 (ix 11) ((t_28 + 0).toInt64)))) else (nmb (sL σ_26 23 (ix 10) r_25.toInt64) fun σ_38 => (some (sL σ_38 23 (ix 11) ((t_28 + 1).toInt64)))))))))))))))))))))))
set_option maxHeartbeats 4000000 in
theorem wb_d_fillsWords {p : Program} {l : Launch} {e : Env} {s : State} {m : MethodId} {args : Array Value} {below : List Frame} {meth : Method} {c : Code} {g : gG} {A : Nat → Prop} {ad : Nat → Nat} (X : MX p s m args meth c cX1_fillsWords 3 RX1 none g A) (had : dI_ ad) {σr : cS}  {σ : cS} {v1 : Int32} {v2 : Int32}  {H : Heap} {locs : List Loc} {ls : Array Slot} (hW : WB g A s.heap dIds ad (dE g ad σ) H locs) (hl : lv_has ls 3 [(0, .ref (ad 999)), (1, .int v1), (2, .int v2)]) (hf : d_fillsWords σ v1 v2 = some σr) : W p l e (rm_ 5 121) s m args below meth c H locs 0 0 (Qm below g dIds ad (dE g ad σr) none A args s) (F0 m 0 ls []) := by
  have hx := X.1.1
  have hb := X.1.2.1
  unfold d_fillsWords at hf
  refine lv_aload_n hx hb dX1_fillsWords_0 rfl (lv_at hl 0 rfl) ?_
  refine dg_23 X hW dm_999 dX1_fillsWords_1 ?_
  refine lv_iconst (v := 0) hx hb dX1_fillsWords_4 (by decide) ?_
  refine lv_iload_n hx hb dX1_fillsWords_5 rfl (lv_at hl 1 rfl) ?_
  refine lv_i2l (v := v1.toInt64) hx hb dX1_fillsWords_6 rfl ?_
  refine ds_23 X hW dm_23 (by decide) dX1_fillsWords_7 (fun H locs hW => ?_)
  refine lv_aload_n hx hb dX1_fillsWords_8 rfl (lv_at hl 0 rfl) ?_
  refine dg_23 X hW dm_999 dX1_fillsWords_9 ?_
  refine lv_iconst (v := 1) hx hb dX1_fillsWords_12 (by decide) ?_
  refine lv_aload_n hx hb dX1_fillsWords_13 rfl (lv_at hl 0 rfl) ?_
  refine dg_16 X hW dm_999 dX1_fillsWords_14 ?_
  refine lv_iload_n hx hb dX1_fillsWords_17 rfl (lv_at hl 1 rfl) ?_
  obtain ⟨h_1, hf⟩ := gd_e hf
  refine dl_16 X hW dm_16 h_1 dX1_fillsWords_18 ?_
  refine lv_i2l (v := ((sL σ 23 (ix 0) v1.toInt64).1 16 (ix v1)).toInt64) hx hb dX1_fillsWords_19 rfl ?_
  obtain ⟨σ_2, e_3, hf⟩ := nmb_e hf
  rw [← e_3] at hW
  clear e_3
  refine ds_23 X hW dm_23 (by decide) dX1_fillsWords_20 (fun H locs hW => ?_)
  refine lv_aload_n hx hb dX1_fillsWords_21 rfl (lv_at hl 0 rfl) ?_
  refine dg_23 X hW dm_999 dX1_fillsWords_22 ?_
  refine lv_iconst (v := 2) hx hb dX1_fillsWords_25 (by decide) ?_
  refine lv_aload_n hx hb dX1_fillsWords_26 rfl (lv_at hl 0 rfl) ?_
  refine dg_17 X hW dm_999 dX1_fillsWords_27 ?_
  refine lv_iload_n hx hb dX1_fillsWords_30 rfl (lv_at hl 1 rfl) ?_
  refine dl_17 X hW dm_17 h_1 dX1_fillsWords_31 ?_
  refine lv_i2l (v := ((sL σ_2 23 (ix 1) (((sL σ 23 (ix 0) v1.toInt64).1 16 (ix v1)).toInt64)).1 17 (ix v1)).toInt64) hx hb dX1_fillsWords_32 rfl ?_
  obtain ⟨σ_4, e_5, hf⟩ := nmb_e hf
  rw [← e_5] at hW
  clear e_5
  refine ds_23 X hW dm_23 (by decide) dX1_fillsWords_33 (fun H locs hW => ?_)
  refine lv_aload_n hx hb dX1_fillsWords_34 rfl (lv_at hl 0 rfl) ?_
  refine dg_23 X hW dm_999 dX1_fillsWords_35 ?_
  refine lv_iconst (v := 3) hx hb dX1_fillsWords_38 (by decide) ?_
  refine lv_aload_n hx hb dX1_fillsWords_39 rfl (lv_at hl 0 rfl) ?_
  refine dg_18 X hW dm_999 dX1_fillsWords_40 ?_
  refine lv_iload_n hx hb dX1_fillsWords_43 rfl (lv_at hl 1 rfl) ?_
  refine dl_18 X hW dm_18 h_1 dX1_fillsWords_44 ?_
  refine lv_i2l (v := ((sL σ_4 23 (ix 2) (((sL σ_2 23 (ix 1) (((sL σ 23 (ix 0) v1.toInt64).1 16 (ix v1)).toInt64)).1 17 (ix v1)).toInt64)).1 18 (ix v1)).toInt64) hx hb dX1_fillsWords_45 rfl ?_
  obtain ⟨σ_6, e_7, hf⟩ := nmb_e hf
  rw [← e_7] at hW
  clear e_7
  refine ds_23 X hW dm_23 (by decide) dX1_fillsWords_46 (fun H locs hW => ?_)
  refine lv_aload_n hx hb dX1_fillsWords_47 rfl (lv_at hl 0 rfl) ?_
  refine dg_23 X hW dm_999 dX1_fillsWords_48 ?_
  refine lv_iconst (v := 4) hx hb dX1_fillsWords_51 (by decide) ?_
  refine lv_aload_n hx hb dX1_fillsWords_52 rfl (lv_at hl 0 rfl) ?_
  refine dg_1 X hW dm_999 dX1_fillsWords_53 ?_
  refine lv_i2l (v := ((sL σ_6 23 (ix 3) (((sL σ_4 23 (ix 2) (((sL σ_2 23 (ix 1) (((sL σ 23 (ix 0) v1.toInt64).1 16 (ix v1)).toInt64)).1 17 (ix v1)).toInt64)).1 18 (ix v1)).toInt64)).1 999 1).toInt64) hx hb dX1_fillsWords_56 rfl ?_
  obtain ⟨σ_8, e_9, hf⟩ := nmb_e hf
  rw [← e_9] at hW
  clear e_9
  refine ds_23 X hW dm_23 (by decide) dX1_fillsWords_57 (fun H locs hW => ?_)
  refine lv_aload_n hx hb dX1_fillsWords_58 rfl (lv_at hl 0 rfl) ?_
  refine dg_23 X hW dm_999 dX1_fillsWords_59 ?_
  refine lv_iconst (v := 5) hx hb dX1_fillsWords_62 (by decide) ?_
  refine lv_iload_n hx hb dX1_fillsWords_63 rfl (lv_at hl 2 rfl) ?_
  refine lv_i2l (v := v2.toInt64) hx hb dX1_fillsWords_64 rfl ?_
  obtain ⟨σ_10, e_11, hf⟩ := nmb_e hf
  rw [← e_11] at hW
  clear e_11
  refine ds_23 X hW dm_23 (by decide) dX1_fillsWords_65 (fun H locs hW => ?_)
  refine lv_aload_n hx hb dX1_fillsWords_66 rfl (lv_at hl 0 rfl) ?_
  refine dg_23 X hW dm_999 dX1_fillsWords_67 ?_
  refine lv_bipush (v := 6) hx hb dX1_fillsWords_70 (by decide) ?_
  refine lv_aload_n hx hb dX1_fillsWords_72 rfl (lv_at hl 0 rfl) ?_
  refine dg_8 X hW dm_999 dX1_fillsWords_73 ?_
  refine lv_i2l (v := ((sL σ_10 23 (ix 5) v2.toInt64).1 999 8).toInt64) hx hb dX1_fillsWords_76 rfl ?_
  obtain ⟨σ_12, e_13, hf⟩ := nmb_e hf
  rw [← e_13] at hW
  clear e_13
  refine ds_23 X hW dm_23 (by decide) dX1_fillsWords_77 (fun H locs hW => ?_)
  refine lv_aload_n hx hb dX1_fillsWords_78 rfl (lv_at hl 0 rfl) ?_
  refine dg_23 X hW dm_999 dX1_fillsWords_79 ?_
  refine lv_bipush (v := 7) hx hb dX1_fillsWords_82 (by decide) ?_
  refine lv_aload_n hx hb dX1_fillsWords_84 rfl (lv_at hl 0 rfl) ?_
  refine dg_16 X hW dm_999 dX1_fillsWords_85 ?_
  refine lv_iconst (v := 0) hx hb dX1_fillsWords_88 (by decide) ?_
  refine lv_iload_n hx hb dX1_fillsWords_89 rfl (lv_at hl 1 rfl) ?_
  refine lv_iconst (v := 1) hx hb dX1_fillsWords_90 (by decide) ?_
  refine lv_isub hx hb dX1_fillsWords_91 ?_
  refine r_max X hl q894 (by decide) (Nat.le_of_ble_eq_true rfl) dX1_fillsWords_92 ?_
  obtain ⟨h_14, hf⟩ := gd_e hf
  refine dl_16 X hW dm_16 h_14 dX1_fillsWords_95 ?_
  refine lv_i2l (v := ((sL σ_12 23 (ix 6) (((sL σ_10 23 (ix 5) v2.toInt64).1 999 8).toInt64)).1 16 (ix (jmax 0 (v1 - 1)))).toInt64) hx hb dX1_fillsWords_96 rfl ?_
  obtain ⟨σ_15, e_16, hf⟩ := nmb_e hf
  rw [← e_16] at hW
  clear e_16
  refine ds_23 X hW dm_23 (by decide) dX1_fillsWords_97 (fun H locs hW => ?_)
  refine lv_aload_n hx hb dX1_fillsWords_98 rfl (lv_at hl 0 rfl) ?_
  refine dg_23 X hW dm_999 dX1_fillsWords_99 ?_
  refine lv_bipush (v := 8) hx hb dX1_fillsWords_102 (by decide) ?_
  refine lv_aload_n hx hb dX1_fillsWords_104 rfl (lv_at hl 0 rfl) ?_
  refine dg_16 X hW dm_999 dX1_fillsWords_105 ?_
  refine lv_aload_n hx hb dX1_fillsWords_108 rfl (lv_at hl 0 rfl) ?_
  refine dg_0 X hW dm_999 dX1_fillsWords_109 ?_
  refine lv_iconst (v := 1) hx hb dX1_fillsWords_112 (by decide) ?_
  refine lv_isub hx hb dX1_fillsWords_113 ?_
  refine lv_iload_n hx hb dX1_fillsWords_114 rfl (lv_at hl 1 rfl) ?_
  refine lv_iconst (v := 1) hx hb dX1_fillsWords_115 (by decide) ?_
  refine lv_iadd hx hb dX1_fillsWords_116 ?_
  refine r_min X hl q876 (by decide) (Nat.le_of_ble_eq_true rfl) dX1_fillsWords_117 ?_
  obtain ⟨h_17, hf⟩ := gd_e hf
  refine dl_16 X hW dm_16 h_17 dX1_fillsWords_120 ?_
  refine lv_i2l (v := ((sL σ_15 23 (ix 7) (((sL σ_12 23 (ix 6) (((sL σ_10 23 (ix 5) v2.toInt64).1 999 8).toInt64)).1 16 (ix (jmax 0 (v1 - 1)))).toInt64)).1 16 (ix (jmin (((sL σ_15 23 (ix 7) (((sL σ_12 23 (ix 6) (((sL σ_10 23 (ix 5) v2.toInt64).1 999 8).toInt64)).1 16 (ix (jmax 0 (v1 - 1)))).toInt64)).1 999 0) - 1) (v1 + 1)))).toInt64) hx hb dX1_fillsWords_121 rfl ?_
  obtain ⟨σ_18, e_19, hf⟩ := nmb_e hf
  rw [← e_19] at hW
  clear e_19
  refine ds_23 X hW dm_23 (by decide) dX1_fillsWords_122 (fun H locs hW => ?_)
  refine lv_aload_n hx hb dX1_fillsWords_123 rfl (lv_at hl 0 rfl) ?_
  refine dg_23 X hW dm_999 dX1_fillsWords_124 ?_
  refine lv_bipush (v := 9) hx hb dX1_fillsWords_127 (by decide) ?_
  refine lv_aload_n hx hb dX1_fillsWords_129 rfl (lv_at hl 0 rfl) ?_
  refine lv_iload_n hx hb dX1_fillsWords_130 rfl (lv_at hl 1 rfl) ?_
  refine lv_iconst (v := 0) hx hb dX1_fillsWords_131 (by decide) ?_
  obtain ⟨r_21, h_20, hf⟩ := bd_e hf
  refine kd_villagesIn X hW had h_20 (by decide) hl (Nat.le_of_ble_eq_true rfl) dX1_fillsWords_132 (fun H locs hW => ?_)
  refine lv_i2l (v := r_21.toInt64) hx hb dX1_fillsWords_135 rfl ?_
  obtain ⟨σ_22, e_23, hf⟩ := nmb_e hf
  rw [← e_23] at hW
  clear e_23
  refine ds_23 X hW dm_23 (by decide) dX1_fillsWords_136 (fun H locs hW => ?_)
  refine lv_aload_n hx hb dX1_fillsWords_137 rfl (lv_at hl 0 rfl) ?_
  refine dg_23 X hW dm_999 dX1_fillsWords_138 ?_
  refine lv_bipush (v := 10) hx hb dX1_fillsWords_141 (by decide) ?_
  refine lv_aload_n hx hb dX1_fillsWords_143 rfl (lv_at hl 0 rfl) ?_
  refine lv_iload_n hx hb dX1_fillsWords_144 rfl (lv_at hl 1 rfl) ?_
  refine lv_iconst (v := 1) hx hb dX1_fillsWords_145 (by decide) ?_
  obtain ⟨r_25, h_24, hf⟩ := bd_e hf
  refine kd_villagesIn X hW had h_24 (by decide) hl (Nat.le_of_ble_eq_true rfl) dX1_fillsWords_146 (fun H locs hW => ?_)
  refine lv_i2l (v := r_25.toInt64) hx hb dX1_fillsWords_149 rfl ?_
  obtain ⟨σ_26, e_27, hf⟩ := nmb_e hf
  rw [← e_27] at hW
  clear e_27
  refine ds_23 X hW dm_23 (by decide) dX1_fillsWords_150 (fun H locs hW => ?_)
  refine lv_aload_n hx hb dX1_fillsWords_151 rfl (lv_at hl 0 rfl) ?_
  refine dg_23 X hW dm_999 dX1_fillsWords_152 ?_
  refine lv_bipush (v := 11) hx hb dX1_fillsWords_155 (by decide) ?_
  refine lv_iload_n hx hb dX1_fillsWords_157 rfl (lv_at hl 1 rfl) ?_
  obtain ⟨t_28, hD_29, hf⟩ := bd_e hf
  have hJ : ∀ (H : Heap) (locs : List Loc) (ls : Array Slot), WB g A s.heap dIds ad (dE g ad (sL σ_26 23 (ix 10) r_25.toInt64)) H locs → lv_has ls 3 [(0, .ref (ad 999)), (1, .int v1)] → W p l e (rm_ 5 121) s m args below meth c H locs 0 0 (Qm below g dIds ad (dE g ad σr) none A args s) (F0 m 176 ls [.int t_28, .int 11, .ref (ad 23)]) := by
    intro H locs ls hW hl
    refine lv_iload_n hx hb dX1_fillsWords_176 rfl (lv_at hl 1 rfl) ?_
    refine lv_aload_n hx hb dX1_fillsWords_177 rfl (lv_at hl 0 rfl) ?_
    refine dg_0 X hW dm_999 dX1_fillsWords_178 ?_
    refine lv_iconst (v := 1) hx hb dX1_fillsWords_181 (by decide) ?_
    refine lv_isub hx hb dX1_fillsWords_182 ?_
    refine lv_icmp_ge (tgt := 200) hx hb dX1_fillsWords_183 (by decide) (fun c_30 => ?_) (fun c_30 => ?_)
    · replace hf := ip hf c_30
      refine lv_iconst (v := 0) hx hb dX1_fillsWords_200 (by decide) ?_
      refine lv_iadd hx hb dX1_fillsWords_201 ?_
      refine lv_i2l (v := (t_28 + 0).toInt64) hx hb dX1_fillsWords_202 rfl ?_
      obtain ⟨σ_31, e_32, hf⟩ := nmb_e hf
      rw [← e_32] at hW
      clear e_32
      refine ds_23 X hW dm_23 (by decide) dX1_fillsWords_203 (fun H locs hW => ?_)
      exact d_vret X hW hf dX1_fillsWords_204
    · replace hf := ine hf c_30
      refine lv_aload_n hx hb dX1_fillsWords_186 rfl (lv_at hl 0 rfl) ?_
      refine lv_iload_n hx hb dX1_fillsWords_187 rfl (lv_at hl 1 rfl) ?_
      refine lv_iconst (v := 1) hx hb dX1_fillsWords_188 (by decide) ?_
      refine lv_iadd hx hb dX1_fillsWords_189 ?_
      obtain ⟨r_34, h_33, hf⟩ := bd_e hf
      refine kd_isBaked X hW had h_33 (by decide) hl (Nat.le_of_ble_eq_true rfl) dX1_fillsWords_190 (fun H locs hW => ?_)
      refine lv_if_eq (tgt := 200) hx hb dX1_fillsWords_193 (by decide) (fun c_35 => ?_) (fun c_35 => ?_)
      · replace hf := ip hf c_35
        refine lv_iconst (v := 0) hx hb dX1_fillsWords_200 (by decide) ?_
        refine lv_iadd hx hb dX1_fillsWords_201 ?_
        refine lv_i2l (v := (t_28 + 0).toInt64) hx hb dX1_fillsWords_202 rfl ?_
        obtain ⟨σ_36, e_37, hf⟩ := nmb_e hf
        rw [← e_37] at hW
        clear e_37
        refine ds_23 X hW dm_23 (by decide) dX1_fillsWords_203 (fun H locs hW => ?_)
        exact d_vret X hW hf dX1_fillsWords_204
      · replace hf := ine hf c_35
        refine lv_iconst (v := 1) hx hb dX1_fillsWords_196 (by decide) ?_
        refine lv_goto (tgt := 201) hx hb dX1_fillsWords_197 (by decide) ?_
        refine lv_iadd hx hb dX1_fillsWords_201 ?_
        refine lv_i2l (v := (t_28 + 1).toInt64) hx hb dX1_fillsWords_202 rfl ?_
        obtain ⟨σ_38, e_39, hf⟩ := nmb_e hf
        rw [← e_39] at hW
        clear e_39
        refine ds_23 X hW dm_23 (by decide) dX1_fillsWords_203 (fun H locs hW => ?_)
        exact d_vret X hW hf dX1_fillsWords_204
  clear hf
  refine lv_if_le (tgt := 175) hx hb dX1_fillsWords_158 (by decide) (fun c_40 => ?_) (fun c_40 => ?_)
  · replace hD_29 := ip hD_29 c_40
    refine lv_iconst (v := 0) hx hb dX1_fillsWords_175 (by decide) ?_
    cases hD_29
    exact hJ _ _ _ hW (lv_sub hl [0, 1] rfl)
  · replace hD_29 := ine hD_29 c_40
    refine lv_aload_n hx hb dX1_fillsWords_161 rfl (lv_at hl 0 rfl) ?_
    refine lv_iload_n hx hb dX1_fillsWords_162 rfl (lv_at hl 1 rfl) ?_
    refine lv_iconst (v := 1) hx hb dX1_fillsWords_163 (by decide) ?_
    refine lv_isub hx hb dX1_fillsWords_164 ?_
    obtain ⟨r_42, h_41, hD_29⟩ := bd_e hD_29
    refine kd_isBaked X hW had h_41 (by decide) hl (Nat.le_of_ble_eq_true rfl) dX1_fillsWords_165 (fun H locs hW => ?_)
    refine lv_if_eq (tgt := 175) hx hb dX1_fillsWords_168 (by decide) (fun c_43 => ?_) (fun c_43 => ?_)
    · replace hD_29 := ip hD_29 c_43
      refine lv_iconst (v := 0) hx hb dX1_fillsWords_175 (by decide) ?_
      cases hD_29
      exact hJ _ _ _ hW (lv_sub hl [0, 1] rfl)
    · replace hD_29 := ine hD_29 c_43
      refine lv_iconst (v := 1) hx hb dX1_fillsWords_171 (by decide) ?_
      refine lv_goto (tgt := 176) hx hb dX1_fillsWords_172 (by decide) ?_
      cases hD_29
      exact hJ _ _ _ hW (lv_sub hl [0, 1] rfl)
theorem w_d_fillsWords (l : Launch) {g : gG} {ad : Nat → Nat} (had : dI_ ad) {σr : cS}  {σ : cS} {v1 : Int32} {v2 : Int32}  (hf : d_fillsWords σ v1 v2 = some σr) : MC l yX1_fillsWords cX1_fillsWords 3 none 5 121 g dIds ad (dE g ad σ) (dE g ad σr) [.ref (ad 999), .int v1, .int v2] none := by
  exact MC.of (by decide) dIds_nd had (Nat.le_of_ble_eq_true rfl) (fun p e s m below meth c A ls X hW hl => wb_d_fillsWords X had hW hl hf)
theorem kd_fillsWords {p : Program} {l : Launch} {e : Env} {R : Room} {s : State} {m : MethodId} {args : Array Value} {below : List Frame} {meth : Method} {c : Code} {H : Heap} {locs : List Loc} {Q : State → Prop} {cc : ByteArray} {nL : Nat} {ret : Option FieldType} {g : gG} {A : Nat → Prop} {ad : Nat → Nat} {pc : Nat} {ls : Array Slot} {rest : List Value} {lv : List (Nat × Value)} {σr : cS}  {σ : cS} {v1 : Int32} {v2 : Int32} (X : MX p s m args meth c cc nL RX1 ret g A) (hW : WB g A s.heap dIds ad (dE g ad σ) H locs) (had : dI_ ad)  (hf : d_fillsWords σ v1 v2 = some σr) (hR : 6 ≤ R.frames ∧ 143 ≤ R.locals) (hl : lv_has ls nL lv) (hcat : (rest.map fun v => v.category).sum ≤ 8) (hdg : decode cc pc = .ok (.invokevirtual 123, 3)) (kk : ∀ (H1 : Heap) (l1 : List Loc), WB g A s.heap dIds ad (dE g ad σr) H1 l1 → W p l e R s m args below meth c H1 l1 0 0 Q (F0 m (pc + 3) ls (rest))) : W p l e R s m args below meth c H locs 0 0 Q (F0 m pc ls (.int v2 :: .int v1 :: .ref (ad 999) :: rest)) :=
  r_callV X hW Sub.all (w_d_fillsWords l had hf) (lw_V q890 q892 qs33 q121 q893) ⟨rfl, by decide, by decide, by decide +kernel⟩ dm_999 (dE_o rfl) rfl (n := 2) hR hl rfl rfl hcat ⟨Nat.zero_le _, Nat.zero_le _⟩ hdg kk
-- creepOf
noncomputable def d_creepOf (σ : cS) (v1 : Int32) (v2 : Int32) (v3 : Option RS) : Option (cS × Int32) :=
  oc v3 (gd (inb v1 10) (((x_held ((((σ.1 17 (ix v1)) / 20) + (σ.1 999 1)) - (σ.1 18 (ix v1))) 3).bind fun r_2 => some (σ, r_2)))) (fun R_v3 => (((d_fillsWords σ v1 v2).bind fun σ_5 => some (σ_5, (rfeet R_v3 (σ_5.2 23))))))
set_option maxHeartbeats 4000000 in
theorem wb_d_creepOf {p : Program} {l : Launch} {e : Env} {s : State} {m : MethodId} {args : Array Value} {below : List Frame} {meth : Method} {c : Code} {g : gG} {A : Nat → Prop} {ad : Nat → Nat} (X : MX p s m args meth c cX1_creepOf 4 RX1 (some .int) g A) (had : dI_ ad) {σr : cS} {r : Int32} {σ : cS} {v1 : Int32} {v2 : Int32} {v3 : Option RS} {q_v3 : Option Nat} (hq_v3 : RL g q_v3 v3) {H : Heap} {locs : List Loc} {ls : Array Slot} (hW : WB g A s.heap dIds ad (dE g ad σ) H locs) (hl : lv_has ls 4 [(0, .ref (ad 999)), (1, .int v1), (2, .int v2), (3, va_rf q_v3)]) (hf : d_creepOf σ v1 v2 v3 = some (σr, r)) : W p l e (rm_ 404 16300) s m args below meth c H locs 0 0 (Qm below g dIds ad (dE g ad σr) (some (.int r)) A args s) (F0 m 0 ls []) := by
  have hx := X.1.1
  have hb := X.1.2.1
  unfold d_creepOf at hf
  refine lv_aload_nq hx hb dX1_creepOf_0 rfl (lv_at hl 3 rfl) ?_
  rcases hq_v3 with ⟨rfl, rfl⟩ | ⟨a_v3, R_v3, rfl, rfl, hR_v3⟩
  · replace hf := oc_n hf
    refine lv_ifnonnullN hx hb dX1_creepOf_1 ?_
    refine lv_aload_n hx hb dX1_creepOf_4 rfl (lv_at hl 0 rfl) ?_
    refine dg_17 X hW dm_999 dX1_creepOf_5 ?_
    refine lv_iload_n hx hb dX1_creepOf_8 rfl (lv_at hl 1 rfl) ?_
    obtain ⟨h_1, hf⟩ := gd_e hf
    refine dl_17 X hW dm_17 h_1 dX1_creepOf_9 ?_
    refine lv_bipush (v := 20) hx hb dX1_creepOf_10 (by decide) ?_
    refine lv_idiv hx hb dX1_creepOf_12 (by decide) ?_
    refine lv_aload_n hx hb dX1_creepOf_13 rfl (lv_at hl 0 rfl) ?_
    refine dg_1 X hW dm_999 dX1_creepOf_14 ?_
    refine lv_iadd hx hb dX1_creepOf_17 ?_
    refine lv_aload_n hx hb dX1_creepOf_18 rfl (lv_at hl 0 rfl) ?_
    refine dg_18 X hW dm_999 dX1_creepOf_19 ?_
    refine lv_iload_n hx hb dX1_creepOf_22 rfl (lv_at hl 1 rfl) ?_
    refine dl_18 X hW dm_18 h_1 dX1_creepOf_23 ?_
    refine lv_isub hx hb dX1_creepOf_24 ?_
    refine lv_iconst (v := 3) hx hb dX1_creepOf_25 (by decide) ?_
    obtain ⟨r_2, h_3, hf⟩ := bd_e hf
    refine kn_held X hW h_3 q883 (by decide) hl (Nat.le_of_ble_eq_true rfl) dX1_creepOf_26 (fun H locs hW => ?_)
    exact d_iret X hW hf dX1_creepOf_29
  · replace hf := oc_s hf
    refine lv_ifnonnull (x := a_v3) (tgt := 30) hx hb dX1_creepOf_1 (by decide) ?_
    refine lv_aload_n hx hb dX1_creepOf_30 rfl (lv_at hl 0 rfl) ?_
    refine lv_iload_n hx hb dX1_creepOf_31 rfl (lv_at hl 1 rfl) ?_
    refine lv_iload_n hx hb dX1_creepOf_32 rfl (lv_at hl 2 rfl) ?_
    obtain ⟨σ_5, h_4, hf⟩ := bd_e hf
    refine kd_fillsWords X hW had h_4 (by decide) hl (Nat.le_of_ble_eq_true rfl) dX1_creepOf_33 (fun H locs hW => ?_)
    refine lv_aload_n hx hb dX1_creepOf_36 rfl (lv_at hl 3 rfl) ?_
    refine lv_aload_n hx hb dX1_creepOf_37 rfl (lv_at hl 0 rfl) ?_
    refine dg_23 X hW dm_999 dX1_creepOf_38 ?_
    refine k_feet X hW hR_v3 dm_23 rfl q899 (by decide) hl (Nat.le_of_ble_eq_true rfl) dX1_creepOf_41 (fun H locs hW => ?_)
    exact d_iret X hW hf dX1_creepOf_44
theorem w_d_creepOf (l : Launch) {g : gG} {ad : Nat → Nat} (had : dI_ ad) {σr : cS} {r : Int32} {σ : cS} {v1 : Int32} {v2 : Int32} {v3 : Option RS} {q_v3 : Option Nat} (hq_v3 : RL g q_v3 v3) (hf : d_creepOf σ v1 v2 v3 = some (σr, r)) : MC l yX1_creepOf cX1_creepOf 4 (some .int) 404 16300 g dIds ad (dE g ad σ) (dE g ad σr) [.ref (ad 999), .int v1, .int v2, va_rf q_v3] (some (.int r)) := by
  refine MC.of (by decide) dIds_nd had (by cases q_v3 <;> exact Nat.le_of_ble_eq_true rfl) (fun p e s m below meth c A ls X hW hl => wb_d_creepOf X had hq_v3 hW (by cases q_v3 <;> exact hl) hf)
theorem kd_creepOf {p : Program} {l : Launch} {e : Env} {R : Room} {s : State} {m : MethodId} {args : Array Value} {below : List Frame} {meth : Method} {c : Code} {H : Heap} {locs : List Loc} {Q : State → Prop} {cc : ByteArray} {nL : Nat} {ret : Option FieldType} {g : gG} {A : Nat → Prop} {ad : Nat → Nat} {pc : Nat} {ls : Array Slot} {rest : List Value} {lv : List (Nat × Value)} {σr : cS} {r : Int32} {σ : cS} {v1 : Int32} {v2 : Int32} {v3 : Option RS} (X : MX p s m args meth c cc nL RX1 ret g A) (hW : WB g A s.heap dIds ad (dE g ad σ) H locs) (had : dI_ ad) {q_v3 : Option Nat} (hq_v3 : RL g q_v3 v3) (hf : d_creepOf σ v1 v2 v3 = some (σr, r)) (hR : 405 ≤ R.frames ∧ 16323 ≤ R.locals) (hl : lv_has ls nL lv) (hcat : (rest.map fun v => v.category).sum ≤ 8) (hdg : decode cc pc = .ok (.invokevirtual 143, 3)) (kk : ∀ (H1 : Heap) (l1 : List Loc), WB g A s.heap dIds ad (dE g ad σr) H1 l1 → W p l e R s m args below meth c H1 l1 0 0 Q (F0 m (pc + 3) ls (.int r :: rest))) : W p l e R s m args below meth c H locs 0 0 Q (F0 m pc ls (va_rf q_v3 :: .int v2 :: .int v1 :: .ref (ad 999) :: rest)) :=
  r_callV X hW Sub.all (w_d_creepOf l had hq_v3 hf) (lw_V q879 q881 qs32 q121 q882) ⟨rfl, by decide, by decide, by decide +kernel⟩ dm_999 (dE_o rfl) rfl (n := 3) hR hl rfl rfl hcat ⟨Nat.zero_le _, Nat.zero_le _⟩ hdg kk
-- sags
noncomputable def d_sags (σ : cS) (v1 : Int32) : Option (cS) :=
  gd (inb (v1 + 1) 10) (gd (inb v1 10) (if 4 < (jabs ((σ.1 16 (ix (v1 + 1))) - (σ.1 16 (ix v1)))) then (((if ((σ.1 16 (ix (v1 + 1))) - (σ.1 16 (ix v1))) ≤ 0 then (some ((-1))) else (some (1)) : Option (Int32)).bind fun t_4 => (((d_isBaked σ v1).bind fun r_7 => ((if r_7 = 0 then (some ((si σ 16 (ix v1) ((σ.1 16 (ix v1)) + t_4)))) else (some (σ)) : Option (cS)).bind fun σ_8 => (((d_isBaked σ_8 (v1 + 1)).bind fun r_11 => if r_11 = 0 then (some (si σ_8 16 (ix (v1 + 1)) ((σ_8.1 16 (ix (v1 + 1))) - t_4))) else (some σ_8)))))))) else (some σ)))
set_option maxHeartbeats 4000000 in
theorem wb_d_sags {p : Program} {l : Launch} {e : Env} {s : State} {m : MethodId} {args : Array Value} {below : List Frame} {meth : Method} {c : Code} {g : gG} {A : Nat → Prop} {ad : Nat → Nat} (X : MX p s m args meth c cX1_sags 4 RX1 none g A) (had : dI_ ad) {σr : cS}  {σ : cS} {v1 : Int32}  {H : Heap} {locs : List Loc} {ls : Array Slot} (hW : WB g A s.heap dIds ad (dE g ad σ) H locs) (hl : lv_has ls 4 [(0, .ref (ad 999)), (1, .int v1)]) (hf : d_sags σ v1 = some σr) : W p l e (rm_ 5 121) s m args below meth c H locs 0 0 (Qm below g dIds ad (dE g ad σr) none A args s) (F0 m 0 ls []) := by
  have hx := X.1.1
  have hb := X.1.2.1
  unfold d_sags at hf
  refine lv_aload_n hx hb dX1_sags_0 rfl (lv_at hl 0 rfl) ?_
  refine dg_16 X hW dm_999 dX1_sags_1 ?_
  refine lv_iload_n hx hb dX1_sags_4 rfl (lv_at hl 1 rfl) ?_
  refine lv_iconst (v := 1) hx hb dX1_sags_5 (by decide) ?_
  refine lv_iadd hx hb dX1_sags_6 ?_
  obtain ⟨h_1, hf⟩ := gd_e hf
  refine dl_16 X hW dm_16 h_1 dX1_sags_7 ?_
  refine lv_aload_n hx hb dX1_sags_8 rfl (lv_at hl 0 rfl) ?_
  refine dg_16 X hW dm_999 dX1_sags_9 ?_
  refine lv_iload_n hx hb dX1_sags_12 rfl (lv_at hl 1 rfl) ?_
  obtain ⟨h_2, hf⟩ := gd_e hf
  refine dl_16 X hW dm_16 h_2 dX1_sags_13 ?_
  refine lv_isub hx hb dX1_sags_14 ?_
  refine lv_istore_n (lv' := [(2, .int ((σ.1 16 (ix (v1 + 1))) - (σ.1 16 (ix v1)))), (0, .ref (ad 999)), (1, .int v1)]) hx hb dX1_sags_15 rfl hl (by decide) rfl (fun ls hl => ?_)
  refine lv_iload_n hx hb dX1_sags_16 rfl (lv_at hl 0 rfl) ?_
  refine r_abs X hl q947 (by decide) (Nat.le_of_ble_eq_true rfl) dX1_sags_17 ?_
  refine lv_iconst (v := 4) hx hb dX1_sags_20 (by decide) ?_
  refine lv_icmp_gt (tgt := 25) hx hb dX1_sags_21 (by decide) (fun c_3 => ?_) (fun c_3 => ?_)
  · replace hf := ip hf c_3
    refine lv_iload_n hx hb dX1_sags_25 rfl (lv_at hl 0 rfl) ?_
    obtain ⟨t_4, hD_5, hf⟩ := bd_e hf
    have hJ : ∀ (H : Heap) (locs : List Loc) (ls : Array Slot), WB g A s.heap dIds ad (dE g ad σ) H locs → lv_has ls 4 [(0, .ref (ad 999)), (1, .int v1)] → W p l e (rm_ 5 121) s m args below meth c H locs 0 0 (Qm below g dIds ad (dE g ad σr) none A args s) (F0 m 34 ls [.int t_4]) := by
      intro H locs ls hW hl
      refine lv_istore_n (lv' := [(3, .int t_4), (0, .ref (ad 999)), (1, .int v1)]) hx hb dX1_sags_34 rfl hl (by decide) rfl (fun ls hl => ?_)
      refine lv_aload_n hx hb dX1_sags_35 rfl (lv_at hl 1 rfl) ?_
      refine lv_iload_n hx hb dX1_sags_36 rfl (lv_at hl 2 rfl) ?_
      obtain ⟨r_7, h_6, hf⟩ := bd_e hf
      refine kd_isBaked X hW had h_6 (by decide) hl (Nat.le_of_ble_eq_true rfl) dX1_sags_37 (fun H locs hW => ?_)
      obtain ⟨σ_8, hD_9, hf⟩ := bd_e hf
      have hJ : ∀ (H : Heap) (locs : List Loc) (ls : Array Slot), WB g A s.heap dIds ad (dE g ad σ_8) H locs → lv_has ls 4 [(0, .ref (ad 999)), (1, .int v1), (3, .int t_4)] → W p l e (rm_ 5 121) s m args below meth c H locs 0 0 (Qm below g dIds ad (dE g ad σr) none A args s) (F0 m 53 ls []) := by
        intro H locs ls hW hl
        refine lv_aload_n hx hb dX1_sags_53 rfl (lv_at hl 0 rfl) ?_
        refine lv_iload_n hx hb dX1_sags_54 rfl (lv_at hl 1 rfl) ?_
        refine lv_iconst (v := 1) hx hb dX1_sags_55 (by decide) ?_
        refine lv_iadd hx hb dX1_sags_56 ?_
        obtain ⟨r_11, h_10, hf⟩ := bd_e hf
        refine kd_isBaked X hW had h_10 (by decide) hl (Nat.le_of_ble_eq_true rfl) dX1_sags_57 (fun H locs hW => ?_)
        refine lv_if_ne (tgt := 75) hx hb dX1_sags_60 (by decide) (fun c_12 => ?_) (fun c_12 => ?_)
        · replace hf := ine hf c_12
          exact d_vret X hW hf dX1_sags_75
        · replace hf := ip hf c_12
          refine lv_aload_n hx hb dX1_sags_63 rfl (lv_at hl 0 rfl) ?_
          refine dg_16 X hW dm_999 dX1_sags_64 ?_
          refine lv_iload_n hx hb dX1_sags_67 rfl (lv_at hl 1 rfl) ?_
          refine lv_iconst (v := 1) hx hb dX1_sags_68 (by decide) ?_
          refine lv_iadd hx hb dX1_sags_69 ?_
          refine lv_dup2_11 hx hb dX1_sags_70 rfl rfl ?_
          refine dl_16 X hW dm_16 h_1 dX1_sags_71 ?_
          refine lv_iload_n hx hb dX1_sags_72 rfl (lv_at hl 2 rfl) ?_
          refine lv_isub hx hb dX1_sags_73 ?_
          refine ds_16 X hW dm_16 h_1 dX1_sags_74 (fun H locs hW => ?_)
          exact d_vret X hW hf dX1_sags_75
      clear hf
      refine lv_if_ne (tgt := 53) hx hb dX1_sags_40 (by decide) (fun c_13 => ?_) (fun c_13 => ?_)
      · replace hD_9 := ine hD_9 c_13
        cases hD_9
        exact hJ _ _ _ hW (lv_sub hl [1, 2, 0] rfl)
      · replace hD_9 := ip hD_9 c_13
        refine lv_aload_n hx hb dX1_sags_43 rfl (lv_at hl 1 rfl) ?_
        refine dg_16 X hW dm_999 dX1_sags_44 ?_
        refine lv_iload_n hx hb dX1_sags_47 rfl (lv_at hl 2 rfl) ?_
        refine lv_dup2_11 hx hb dX1_sags_48 rfl rfl ?_
        refine dl_16 X hW dm_16 h_2 dX1_sags_49 ?_
        refine lv_iload_n hx hb dX1_sags_50 rfl (lv_at hl 0 rfl) ?_
        refine lv_iadd hx hb dX1_sags_51 ?_
        refine ds_16 X hW dm_16 h_2 dX1_sags_52 (fun H locs hW => ?_)
        cases hD_9
        exact hJ _ _ _ hW (lv_sub hl [1, 2, 0] rfl)
    clear hf
    refine lv_if_le (tgt := 33) hx hb dX1_sags_26 (by decide) (fun c_14 => ?_) (fun c_14 => ?_)
    · replace hD_5 := ip hD_5 c_14
      refine lv_iconst (v := (-1)) hx hb dX1_sags_33 (by decide) ?_
      cases hD_5
      exact hJ _ _ _ hW (lv_sub hl [1, 2] rfl)
    · replace hD_5 := ine hD_5 c_14
      refine lv_iconst (v := 1) hx hb dX1_sags_29 (by decide) ?_
      refine lv_goto (tgt := 34) hx hb dX1_sags_30 (by decide) ?_
      cases hD_5
      exact hJ _ _ _ hW (lv_sub hl [1, 2] rfl)
  · replace hf := ine hf c_3
    exact d_vret X hW hf dX1_sags_24
theorem w_d_sags (l : Launch) {g : gG} {ad : Nat → Nat} (had : dI_ ad) {σr : cS}  {σ : cS} {v1 : Int32}  (hf : d_sags σ v1 = some σr) : MC l yX1_sags cX1_sags 4 none 5 121 g dIds ad (dE g ad σ) (dE g ad σr) [.ref (ad 999), .int v1] none := by
  exact MC.of (by decide) dIds_nd had (Nat.le_of_ble_eq_true rfl) (fun p e s m below meth c A ls X hW hl => wb_d_sags X had hW hl hf)
theorem kd_sags {p : Program} {l : Launch} {e : Env} {R : Room} {s : State} {m : MethodId} {args : Array Value} {below : List Frame} {meth : Method} {c : Code} {H : Heap} {locs : List Loc} {Q : State → Prop} {cc : ByteArray} {nL : Nat} {ret : Option FieldType} {g : gG} {A : Nat → Prop} {ad : Nat → Nat} {pc : Nat} {ls : Array Slot} {rest : List Value} {lv : List (Nat × Value)} {σr : cS}  {σ : cS} {v1 : Int32} (X : MX p s m args meth c cc nL RX1 ret g A) (hW : WB g A s.heap dIds ad (dE g ad σ) H locs) (had : dI_ ad)  (hf : d_sags σ v1 = some σr) (hR : 6 ≤ R.frames ∧ 144 ≤ R.locals) (hl : lv_has ls nL lv) (hcat : (rest.map fun v => v.category).sum ≤ 8) (hdg : decode cc pc = .ok (.invokevirtual 147, 3)) (kk : ∀ (H1 : Heap) (l1 : List Loc), WB g A s.heap dIds ad (dE g ad σr) H1 l1 → W p l e R s m args below meth c H1 l1 0 0 Q (F0 m (pc + 3) ls (rest))) : W p l e R s m args below meth c H locs 0 0 Q (F0 m pc ls (.int v1 :: .ref (ad 999) :: rest)) :=
  r_callV X hW Sub.all (w_d_sags l had hf) (lw_V q943 q945 qs34 q121 q946) ⟨rfl, by decide, by decide, by decide +kernel⟩ dm_999 (dE_o rfl) rfl (n := 1) hR hl rfl rfl hcat ⟨Nat.zero_le _, Nat.zero_le _⟩ hdg kk
-- countsCrossed
noncomputable def d_countsCrossed_4 {ρ : Type}  (K : cS → Int32 → Option ρ) : Nat → cS → Int32 → Int32 → Option ρ
  | 0, _, _, _ => none
  | n + 1, σ, v1, v2 => if (σ.1 999 2) ≤ v2 then (K σ v1) else (((d_sideOf σ v2).bind fun r_3 => gd (inb v2 8) (if r_3 = (σ.1 22 (ix v2)) then (d_countsCrossed_4 K n σ v1 (v2 + 1)) else (d_countsCrossed_4 K n (si σ 19 (ix v2) ((σ.1 19 (ix v2)) + 1)) (v1 + 1) (v2 + 1)))))
set_option maxHeartbeats 4000000 in
theorem wd_countsCrossed_4 {p : Program} {l : Launch} {e : Env} {s : State} {m : MethodId} {args : Array Value} {below : List Frame} {meth : Method} {c : Code} {g : gG} {A : Nat → Prop} {ad : Nat → Nat} (X : MX p s m args meth c cX1_countsCrossed 3 RX1 (some .int) g A) (had : dI_ ad) {ρ : Type} {res : ρ} {Q : State → Prop}   {K : cS → Int32 → Option ρ}
    (hK : ∀ (σ : cS) (k1 : Int32) (H : Heap) (locs : List Loc) (ls : Array Slot), WB g A s.heap dIds ad (dE g ad σ) H locs → lv_has ls 3 [(1, .int k1)] → K σ k1 = some res → W p l e (rm_ 3 81) s m args below meth c H locs 0 0 Q (F0 m 48 ls [])) :
    ∀ (n : Nat) (σ : cS) (v1 : Int32) (v2 : Int32) (H : Heap) (locs : List Loc) (ls : Array Slot), WB g A s.heap dIds ad (dE g ad σ) H locs → lv_has ls 3 [(0, .ref (ad 999)), (1, .int v1), (2, .int v2)] → d_countsCrossed_4 K n σ v1 v2 = some res → W p l e (rm_ 3 81) s m args below meth c H locs 0 0 Q (F0 m 4 ls []) := by
  have hx := X.1.1
  have hb := X.1.2.1
  intro n
  induction n with
  | zero =>
    intro σ v1 v2 H locs ls hW hl hf
    rw [d_countsCrossed_4] at hf
    cases hf
  | succ n ih =>
    intro σ v1 v2 H locs ls hW hl hf
    rw [d_countsCrossed_4] at hf
    refine lv_iload_n hx hb dX1_countsCrossed_4 rfl (lv_at hl 2 rfl) ?_
    refine lv_aload_n hx hb dX1_countsCrossed_5 rfl (lv_at hl 0 rfl) ?_
    refine dg_2 X hW dm_999 dX1_countsCrossed_6 ?_
    refine lv_icmp_ge (tgt := 48) hx hb dX1_countsCrossed_9 (by decide) (fun c_1 => ?_) (fun c_1 => ?_)
    · replace hf := ip hf c_1
      exact hK _ _ _ _ _ hW (lv_sub hl [1] rfl) hf
    · replace hf := ine hf c_1
      refine lv_aload_n hx hb dX1_countsCrossed_12 rfl (lv_at hl 0 rfl) ?_
      refine lv_iload_n hx hb dX1_countsCrossed_13 rfl (lv_at hl 2 rfl) ?_
      obtain ⟨r_3, h_2, hf⟩ := bd_e hf
      refine kd_sideOf X hW had h_2 (by decide) hl (Nat.le_of_ble_eq_true rfl) dX1_countsCrossed_14 (fun H locs hW => ?_)
      refine lv_aload_n hx hb dX1_countsCrossed_17 rfl (lv_at hl 0 rfl) ?_
      refine dg_22 X hW dm_999 dX1_countsCrossed_18 ?_
      refine lv_iload_n hx hb dX1_countsCrossed_21 rfl (lv_at hl 2 rfl) ?_
      obtain ⟨h_4, hf⟩ := gd_e hf
      refine dl_22 X hW dm_22 h_4 dX1_countsCrossed_22 ?_
      refine lv_icmp_ne (tgt := 29) hx hb dX1_countsCrossed_23 (by decide) (fun c_5 => ?_) (fun c_5 => ?_)
      · replace hf := ine hf c_5
        refine lv_aload_n hx hb dX1_countsCrossed_29 rfl (lv_at hl 0 rfl) ?_
        refine dg_19 X hW dm_999 dX1_countsCrossed_30 ?_
        refine lv_iload_n hx hb dX1_countsCrossed_33 rfl (lv_at hl 2 rfl) ?_
        refine lv_dup2_11 hx hb dX1_countsCrossed_34 rfl rfl ?_
        refine dl_19 X hW dm_19 h_4 dX1_countsCrossed_35 ?_
        refine lv_iconst (v := 1) hx hb dX1_countsCrossed_36 (by decide) ?_
        refine lv_iadd hx hb dX1_countsCrossed_37 ?_
        refine ds_19 X hW dm_19 h_4 dX1_countsCrossed_38 (fun H locs hW => ?_)
        refine lv_iinc (v := (v1 + 1)) (lv' := [(1, .int (v1 + 1)), (0, .ref (ad 999)), (2, .int v2)]) hx hb dX1_countsCrossed_39 hl (k := 1) rfl (ii_v _ _ _ (by decide)) (by decide) rfl (fun ls hl => ?_)
        refine lv_iinc (v := (v2 + 1)) (lv' := [(2, .int (v2 + 1)), (1, .int (v1 + 1)), (0, .ref (ad 999))]) hx hb dX1_countsCrossed_42 hl (k := 2) rfl (ii_v _ _ _ (by decide)) (by decide) rfl (fun ls hl => ?_)
        refine lv_goto (tgt := 4) hx hb dX1_countsCrossed_45 (by decide) ?_
        exact ih _ _ _ _ _ _ hW (lv_sub hl [2, 1, 0] rfl) hf
      · replace hf := ip hf c_5
        refine lv_goto (tgt := 42) hx hb dX1_countsCrossed_26 (by decide) ?_
        refine lv_iinc (v := (v2 + 1)) (lv' := [(2, .int (v2 + 1)), (0, .ref (ad 999)), (1, .int v1)]) hx hb dX1_countsCrossed_42 hl (k := 2) rfl (ii_v _ _ _ (by decide)) (by decide) rfl (fun ls hl => ?_)
        refine lv_goto (tgt := 4) hx hb dX1_countsCrossed_45 (by decide) ?_
        exact ih _ _ _ _ _ _ hW (lv_sub hl [1, 2, 0] rfl) hf
noncomputable def d_countsCrossed (σ : cS) : Option (cS × Int32) :=
  d_countsCrossed_4  (fun σ_6 v_7 => (some (σ_6, v_7))) FU σ 0 0
set_option maxHeartbeats 4000000 in
theorem wb_d_countsCrossed {p : Program} {l : Launch} {e : Env} {s : State} {m : MethodId} {args : Array Value} {below : List Frame} {meth : Method} {c : Code} {g : gG} {A : Nat → Prop} {ad : Nat → Nat} (X : MX p s m args meth c cX1_countsCrossed 3 RX1 (some .int) g A) (had : dI_ ad) {σr : cS} {r : Int32} {σ : cS}  {H : Heap} {locs : List Loc} {ls : Array Slot} (hW : WB g A s.heap dIds ad (dE g ad σ) H locs) (hl : lv_has ls 3 [(0, .ref (ad 999))]) (hf : d_countsCrossed σ = some (σr, r)) : W p l e (rm_ 3 81) s m args below meth c H locs 0 0 (Qm below g dIds ad (dE g ad σr) (some (.int r)) A args s) (F0 m 0 ls []) := by
  have hx := X.1.1
  have hb := X.1.2.1
  unfold d_countsCrossed at hf
  refine lv_iconst (v := 0) hx hb dX1_countsCrossed_0 (by decide) ?_
  refine lv_istore_n (lv' := [(1, .int 0), (0, .ref (ad 999))]) hx hb dX1_countsCrossed_1 rfl hl (by decide) rfl (fun ls hl => ?_)
  refine lv_iconst (v := 0) hx hb dX1_countsCrossed_2 (by decide) ?_
  refine lv_istore_n (lv' := [(2, .int 0), (1, .int 0), (0, .ref (ad 999))]) hx hb dX1_countsCrossed_3 rfl hl (by decide) rfl (fun ls hl => ?_)
  refine wd_countsCrossed_4 X had (fun σ_6 v_7 H locs ls hW hl hf => ?_) _ _ _ _ _ _ _ hW (lv_sub hl [2, 1, 0] rfl) hf
  refine lv_iload_n hx hb dX1_countsCrossed_48 rfl (lv_at hl 0 rfl) ?_
  exact d_iret X hW hf dX1_countsCrossed_49
theorem w_d_countsCrossed (l : Launch) {g : gG} {ad : Nat → Nat} (had : dI_ ad) {σr : cS} {r : Int32} {σ : cS}  (hf : d_countsCrossed σ = some (σr, r)) : MC l yX1_countsCrossed cX1_countsCrossed 3 (some .int) 3 81 g dIds ad (dE g ad σ) (dE g ad σr) [.ref (ad 999)] (some (.int r)) := by
  exact MC.of (by decide) dIds_nd had (Nat.le_of_ble_eq_true rfl) (fun p e s m below meth c A ls X hW hl => wb_d_countsCrossed X had hW hl hf)
theorem kd_countsCrossed {p : Program} {l : Launch} {e : Env} {R : Room} {s : State} {m : MethodId} {args : Array Value} {below : List Frame} {meth : Method} {c : Code} {H : Heap} {locs : List Loc} {Q : State → Prop} {cc : ByteArray} {nL : Nat} {ret : Option FieldType} {g : gG} {A : Nat → Prop} {ad : Nat → Nat} {pc : Nat} {ls : Array Slot} {rest : List Value} {lv : List (Nat × Value)} {σr : cS} {r : Int32} {σ : cS} (X : MX p s m args meth c cc nL RX1 ret g A) (hW : WB g A s.heap dIds ad (dE g ad σ) H locs) (had : dI_ ad)  (hf : d_countsCrossed σ = some (σr, r)) (hR : 4 ≤ R.frames ∧ 103 ≤ R.locals) (hl : lv_has ls nL lv) (hcat : (rest.map fun v => v.category).sum ≤ 8) (hdg : decode cc pc = .ok (.invokevirtual 136, 3)) (kk : ∀ (H1 : Heap) (l1 : List Loc), WB g A s.heap dIds ad (dE g ad σr) H1 l1 → W p l e R s m args below meth c H1 l1 0 0 Q (F0 m (pc + 3) ls (.int r :: rest))) : W p l e R s m args below meth c H locs 0 0 Q (F0 m pc ls (.ref (ad 999) :: rest)) :=
  r_callV X hW Sub.all (w_d_countsCrossed l had hf) (lw_V q950 q951 q952 q121 q953) ⟨rfl, by decide, by decide, by decide +kernel⟩ dm_999 (dE_o rfl) rfl (n := 0) hR hl rfl rfl hcat ⟨Nat.zero_le _, Nat.zero_le _⟩ hdg kk
-- passes
noncomputable def d_passes_6 {ρ : Type} (v1 : Int32) (v2 : Option RS) (K : cS → Option ρ) : Nat → cS → Int32 → Option ρ
  | 0, _, _ => none
  | n + 1, σ, v3 => if (σ.1 999 0) ≤ v3 then (K σ) else (((d_isBaked σ v3).bind fun r_5 => if r_5 = 0 then (gd (inb v3 10) (d_passes_6 v1 v2 K n (si σ 17 (ix v3) (jmin 99 ((σ.1 17 (ix v3)) + v1))) (v3 + 1))) else (d_passes_6 v1 v2 K n σ (v3 + 1))))
set_option maxHeartbeats 4000000 in
theorem wd_passes_6 {p : Program} {l : Launch} {e : Env} {s : State} {m : MethodId} {args : Array Value} {below : List Frame} {meth : Method} {c : Code} {g : gG} {A : Nat → Prop} {ad : Nat → Nat} (X : MX p s m args meth c cX1_passes 4 RX1 (some .int) g A) (had : dI_ ad) {ρ : Type} {res : ρ} {Q : State → Prop} {v1 : Int32} {v2 : Option RS} {q_v2 : Option Nat} (hq_v2 : RL g q_v2 v2) {K : cS → Option ρ}
    (hK : ∀ (σ : cS) (H : Heap) (locs : List Loc) (ls : Array Slot), WB g A s.heap dIds ad (dE g ad σ) H locs → lv_has ls 4 [(0, .ref (ad 999)), (1, .int v1), (2, va_rf q_v2)] → K σ = some res → W p l e (rm_ 405 16323) s m args below meth c H locs 0 0 Q (F0 m 47 ls [])) :
    ∀ (n : Nat) (σ : cS) (v3 : Int32) (H : Heap) (locs : List Loc) (ls : Array Slot), WB g A s.heap dIds ad (dE g ad σ) H locs → lv_has ls 4 [(0, .ref (ad 999)), (1, .int v1), (2, va_rf q_v2), (3, .int v3)] → d_passes_6 v1 v2 K n σ v3 = some res → W p l e (rm_ 405 16323) s m args below meth c H locs 0 0 Q (F0 m 6 ls []) := by
  have hx := X.1.1
  have hb := X.1.2.1
  intro n
  induction n with
  | zero =>
    intro σ v3 H locs ls hW hl hf
    rw [d_passes_6] at hf
    cases hf
  | succ n ih =>
    intro σ v3 H locs ls hW hl hf
    rw [d_passes_6] at hf
    refine lv_iload_n hx hb dX1_passes_6 rfl (lv_at hl 3 rfl) ?_
    refine lv_aload_n hx hb dX1_passes_7 rfl (lv_at hl 0 rfl) ?_
    refine dg_0 X hW dm_999 dX1_passes_8 ?_
    refine lv_icmp_ge (tgt := 47) hx hb dX1_passes_11 (by decide) (fun c_3 => ?_) (fun c_3 => ?_)
    · replace hf := ip hf c_3
      exact hK _ _ _ _ hW (lv_sub hl [0, 1, 2] rfl) hf
    · replace hf := ine hf c_3
      refine lv_aload_n hx hb dX1_passes_14 rfl (lv_at hl 0 rfl) ?_
      refine lv_iload_n hx hb dX1_passes_15 rfl (lv_at hl 3 rfl) ?_
      obtain ⟨r_5, h_4, hf⟩ := bd_e hf
      refine kd_isBaked X hW had h_4 (by decide) hl (Nat.le_of_ble_eq_true rfl) dX1_passes_16 (fun H locs hW => ?_)
      refine lv_if_ne (tgt := 41) hx hb dX1_passes_19 (by decide) (fun c_6 => ?_) (fun c_6 => ?_)
      · replace hf := ine hf c_6
        refine lv_iinc (v := (v3 + 1)) (lv' := [(3, .int (v3 + 1)), (0, .ref (ad 999)), (1, .int v1), (2, va_rf q_v2)]) hx hb dX1_passes_41 hl (k := 3) rfl (ii_v _ _ _ (by decide)) (by decide) (by cases q_v2 <;> rfl) (fun ls hl => ?_)
        refine lv_goto (tgt := 6) hx hb dX1_passes_44 (by decide) ?_
        exact ih _ _ _ _ _ hW (lv_sub hl [1, 2, 3, 0] rfl) hf
      · replace hf := ip hf c_6
        refine lv_aload_n hx hb dX1_passes_22 rfl (lv_at hl 0 rfl) ?_
        refine dg_17 X hW dm_999 dX1_passes_23 ?_
        refine lv_iload_n hx hb dX1_passes_26 rfl (lv_at hl 3 rfl) ?_
        refine lv_bipush (v := 99) hx hb dX1_passes_27 (by decide) ?_
        refine lv_aload_n hx hb dX1_passes_29 rfl (lv_at hl 0 rfl) ?_
        refine dg_17 X hW dm_999 dX1_passes_30 ?_
        refine lv_iload_n hx hb dX1_passes_33 rfl (lv_at hl 3 rfl) ?_
        obtain ⟨h_7, hf⟩ := gd_e hf
        refine dl_17 X hW dm_17 h_7 dX1_passes_34 ?_
        refine lv_iload_n hx hb dX1_passes_35 rfl (lv_at hl 1 rfl) ?_
        refine lv_iadd hx hb dX1_passes_36 ?_
        refine r_min X hl q876 (by decide) (Nat.le_of_ble_eq_true rfl) dX1_passes_37 ?_
        refine ds_17 X hW dm_17 h_7 dX1_passes_40 (fun H locs hW => ?_)
        refine lv_iinc (v := (v3 + 1)) (lv' := [(3, .int (v3 + 1)), (0, .ref (ad 999)), (1, .int v1), (2, va_rf q_v2)]) hx hb dX1_passes_41 hl (k := 3) rfl (ii_v _ _ _ (by decide)) (by decide) (by cases q_v2 <;> rfl) (fun ls hl => ?_)
        refine lv_goto (tgt := 6) hx hb dX1_passes_44 (by decide) ?_
        exact ih _ _ _ _ _ hW (lv_sub hl [1, 2, 3, 0] rfl) hf
noncomputable def d_passes_49 {ρ : Type} (v1 : Int32) (v2 : Option RS) (K : cS → Option ρ) : Nat → cS → Int32 → Option ρ
  | 0, _, _ => none
  | n + 1, σ, v3 => if (σ.1 999 0) ≤ v3 then (K σ) else (((d_isBaked σ v3).bind fun r_11 => if r_11 = 0 then (((d_creepOf σ v3 v1 v2).bind fun (σ_15, r_14) => gd (inb v3 10) (d_passes_49 v1 v2 K n (si σ_15 21 (ix v3) r_14) (v3 + 1)))) else (gd (inb v3 10) (d_passes_49 v1 v2 K n (si σ 21 (ix v3) 0) (v3 + 1)))))
set_option maxHeartbeats 4000000 in
theorem wd_passes_49 {p : Program} {l : Launch} {e : Env} {s : State} {m : MethodId} {args : Array Value} {below : List Frame} {meth : Method} {c : Code} {g : gG} {A : Nat → Prop} {ad : Nat → Nat} (X : MX p s m args meth c cX1_passes 4 RX1 (some .int) g A) (had : dI_ ad) {ρ : Type} {res : ρ} {Q : State → Prop} {v1 : Int32} {v2 : Option RS} {q_v2 : Option Nat} (hq_v2 : RL g q_v2 v2) {K : cS → Option ρ}
    (hK : ∀ (σ : cS) (H : Heap) (locs : List Loc) (ls : Array Slot), WB g A s.heap dIds ad (dE g ad σ) H locs → lv_has ls 4 [(0, .ref (ad 999))] → K σ = some res → W p l e (rm_ 405 16323) s m args below meth c H locs 0 0 Q (F0 m 88 ls [])) :
    ∀ (n : Nat) (σ : cS) (v3 : Int32) (H : Heap) (locs : List Loc) (ls : Array Slot), WB g A s.heap dIds ad (dE g ad σ) H locs → lv_has ls 4 [(0, .ref (ad 999)), (1, .int v1), (2, va_rf q_v2), (3, .int v3)] → d_passes_49 v1 v2 K n σ v3 = some res → W p l e (rm_ 405 16323) s m args below meth c H locs 0 0 Q (F0 m 49 ls []) := by
  have hx := X.1.1
  have hb := X.1.2.1
  intro n
  induction n with
  | zero =>
    intro σ v3 H locs ls hW hl hf
    rw [d_passes_49] at hf
    cases hf
  | succ n ih =>
    intro σ v3 H locs ls hW hl hf
    rw [d_passes_49] at hf
    refine lv_iload_n hx hb dX1_passes_49 rfl (lv_at hl 3 rfl) ?_
    refine lv_aload_n hx hb dX1_passes_50 rfl (lv_at hl 0 rfl) ?_
    refine dg_0 X hW dm_999 dX1_passes_51 ?_
    refine lv_icmp_ge (tgt := 88) hx hb dX1_passes_54 (by decide) (fun c_9 => ?_) (fun c_9 => ?_)
    · replace hf := ip hf c_9
      exact hK _ _ _ _ hW (lv_sub hl [0] rfl) hf
    · replace hf := ine hf c_9
      refine lv_aload_n hx hb dX1_passes_57 rfl (lv_at hl 0 rfl) ?_
      refine dg_21 X hW dm_999 dX1_passes_58 ?_
      refine lv_iload_n hx hb dX1_passes_61 rfl (lv_at hl 3 rfl) ?_
      refine lv_aload_n hx hb dX1_passes_62 rfl (lv_at hl 0 rfl) ?_
      refine lv_iload_n hx hb dX1_passes_63 rfl (lv_at hl 3 rfl) ?_
      obtain ⟨r_11, h_10, hf⟩ := bd_e hf
      refine kd_isBaked X hW had h_10 (by decide) hl (Nat.le_of_ble_eq_true rfl) dX1_passes_64 (fun H locs hW => ?_)
      refine lv_if_eq (tgt := 74) hx hb dX1_passes_67 (by decide) (fun c_12 => ?_) (fun c_12 => ?_)
      · replace hf := ip hf c_12
        refine lv_aload_n hx hb dX1_passes_74 rfl (lv_at hl 0 rfl) ?_
        refine lv_iload_n hx hb dX1_passes_75 rfl (lv_at hl 3 rfl) ?_
        refine lv_iload_n hx hb dX1_passes_76 rfl (lv_at hl 1 rfl) ?_
        refine lv_aload_nq hx hb dX1_passes_77 rfl (lv_at hl 2 rfl) ?_
        obtain ⟨⟨σ_15, r_14⟩, h_13, hf⟩ := bd_e hf
        refine kd_creepOf X hW had hq_v2 h_13 (by decide) hl (Nat.le_of_ble_eq_true rfl) dX1_passes_78 (fun H locs hW => ?_)
        obtain ⟨h_16, hf⟩ := gd_e hf
        refine ds_21 X hW dm_21 h_16 dX1_passes_81 (fun H locs hW => ?_)
        refine lv_iinc (v := (v3 + 1)) (lv' := [(3, .int (v3 + 1)), (0, .ref (ad 999)), (1, .int v1), (2, va_rf q_v2)]) hx hb dX1_passes_82 hl (k := 3) rfl (ii_v _ _ _ (by decide)) (by decide) (by cases q_v2 <;> rfl) (fun ls hl => ?_)
        refine lv_goto (tgt := 49) hx hb dX1_passes_85 (by decide) ?_
        exact ih _ _ _ _ _ hW (lv_sub hl [1, 2, 3, 0] rfl) hf
      · replace hf := ine hf c_12
        refine lv_iconst (v := 0) hx hb dX1_passes_70 (by decide) ?_
        refine lv_goto (tgt := 81) hx hb dX1_passes_71 (by decide) ?_
        obtain ⟨h_17, hf⟩ := gd_e hf
        refine ds_21 X hW dm_21 h_17 dX1_passes_81 (fun H locs hW => ?_)
        refine lv_iinc (v := (v3 + 1)) (lv' := [(3, .int (v3 + 1)), (0, .ref (ad 999)), (1, .int v1), (2, va_rf q_v2)]) hx hb dX1_passes_82 hl (k := 3) rfl (ii_v _ _ _ (by decide)) (by decide) (by cases q_v2 <;> rfl) (fun ls hl => ?_)
        refine lv_goto (tgt := 49) hx hb dX1_passes_85 (by decide) ?_
        exact ih _ _ _ _ _ hW (lv_sub hl [1, 2, 3, 0] rfl) hf
noncomputable def d_passes_90 {ρ : Type}  (K : cS → Option ρ) : Nat → cS → Int32 → Option ρ
  | 0, _, _ => none
  | n + 1, σ, v3 => if (σ.1 999 0) ≤ v3 then (K σ) else (gd (inb v3 10) (((x_held ((σ.1 16 (ix v3)) + (σ.1 21 (ix v3))) 20).bind fun r_21 => d_passes_90 K n (si σ 16 (ix v3) r_21) (v3 + 1))))
set_option maxHeartbeats 4000000 in
theorem wd_passes_90 {p : Program} {l : Launch} {e : Env} {s : State} {m : MethodId} {args : Array Value} {below : List Frame} {meth : Method} {c : Code} {g : gG} {A : Nat → Prop} {ad : Nat → Nat} (X : MX p s m args meth c cX1_passes 4 RX1 (some .int) g A) (had : dI_ ad) {ρ : Type} {res : ρ} {Q : State → Prop}   {K : cS → Option ρ}
    (hK : ∀ (σ : cS) (H : Heap) (locs : List Loc) (ls : Array Slot), WB g A s.heap dIds ad (dE g ad σ) H locs → lv_has ls 4 [(0, .ref (ad 999))] → K σ = some res → W p l e (rm_ 405 16323) s m args below meth c H locs 0 0 Q (F0 m 128 ls [])) :
    ∀ (n : Nat) (σ : cS) (v3 : Int32) (H : Heap) (locs : List Loc) (ls : Array Slot), WB g A s.heap dIds ad (dE g ad σ) H locs → lv_has ls 4 [(0, .ref (ad 999)), (3, .int v3)] → d_passes_90 K n σ v3 = some res → W p l e (rm_ 405 16323) s m args below meth c H locs 0 0 Q (F0 m 90 ls []) := by
  have hx := X.1.1
  have hb := X.1.2.1
  intro n
  induction n with
  | zero =>
    intro σ v3 H locs ls hW hl hf
    rw [d_passes_90] at hf
    cases hf
  | succ n ih =>
    intro σ v3 H locs ls hW hl hf
    rw [d_passes_90] at hf
    refine lv_iload_n hx hb dX1_passes_90 rfl (lv_at hl 1 rfl) ?_
    refine lv_aload_n hx hb dX1_passes_91 rfl (lv_at hl 0 rfl) ?_
    refine dg_0 X hW dm_999 dX1_passes_92 ?_
    refine lv_icmp_ge (tgt := 128) hx hb dX1_passes_95 (by decide) (fun c_19 => ?_) (fun c_19 => ?_)
    · replace hf := ip hf c_19
      exact hK _ _ _ _ hW (lv_sub hl [0] rfl) hf
    · replace hf := ine hf c_19
      refine lv_aload_n hx hb dX1_passes_98 rfl (lv_at hl 0 rfl) ?_
      refine dg_16 X hW dm_999 dX1_passes_99 ?_
      refine lv_iload_n hx hb dX1_passes_102 rfl (lv_at hl 1 rfl) ?_
      refine lv_aload_n hx hb dX1_passes_103 rfl (lv_at hl 0 rfl) ?_
      refine dg_16 X hW dm_999 dX1_passes_104 ?_
      refine lv_iload_n hx hb dX1_passes_107 rfl (lv_at hl 1 rfl) ?_
      obtain ⟨h_20, hf⟩ := gd_e hf
      refine dl_16 X hW dm_16 h_20 dX1_passes_108 ?_
      refine lv_aload_n hx hb dX1_passes_109 rfl (lv_at hl 0 rfl) ?_
      refine dg_21 X hW dm_999 dX1_passes_110 ?_
      refine lv_iload_n hx hb dX1_passes_113 rfl (lv_at hl 1 rfl) ?_
      refine dl_21 X hW dm_21 h_20 dX1_passes_114 ?_
      refine lv_iadd hx hb dX1_passes_115 ?_
      refine lv_bipush (v := 20) hx hb dX1_passes_116 (by decide) ?_
      obtain ⟨r_21, h_22, hf⟩ := bd_e hf
      refine kn_held X hW h_22 q883 (by decide) hl (Nat.le_of_ble_eq_true rfl) dX1_passes_118 (fun H locs hW => ?_)
      refine ds_16 X hW dm_16 h_20 dX1_passes_121 (fun H locs hW => ?_)
      refine lv_iinc (v := (v3 + 1)) (lv' := [(3, .int (v3 + 1)), (0, .ref (ad 999))]) hx hb dX1_passes_122 hl (k := 1) rfl (ii_v _ _ _ (by decide)) (by decide) rfl (fun ls hl => ?_)
      refine lv_goto (tgt := 90) hx hb dX1_passes_125 (by decide) ?_
      exact ih _ _ _ _ _ hW (lv_sub hl [1, 0] rfl) hf
noncomputable def d_passes_130 {ρ : Type}  (K : cS → Option ρ) : Nat → cS → Int32 → Option ρ
  | 0, _, _ => none
  | n + 1, σ, v3 => if (σ.1 999 0) ≤ (v3 + 1) then (K σ) else (((d_sags σ v3).bind fun σ_26 => d_passes_130 K n σ_26 (v3 + 1)))
set_option maxHeartbeats 4000000 in
theorem wd_passes_130 {p : Program} {l : Launch} {e : Env} {s : State} {m : MethodId} {args : Array Value} {below : List Frame} {meth : Method} {c : Code} {g : gG} {A : Nat → Prop} {ad : Nat → Nat} (X : MX p s m args meth c cX1_passes 4 RX1 (some .int) g A) (had : dI_ ad) {ρ : Type} {res : ρ} {Q : State → Prop}   {K : cS → Option ρ}
    (hK : ∀ (σ : cS) (H : Heap) (locs : List Loc) (ls : Array Slot), WB g A s.heap dIds ad (dE g ad σ) H locs → lv_has ls 4 [(0, .ref (ad 999))] → K σ = some res → W p l e (rm_ 405 16323) s m args below meth c H locs 0 0 Q (F0 m 151 ls [])) :
    ∀ (n : Nat) (σ : cS) (v3 : Int32) (H : Heap) (locs : List Loc) (ls : Array Slot), WB g A s.heap dIds ad (dE g ad σ) H locs → lv_has ls 4 [(0, .ref (ad 999)), (3, .int v3)] → d_passes_130 K n σ v3 = some res → W p l e (rm_ 405 16323) s m args below meth c H locs 0 0 Q (F0 m 130 ls []) := by
  have hx := X.1.1
  have hb := X.1.2.1
  intro n
  induction n with
  | zero =>
    intro σ v3 H locs ls hW hl hf
    rw [d_passes_130] at hf
    cases hf
  | succ n ih =>
    intro σ v3 H locs ls hW hl hf
    rw [d_passes_130] at hf
    refine lv_iload_n hx hb dX1_passes_130 rfl (lv_at hl 1 rfl) ?_
    refine lv_iconst (v := 1) hx hb dX1_passes_131 (by decide) ?_
    refine lv_iadd hx hb dX1_passes_132 ?_
    refine lv_aload_n hx hb dX1_passes_133 rfl (lv_at hl 0 rfl) ?_
    refine dg_0 X hW dm_999 dX1_passes_134 ?_
    refine lv_icmp_ge (tgt := 151) hx hb dX1_passes_137 (by decide) (fun c_24 => ?_) (fun c_24 => ?_)
    · replace hf := ip hf c_24
      exact hK _ _ _ _ hW (lv_sub hl [0] rfl) hf
    · replace hf := ine hf c_24
      refine lv_aload_n hx hb dX1_passes_140 rfl (lv_at hl 0 rfl) ?_
      refine lv_iload_n hx hb dX1_passes_141 rfl (lv_at hl 1 rfl) ?_
      obtain ⟨σ_26, h_25, hf⟩ := bd_e hf
      refine kd_sags X hW had h_25 (by decide) hl (Nat.le_of_ble_eq_true rfl) dX1_passes_142 (fun H locs hW => ?_)
      refine lv_iinc (v := (v3 + 1)) (lv' := [(3, .int (v3 + 1)), (0, .ref (ad 999))]) hx hb dX1_passes_145 hl (k := 1) rfl (ii_v _ _ _ (by decide)) (by decide) rfl (fun ls hl => ?_)
      refine lv_goto (tgt := 130) hx hb dX1_passes_148 (by decide) ?_
      exact ih _ _ _ _ _ hW (lv_sub hl [1, 0] rfl) hf
noncomputable def d_passes (σ : cS) (v1 : Int32) (v2 : Option RS) : Option (cS × Int32) :=
  ((d_remembers σ).bind fun σ_2 => d_passes_6 v1 v2 (fun σ_8 => (d_passes_49 v1 v2 (fun σ_18 => (d_passes_90  (fun σ_23 => (d_passes_130  (fun σ_27 => (((d_countsCrossed (si σ_27 999 8 ((σ_27.1 999 8) + 1))).bind fun (σ_30, r_29) => some (σ_30, r_29)))) FU σ_23 0)) FU σ_18 0)) FU σ_8 0)) FU σ_2 0)
set_option maxHeartbeats 4000000 in
theorem wb_d_passes {p : Program} {l : Launch} {e : Env} {s : State} {m : MethodId} {args : Array Value} {below : List Frame} {meth : Method} {c : Code} {g : gG} {A : Nat → Prop} {ad : Nat → Nat} (X : MX p s m args meth c cX1_passes 4 RX1 (some .int) g A) (had : dI_ ad) {σr : cS} {r : Int32} {σ : cS} {v1 : Int32} {v2 : Option RS} {q_v2 : Option Nat} (hq_v2 : RL g q_v2 v2) {H : Heap} {locs : List Loc} {ls : Array Slot} (hW : WB g A s.heap dIds ad (dE g ad σ) H locs) (hl : lv_has ls 4 [(0, .ref (ad 999)), (1, .int v1), (2, va_rf q_v2)]) (hf : d_passes σ v1 v2 = some (σr, r)) : W p l e (rm_ 405 16323) s m args below meth c H locs 0 0 (Qm below g dIds ad (dE g ad σr) (some (.int r)) A args s) (F0 m 0 ls []) := by
  have hx := X.1.1
  have hb := X.1.2.1
  unfold d_passes at hf
  refine lv_aload_n hx hb dX1_passes_0 rfl (lv_at hl 0 rfl) ?_
  obtain ⟨σ_2, h_1, hf⟩ := bd_e hf
  refine kd_remembers X hW had h_1 (by decide) hl (Nat.le_of_ble_eq_true rfl) dX1_passes_1 (fun H locs hW => ?_)
  refine lv_iconst (v := 0) hx hb dX1_passes_4 (by decide) ?_
  refine lv_istore_n (lv' := [(3, .int 0), (0, .ref (ad 999)), (1, .int v1), (2, va_rf q_v2)]) hx hb dX1_passes_5 rfl hl (by decide) (by cases q_v2 <;> rfl) (fun ls hl => ?_)
  refine wd_passes_6 X had hq_v2 (fun σ_8 H locs ls hW hl hf => ?_) _ _ _ _ _ _ hW (lv_sub hl [1, 2, 3, 0] rfl) hf
  refine lv_iconst (v := 0) hx hb dX1_passes_47 (by decide) ?_
  refine lv_istore_n (lv' := [(3, .int 0), (0, .ref (ad 999)), (1, .int v1), (2, va_rf q_v2)]) hx hb dX1_passes_48 rfl hl (by decide) (by cases q_v2 <;> rfl) (fun ls hl => ?_)
  refine wd_passes_49 X had hq_v2 (fun σ_18 H locs ls hW hl hf => ?_) _ _ _ _ _ _ hW (lv_sub hl [1, 2, 3, 0] rfl) hf
  refine lv_iconst (v := 0) hx hb dX1_passes_88 (by decide) ?_
  refine lv_istore_n (lv' := [(3, .int 0), (0, .ref (ad 999))]) hx hb dX1_passes_89 rfl hl (by decide) rfl (fun ls hl => ?_)
  refine wd_passes_90 X had (fun σ_23 H locs ls hW hl hf => ?_) _ _ _ _ _ _ hW (lv_sub hl [1, 0] rfl) hf
  refine lv_iconst (v := 0) hx hb dX1_passes_128 (by decide) ?_
  refine lv_istore_n (lv' := [(3, .int 0), (0, .ref (ad 999))]) hx hb dX1_passes_129 rfl hl (by decide) rfl (fun ls hl => ?_)
  refine wd_passes_130 X had (fun σ_27 H locs ls hW hl hf => ?_) _ _ _ _ _ _ hW (lv_sub hl [1, 0] rfl) hf
  refine lv_aload_n hx hb dX1_passes_151 rfl (lv_at hl 0 rfl) ?_
  refine lv_dup hx hb dX1_passes_152 rfl ?_
  refine dg_8 X hW dm_999 dX1_passes_153 ?_
  refine lv_iconst (v := 1) hx hb dX1_passes_156 (by decide) ?_
  refine lv_iadd hx hb dX1_passes_157 ?_
  refine dp_8 X hW dm_999 dX1_passes_158 (fun H locs hW => ?_)
  refine lv_aload_n hx hb dX1_passes_161 rfl (lv_at hl 0 rfl) ?_
  obtain ⟨⟨σ_30, r_29⟩, h_28, hf⟩ := bd_e hf
  refine kd_countsCrossed X hW had h_28 (by decide) hl (Nat.le_of_ble_eq_true rfl) dX1_passes_162 (fun H locs hW => ?_)
  exact d_iret X hW hf dX1_passes_165
theorem w_d_passes (l : Launch) {g : gG} {ad : Nat → Nat} (had : dI_ ad) {σr : cS} {r : Int32} {σ : cS} {v1 : Int32} {v2 : Option RS} {q_v2 : Option Nat} (hq_v2 : RL g q_v2 v2) (hf : d_passes σ v1 v2 = some (σr, r)) : MC l yX1_passes cX1_passes 4 (some .int) 405 16323 g dIds ad (dE g ad σ) (dE g ad σr) [.ref (ad 999), .int v1, va_rf q_v2] (some (.int r)) := by
  refine MC.of (by decide) dIds_nd had (by cases q_v2 <;> exact Nat.le_of_ble_eq_true rfl) (fun p e s m below meth c A ls X hW hl => wb_d_passes X had hq_v2 hW (by cases q_v2 <;> exact hl) hf)
theorem kd_passes {p : Program} {l : Launch} {e : Env} {R : Room} {s : State} {m : MethodId} {args : Array Value} {below : List Frame} {meth : Method} {c : Code} {H : Heap} {locs : List Loc} {Q : State → Prop} {cc : ByteArray} {nL : Nat} {ret : Option FieldType} {g : gG} {A : Nat → Prop} {ad : Nat → Nat} {pc : Nat} {ls : Array Slot} {rest : List Value} {lv : List (Nat × Value)} {σr : cS} {r : Int32} {σ : cS} {v1 : Int32} {v2 : Option RS} (X : MX p s m args meth c cc nL RX1 ret g A) (hW : WB g A s.heap dIds ad (dE g ad σ) H locs) (had : dI_ ad) {q_v2 : Option Nat} (hq_v2 : RL g q_v2 v2) (hf : d_passes σ v1 v2 = some (σr, r)) (hR : 406 ≤ R.frames ∧ 16346 ≤ R.locals) (hl : lv_has ls nL lv) (hcat : (rest.map fun v => v.category).sum ≤ 8) (hdg : decode cc pc = .ok (.invokevirtual 154, 3)) (kk : ∀ (H1 : Heap) (l1 : List Loc), WB g A s.heap dIds ad (dE g ad σr) H1 l1 → W p l e R s m args below meth c H1 l1 0 0 Q (F0 m (pc + 3) ls (.int r :: rest))) : W p l e R s m args below meth c H locs 0 0 Q (F0 m pc ls (va_rf q_v2 :: .int v1 :: .ref (ad 999) :: rest)) :=
  r_callV X hW Sub.all (w_d_passes l had hq_v2 hf) (lw_V q866 q867 q868 q121 q869) ⟨rfl, by decide, by decide, by decide +kernel⟩ dm_999 (dE_o rfl) rfl (n := 2) hR hl rfl rfl hcat ⟨Nat.zero_le _, Nat.zero_le _⟩ hdg kk
-- goes
noncomputable def d_goes (σ : cS) (v1 : Option RS) : Option (cS × Int32) :=
  ((d_warmOn σ (σ.1 999 8)).bind fun r_2 => ((d_passes σ r_2 v1).bind fun (σ_5, r_4) => some (σ_5, r_4)))
set_option maxHeartbeats 4000000 in
theorem wb_d_goes {p : Program} {l : Launch} {e : Env} {s : State} {m : MethodId} {args : Array Value} {below : List Frame} {meth : Method} {c : Code} {g : gG} {A : Nat → Prop} {ad : Nat → Nat} (X : MX p s m args meth c cX1_goes 2 RX1 (some .int) g A) (had : dI_ ad) {σr : cS} {r : Int32} {σ : cS} {v1 : Option RS} {q_v1 : Option Nat} (hq_v1 : RL g q_v1 v1) {H : Heap} {locs : List Loc} {ls : Array Slot} (hW : WB g A s.heap dIds ad (dE g ad σ) H locs) (hl : lv_has ls 2 [(0, .ref (ad 999)), (1, va_rf q_v1)]) (hf : d_goes σ v1 = some (σr, r)) : W p l e (rm_ 406 16346) s m args below meth c H locs 0 0 (Qm below g dIds ad (dE g ad σr) (some (.int r)) A args s) (F0 m 0 ls []) := by
  have hx := X.1.1
  have hb := X.1.2.1
  unfold d_goes at hf
  refine lv_aload_n hx hb dX1_goes_0 rfl (lv_at hl 0 rfl) ?_
  refine lv_aload_n hx hb dX1_goes_1 rfl (lv_at hl 0 rfl) ?_
  refine lv_aload_n hx hb dX1_goes_2 rfl (lv_at hl 0 rfl) ?_
  refine dg_8 X hW dm_999 dX1_goes_3 ?_
  obtain ⟨r_2, h_1, hf⟩ := bd_e hf
  refine kd_warmOn X hW had h_1 (by decide) hl (Nat.le_of_ble_eq_true rfl) dX1_goes_6 (fun H locs hW => ?_)
  refine lv_aload_nq hx hb dX1_goes_9 rfl (lv_at hl 1 rfl) ?_
  obtain ⟨⟨σ_5, r_4⟩, h_3, hf⟩ := bd_e hf
  refine kd_passes X hW had hq_v1 h_3 (by decide) hl (Nat.le_of_ble_eq_true rfl) dX1_goes_10 (fun H locs hW => ?_)
  exact d_iret X hW hf dX1_goes_13
theorem w_d_goes (l : Launch) {g : gG} {ad : Nat → Nat} (had : dI_ ad) {σr : cS} {r : Int32} {σ : cS} {v1 : Option RS} {q_v1 : Option Nat} (hq_v1 : RL g q_v1 v1) (hf : d_goes σ v1 = some (σr, r)) : MC l yX1_goes cX1_goes 2 (some .int) 406 16346 g dIds ad (dE g ad σ) (dE g ad σr) [.ref (ad 999), va_rf q_v1] (some (.int r)) := by
  refine MC.of (by decide) dIds_nd had (by cases q_v1 <;> exact Nat.le_of_ble_eq_true rfl) (fun p e s m below meth c A ls X hW hl => wb_d_goes X had hq_v1 hW (by cases q_v1 <;> exact hl) hf)
-- pushes
noncomputable def d_pushes (σ : cS) (v1 : Int32) (v2 : Int32) : Option (cS) :=
  ((d_remembers σ).bind fun σ_2 => gd (inb v1 10) (((x_held ((σ_2.1 16 (ix v1)) + v2) 20).bind fun r_4 => ((d_countsCrossed (si σ_2 16 (ix v1) r_4)).bind fun (σ_8, r_7) => some σ_8))))
set_option maxHeartbeats 4000000 in
theorem wb_d_pushes {p : Program} {l : Launch} {e : Env} {s : State} {m : MethodId} {args : Array Value} {below : List Frame} {meth : Method} {c : Code} {g : gG} {A : Nat → Prop} {ad : Nat → Nat} (X : MX p s m args meth c cX1_pushes 3 RX1 none g A) (had : dI_ ad) {σr : cS}  {σ : cS} {v1 : Int32} {v2 : Int32}  {H : Heap} {locs : List Loc} {ls : Array Slot} (hW : WB g A s.heap dIds ad (dE g ad σ) H locs) (hl : lv_has ls 3 [(0, .ref (ad 999)), (1, .int v1), (2, .int v2)]) (hf : d_pushes σ v1 v2 = some σr) : W p l e (rm_ 4 103) s m args below meth c H locs 0 0 (Qm below g dIds ad (dE g ad σr) none A args s) (F0 m 0 ls []) := by
  have hx := X.1.1
  have hb := X.1.2.1
  unfold d_pushes at hf
  refine lv_aload_n hx hb dX1_pushes_0 rfl (lv_at hl 0 rfl) ?_
  obtain ⟨σ_2, h_1, hf⟩ := bd_e hf
  refine kd_remembers X hW had h_1 (by decide) hl (Nat.le_of_ble_eq_true rfl) dX1_pushes_1 (fun H locs hW => ?_)
  refine lv_aload_n hx hb dX1_pushes_4 rfl (lv_at hl 0 rfl) ?_
  refine dg_16 X hW dm_999 dX1_pushes_5 ?_
  refine lv_iload_n hx hb dX1_pushes_8 rfl (lv_at hl 1 rfl) ?_
  refine lv_aload_n hx hb dX1_pushes_9 rfl (lv_at hl 0 rfl) ?_
  refine dg_16 X hW dm_999 dX1_pushes_10 ?_
  refine lv_iload_n hx hb dX1_pushes_13 rfl (lv_at hl 1 rfl) ?_
  obtain ⟨h_3, hf⟩ := gd_e hf
  refine dl_16 X hW dm_16 h_3 dX1_pushes_14 ?_
  refine lv_iload_n hx hb dX1_pushes_15 rfl (lv_at hl 2 rfl) ?_
  refine lv_iadd hx hb dX1_pushes_16 ?_
  refine lv_bipush (v := 20) hx hb dX1_pushes_17 (by decide) ?_
  obtain ⟨r_4, h_5, hf⟩ := bd_e hf
  refine kn_held X hW h_5 q883 (by decide) hl (Nat.le_of_ble_eq_true rfl) dX1_pushes_19 (fun H locs hW => ?_)
  refine ds_16 X hW dm_16 h_3 dX1_pushes_22 (fun H locs hW => ?_)
  refine lv_aload_n hx hb dX1_pushes_23 rfl (lv_at hl 0 rfl) ?_
  obtain ⟨⟨σ_8, r_7⟩, h_6, hf⟩ := bd_e hf
  refine kd_countsCrossed X hW had h_6 (by decide) hl (Nat.le_of_ble_eq_true rfl) dX1_pushes_24 (fun H locs hW => ?_)
  refine lv_pop hx hb dX1_pushes_27 rfl ?_
  exact d_vret X hW hf dX1_pushes_28
theorem w_d_pushes (l : Launch) {g : gG} {ad : Nat → Nat} (had : dI_ ad) {σr : cS}  {σ : cS} {v1 : Int32} {v2 : Int32}  (hf : d_pushes σ v1 v2 = some σr) : MC l yX1_pushes cX1_pushes 3 none 4 103 g dIds ad (dE g ad σ) (dE g ad σr) [.ref (ad 999), .int v1, .int v2] none := by
  exact MC.of (by decide) dIds_nd had (Nat.le_of_ble_eq_true rfl) (fun p e s m below meth c A ls X hW hl => wb_d_pushes X had hW hl hf)
-- easts
noncomputable def d_easts_4 {ρ : Type} (σ : cS) (K : Int32 → Option ρ) : Nat → Int32 → Int32 → Option ρ
  | 0, _, _ => none
  | n + 1, v1, v2 => if (σ.1 999 2) ≤ v2 then (K v1) else (((d_sideOf σ v2).bind fun r_3 => if r_3 = 1 then (d_easts_4 σ K n (v1 ||| (1 <<< (v2 &&& 31))) (v2 + 1)) else (d_easts_4 σ K n (v1 ||| 0) (v2 + 1))))
set_option maxHeartbeats 4000000 in
theorem wd_easts_4 {p : Program} {l : Launch} {e : Env} {s : State} {m : MethodId} {args : Array Value} {below : List Frame} {meth : Method} {c : Code} {g : gG} {A : Nat → Prop} {ad : Nat → Nat} (X : MX p s m args meth c cX1_easts 3 RX1 (some .int) g A) (had : dI_ ad) {ρ : Type} {res : ρ} {Q : State → Prop}  {σ : cS}  {K : Int32 → Option ρ}
    (hK : ∀ (k1 : Int32) (H : Heap) (locs : List Loc) (ls : Array Slot), WB g A s.heap dIds ad (dE g ad σ) H locs → lv_has ls 3 [(1, .int k1)] → K k1 = some res → W p l e (rm_ 3 81) s m args below meth c H locs 0 0 Q (F0 m 37 ls [])) :
    ∀ (n : Nat) (v1 : Int32) (v2 : Int32) (H : Heap) (locs : List Loc) (ls : Array Slot), WB g A s.heap dIds ad (dE g ad σ) H locs → lv_has ls 3 [(0, .ref (ad 999)), (1, .int v1), (2, .int v2)] → d_easts_4 σ K n v1 v2 = some res → W p l e (rm_ 3 81) s m args below meth c H locs 0 0 Q (F0 m 4 ls []) := by
  have hx := X.1.1
  have hb := X.1.2.1
  intro n
  induction n with
  | zero =>
    intro v1 v2 H locs ls hW hl hf
    rw [d_easts_4] at hf
    cases hf
  | succ n ih =>
    intro v1 v2 H locs ls hW hl hf
    rw [d_easts_4] at hf
    refine lv_iload_n hx hb dX1_easts_4 rfl (lv_at hl 2 rfl) ?_
    refine lv_aload_n hx hb dX1_easts_5 rfl (lv_at hl 0 rfl) ?_
    refine dg_2 X hW dm_999 dX1_easts_6 ?_
    refine lv_icmp_ge (tgt := 37) hx hb dX1_easts_9 (by decide) (fun c_1 => ?_) (fun c_1 => ?_)
    · replace hf := ip hf c_1
      exact hK _ _ _ _ hW (lv_sub hl [1] rfl) hf
    · replace hf := ine hf c_1
      refine lv_iload_n hx hb dX1_easts_12 rfl (lv_at hl 1 rfl) ?_
      refine lv_aload_n hx hb dX1_easts_13 rfl (lv_at hl 0 rfl) ?_
      refine lv_iload_n hx hb dX1_easts_14 rfl (lv_at hl 2 rfl) ?_
      obtain ⟨r_3, h_2, hf⟩ := bd_e hf
      refine kd_sideOf X hW had h_2 (by decide) hl (Nat.le_of_ble_eq_true rfl) dX1_easts_15 (fun H locs hW => ?_)
      refine lv_iconst (v := 1) hx hb dX1_easts_18 (by decide) ?_
      refine lv_icmp_ne (tgt := 28) hx hb dX1_easts_19 (by decide) (fun c_4 => ?_) (fun c_4 => ?_)
      · replace hf := ine hf c_4
        refine lv_iconst (v := 0) hx hb dX1_easts_28 (by decide) ?_
        refine lv_ior hx hb dX1_easts_29 ?_
        refine lv_istore_n (lv' := [(1, .int (v1 ||| 0)), (0, .ref (ad 999)), (2, .int v2)]) hx hb dX1_easts_30 rfl hl (by decide) rfl (fun ls hl => ?_)
        refine lv_iinc (v := (v2 + 1)) (lv' := [(2, .int (v2 + 1)), (1, .int (v1 ||| 0)), (0, .ref (ad 999))]) hx hb dX1_easts_31 hl (k := 2) rfl (ii_v _ _ _ (by decide)) (by decide) rfl (fun ls hl => ?_)
        refine lv_goto (tgt := 4) hx hb dX1_easts_34 (by decide) ?_
        exact ih _ _ _ _ _ hW (lv_sub hl [2, 1, 0] rfl) hf
      · replace hf := ip hf c_4
        refine lv_iconst (v := 1) hx hb dX1_easts_22 (by decide) ?_
        refine lv_iload_n hx hb dX1_easts_23 rfl (lv_at hl 2 rfl) ?_
        refine lv_ishl hx hb dX1_easts_24 ?_
        refine lv_goto (tgt := 29) hx hb dX1_easts_25 (by decide) ?_
        refine lv_ior hx hb dX1_easts_29 ?_
        refine lv_istore_n (lv' := [(1, .int (v1 ||| (1 <<< (v2 &&& 31)))), (0, .ref (ad 999)), (2, .int v2)]) hx hb dX1_easts_30 rfl hl (by decide) rfl (fun ls hl => ?_)
        refine lv_iinc (v := (v2 + 1)) (lv' := [(2, .int (v2 + 1)), (1, .int (v1 ||| (1 <<< (v2 &&& 31)))), (0, .ref (ad 999))]) hx hb dX1_easts_31 hl (k := 2) rfl (ii_v _ _ _ (by decide)) (by decide) rfl (fun ls hl => ?_)
        refine lv_goto (tgt := 4) hx hb dX1_easts_34 (by decide) ?_
        exact ih _ _ _ _ _ hW (lv_sub hl [2, 1, 0] rfl) hf
noncomputable def d_easts (σ : cS) : Option (Int32) :=
  d_easts_4 σ (fun v_5 => (some v_5)) FU 0 0
set_option maxHeartbeats 4000000 in
theorem wb_d_easts {p : Program} {l : Launch} {e : Env} {s : State} {m : MethodId} {args : Array Value} {below : List Frame} {meth : Method} {c : Code} {g : gG} {A : Nat → Prop} {ad : Nat → Nat} (X : MX p s m args meth c cX1_easts 3 RX1 (some .int) g A) (had : dI_ ad) {r : Int32} {σ : cS}  {H : Heap} {locs : List Loc} {ls : Array Slot} (hW : WB g A s.heap dIds ad (dE g ad σ) H locs) (hl : lv_has ls 3 [(0, .ref (ad 999))]) (hf : d_easts σ = some r) : W p l e (rm_ 3 81) s m args below meth c H locs 0 0 (Qm below g dIds ad (dE g ad σ) (some (.int r)) A args s) (F0 m 0 ls []) := by
  have hx := X.1.1
  have hb := X.1.2.1
  unfold d_easts at hf
  refine lv_iconst (v := 0) hx hb dX1_easts_0 (by decide) ?_
  refine lv_istore_n (lv' := [(1, .int 0), (0, .ref (ad 999))]) hx hb dX1_easts_1 rfl hl (by decide) rfl (fun ls hl => ?_)
  refine lv_iconst (v := 0) hx hb dX1_easts_2 (by decide) ?_
  refine lv_istore_n (lv' := [(2, .int 0), (1, .int 0), (0, .ref (ad 999))]) hx hb dX1_easts_3 rfl hl (by decide) rfl (fun ls hl => ?_)
  refine wd_easts_4 X had (fun v_5 H locs ls hW hl hf => ?_) _ _ _ _ _ _ hW (lv_sub hl [2, 1, 0] rfl) hf
  refine lv_iload_n hx hb dX1_easts_37 rfl (lv_at hl 0 rfl) ?_
  exact p_iret X hW hf dX1_easts_38
theorem w_d_easts (l : Launch) {g : gG} {ad : Nat → Nat} (had : dI_ ad) {r : Int32} {σ : cS}  (hf : d_easts σ = some r) : MC l yX1_easts cX1_easts 3 (some .int) 3 81 g dIds ad (dE g ad σ) (dE g ad σ) [.ref (ad 999)] (some (.int r)) := by
  exact MC.of (by decide) dIds_nd had (Nat.le_of_ble_eq_true rfl) (fun p e s m below meth c A ls X hW hl => wb_d_easts X had hW hl hf)
-- areWants
noncomputable def d_areWants_2 (σ : cS) (K : Option (Int32)) : Nat → Int32 → Option (Int32)
  | 0, _ => none
  | n + 1, v1 => if (2 * (σ.1 999 3)) ≤ v1 then (K) else (gd (inb v1 16) (((d_sideOf σ (σ.1 14 (ix v1))).bind fun r_4 => gd (inb (v1 + 1) 16) (if r_4 = (σ.1 14 (ix (v1 + 1))) then (d_areWants_2 σ K n (v1 + 2)) else (some 0)))))
set_option maxHeartbeats 4000000 in
theorem wd_areWants_2 {p : Program} {l : Launch} {e : Env} {s : State} {m : MethodId} {args : Array Value} {below : List Frame} {meth : Method} {c : Code} {g : gG} {A : Nat → Prop} {ad : Nat → Nat} (X : MX p s m args meth c cX1_areWants 2 RX1 (some .boolean) g A) (had : dI_ ad) {r : Int32}  {σ : cS}  {K : Option (Int32)}
    (hK : ∀  (H : Heap) (locs : List Loc) (ls : Array Slot), WB g A s.heap dIds ad (dE g ad σ) H locs → lv_has ls 2 [] → K = some r → W p l e (rm_ 3 81) s m args below meth c H locs 0 0 (Qm below g dIds ad (dE g ad σ) (some (.int r)) A args s) (F0 m 41 ls [])) :
    ∀ (n : Nat) (v1 : Int32) (H : Heap) (locs : List Loc) (ls : Array Slot), WB g A s.heap dIds ad (dE g ad σ) H locs → lv_has ls 2 [(0, .ref (ad 999)), (1, .int v1)] → d_areWants_2 σ K n v1 = some r → W p l e (rm_ 3 81) s m args below meth c H locs 0 0 (Qm below g dIds ad (dE g ad σ) (some (.int r)) A args s) (F0 m 2 ls []) := by
  have hx := X.1.1
  have hb := X.1.2.1
  intro n
  induction n with
  | zero =>
    intro v1 H locs ls hW hl hf
    rw [d_areWants_2] at hf
    cases hf
  | succ n ih =>
    intro v1 H locs ls hW hl hf
    rw [d_areWants_2] at hf
    refine lv_iload_n hx hb dX1_areWants_2 rfl (lv_at hl 1 rfl) ?_
    refine lv_iconst (v := 2) hx hb dX1_areWants_3 (by decide) ?_
    refine lv_aload_n hx hb dX1_areWants_4 rfl (lv_at hl 0 rfl) ?_
    refine dg_3 X hW dm_999 dX1_areWants_5 ?_
    refine lv_imul hx hb dX1_areWants_8 ?_
    refine lv_icmp_ge (tgt := 41) hx hb dX1_areWants_9 (by decide) (fun c_1 => ?_) (fun c_1 => ?_)
    · replace hf := ip hf c_1
      exact hK  _ _ _ hW (lv_sub hl [] rfl) hf
    · replace hf := ine hf c_1
      refine lv_aload_n hx hb dX1_areWants_12 rfl (lv_at hl 0 rfl) ?_
      refine lv_aload_n hx hb dX1_areWants_13 rfl (lv_at hl 0 rfl) ?_
      refine dg_14 X hW dm_999 dX1_areWants_14 ?_
      refine lv_iload_n hx hb dX1_areWants_17 rfl (lv_at hl 1 rfl) ?_
      obtain ⟨h_2, hf⟩ := gd_e hf
      refine dl_14 X hW dm_14 h_2 dX1_areWants_18 ?_
      obtain ⟨r_4, h_3, hf⟩ := bd_e hf
      refine kd_sideOf X hW had h_3 (by decide) hl (Nat.le_of_ble_eq_true rfl) dX1_areWants_19 (fun H locs hW => ?_)
      refine lv_aload_n hx hb dX1_areWants_22 rfl (lv_at hl 0 rfl) ?_
      refine dg_14 X hW dm_999 dX1_areWants_23 ?_
      refine lv_iload_n hx hb dX1_areWants_26 rfl (lv_at hl 1 rfl) ?_
      refine lv_iconst (v := 1) hx hb dX1_areWants_27 (by decide) ?_
      refine lv_iadd hx hb dX1_areWants_28 ?_
      obtain ⟨h_5, hf⟩ := gd_e hf
      refine dl_14 X hW dm_14 h_5 dX1_areWants_29 ?_
      refine lv_icmp_eq (tgt := 35) hx hb dX1_areWants_30 (by decide) (fun c_6 => ?_) (fun c_6 => ?_)
      · replace hf := ip hf c_6
        refine lv_iinc (v := (v1 + 2)) (lv' := [(1, .int (v1 + 2)), (0, .ref (ad 999))]) hx hb dX1_areWants_35 hl (k := 1) rfl (ii_v _ _ _ (by decide)) (by decide) rfl (fun ls hl => ?_)
        refine lv_goto (tgt := 2) hx hb dX1_areWants_38 (by decide) ?_
        exact ih _ _ _ _ hW (lv_sub hl [1, 0] rfl) hf
      · replace hf := ine hf c_6
        refine lv_iconst (v := 0) hx hb dX1_areWants_33 (by decide) ?_
        exact p_zret X hW hf (by decide) dX1_areWants_34
noncomputable def d_areWants (σ : cS) : Option (Int32) :=
  d_areWants_2 σ (some 1) FU 0
set_option maxHeartbeats 4000000 in
theorem wb_d_areWants {p : Program} {l : Launch} {e : Env} {s : State} {m : MethodId} {args : Array Value} {below : List Frame} {meth : Method} {c : Code} {g : gG} {A : Nat → Prop} {ad : Nat → Nat} (X : MX p s m args meth c cX1_areWants 2 RX1 (some .boolean) g A) (had : dI_ ad) {r : Int32} {σ : cS}  {H : Heap} {locs : List Loc} {ls : Array Slot} (hW : WB g A s.heap dIds ad (dE g ad σ) H locs) (hl : lv_has ls 2 [(0, .ref (ad 999))]) (hf : d_areWants σ = some r) : W p l e (rm_ 3 81) s m args below meth c H locs 0 0 (Qm below g dIds ad (dE g ad σ) (some (.int r)) A args s) (F0 m 0 ls []) := by
  have hx := X.1.1
  have hb := X.1.2.1
  unfold d_areWants at hf
  refine lv_iconst (v := 0) hx hb dX1_areWants_0 (by decide) ?_
  refine lv_istore_n (lv' := [(1, .int 0), (0, .ref (ad 999))]) hx hb dX1_areWants_1 rfl hl (by decide) rfl (fun ls hl => ?_)
  refine wd_areWants_2 X had (fun H locs ls hW hl hf => ?_) _ _ _ _ _ hW (lv_sub hl [1, 0] rfl) hf
  refine lv_iconst (v := 1) hx hb dX1_areWants_41 (by decide) ?_
  exact p_zret X hW hf (by decide) dX1_areWants_42
theorem w_d_areWants (l : Launch) {g : gG} {ad : Nat → Nat} (had : dI_ ad) {r : Int32} {σ : cS}  (hf : d_areWants σ = some r) : MC l yX1_areWants cX1_areWants 2 (some .boolean) 3 81 g dIds ad (dE g ad σ) (dE g ad σ) [.ref (ad 999)] (some (.int r)) := by
  exact MC.of (by decide) dIds_nd had (Nat.le_of_ble_eq_true rfl) (fun p e s m below meth c A ls X hW hl => wb_d_areWants X had hW hl hf)
-- west
noncomputable def d_west_4 {ρ : Type} (σ : cS) (K : Int32 → Option ρ) : Nat → Int32 → Int32 → Option ρ
  | 0, _, _ => none
  | n + 1, v1, v2 => if (σ.1 999 2) ≤ v2 then (K v1) else (((d_sideOf σ v2).bind fun r_3 => if r_3 = 0 then (d_west_4 σ K n (v1 + 1) (v2 + 1)) else (((d_sideOf σ v2).bind fun r_6 => if r_6 = 1 then (d_west_4 σ K n (v1 + (-1)) (v2 + 1)) else (d_west_4 σ K n (v1 + 0) (v2 + 1))))))
set_option maxHeartbeats 4000000 in
theorem wd_west_4 {p : Program} {l : Launch} {e : Env} {s : State} {m : MethodId} {args : Array Value} {below : List Frame} {meth : Method} {c : Code} {g : gG} {A : Nat → Prop} {ad : Nat → Nat} (X : MX p s m args meth c cX1_west 3 RX1 (some .int) g A) (had : dI_ ad) {ρ : Type} {res : ρ} {Q : State → Prop}  {σ : cS}  {K : Int32 → Option ρ}
    (hK : ∀ (k1 : Int32) (H : Heap) (locs : List Loc) (ls : Array Slot), WB g A s.heap dIds ad (dE g ad σ) H locs → lv_has ls 3 [(1, .int k1)] → K k1 = some res → W p l e (rm_ 3 81) s m args below meth c H locs 0 0 Q (F0 m 47 ls [])) :
    ∀ (n : Nat) (v1 : Int32) (v2 : Int32) (H : Heap) (locs : List Loc) (ls : Array Slot), WB g A s.heap dIds ad (dE g ad σ) H locs → lv_has ls 3 [(0, .ref (ad 999)), (1, .int v1), (2, .int v2)] → d_west_4 σ K n v1 v2 = some res → W p l e (rm_ 3 81) s m args below meth c H locs 0 0 Q (F0 m 4 ls []) := by
  have hx := X.1.1
  have hb := X.1.2.1
  intro n
  induction n with
  | zero =>
    intro v1 v2 H locs ls hW hl hf
    rw [d_west_4] at hf
    cases hf
  | succ n ih =>
    intro v1 v2 H locs ls hW hl hf
    rw [d_west_4] at hf
    refine lv_iload_n hx hb dX1_west_4 rfl (lv_at hl 2 rfl) ?_
    refine lv_aload_n hx hb dX1_west_5 rfl (lv_at hl 0 rfl) ?_
    refine dg_2 X hW dm_999 dX1_west_6 ?_
    refine lv_icmp_ge (tgt := 47) hx hb dX1_west_9 (by decide) (fun c_1 => ?_) (fun c_1 => ?_)
    · replace hf := ip hf c_1
      exact hK _ _ _ _ hW (lv_sub hl [1] rfl) hf
    · replace hf := ine hf c_1
      refine lv_iload_n hx hb dX1_west_12 rfl (lv_at hl 1 rfl) ?_
      refine lv_aload_n hx hb dX1_west_13 rfl (lv_at hl 0 rfl) ?_
      refine lv_iload_n hx hb dX1_west_14 rfl (lv_at hl 2 rfl) ?_
      obtain ⟨r_3, h_2, hf⟩ := bd_e hf
      refine kd_sideOf X hW had h_2 (by decide) hl (Nat.le_of_ble_eq_true rfl) dX1_west_15 (fun H locs hW => ?_)
      refine lv_if_ne (tgt := 25) hx hb dX1_west_18 (by decide) (fun c_4 => ?_) (fun c_4 => ?_)
      · replace hf := ine hf c_4
        refine lv_aload_n hx hb dX1_west_25 rfl (lv_at hl 0 rfl) ?_
        refine lv_iload_n hx hb dX1_west_26 rfl (lv_at hl 2 rfl) ?_
        obtain ⟨r_6, h_5, hf⟩ := bd_e hf
        refine kd_sideOf X hW had h_5 (by decide) hl (Nat.le_of_ble_eq_true rfl) dX1_west_27 (fun H locs hW => ?_)
        refine lv_iconst (v := 1) hx hb dX1_west_30 (by decide) ?_
        refine lv_icmp_ne (tgt := 38) hx hb dX1_west_31 (by decide) (fun c_7 => ?_) (fun c_7 => ?_)
        · replace hf := ine hf c_7
          refine lv_iconst (v := 0) hx hb dX1_west_38 (by decide) ?_
          refine lv_iadd hx hb dX1_west_39 ?_
          refine lv_istore_n (lv' := [(1, .int (v1 + 0)), (0, .ref (ad 999)), (2, .int v2)]) hx hb dX1_west_40 rfl hl (by decide) rfl (fun ls hl => ?_)
          refine lv_iinc (v := (v2 + 1)) (lv' := [(2, .int (v2 + 1)), (1, .int (v1 + 0)), (0, .ref (ad 999))]) hx hb dX1_west_41 hl (k := 2) rfl (ii_v _ _ _ (by decide)) (by decide) rfl (fun ls hl => ?_)
          refine lv_goto (tgt := 4) hx hb dX1_west_44 (by decide) ?_
          exact ih _ _ _ _ _ hW (lv_sub hl [2, 1, 0] rfl) hf
        · replace hf := ip hf c_7
          refine lv_iconst (v := (-1)) hx hb dX1_west_34 (by decide) ?_
          refine lv_goto (tgt := 39) hx hb dX1_west_35 (by decide) ?_
          refine lv_iadd hx hb dX1_west_39 ?_
          refine lv_istore_n (lv' := [(1, .int (v1 + (-1))), (0, .ref (ad 999)), (2, .int v2)]) hx hb dX1_west_40 rfl hl (by decide) rfl (fun ls hl => ?_)
          refine lv_iinc (v := (v2 + 1)) (lv' := [(2, .int (v2 + 1)), (1, .int (v1 + (-1))), (0, .ref (ad 999))]) hx hb dX1_west_41 hl (k := 2) rfl (ii_v _ _ _ (by decide)) (by decide) rfl (fun ls hl => ?_)
          refine lv_goto (tgt := 4) hx hb dX1_west_44 (by decide) ?_
          exact ih _ _ _ _ _ hW (lv_sub hl [2, 1, 0] rfl) hf
      · replace hf := ip hf c_4
        refine lv_iconst (v := 1) hx hb dX1_west_21 (by decide) ?_
        refine lv_goto (tgt := 39) hx hb dX1_west_22 (by decide) ?_
        refine lv_iadd hx hb dX1_west_39 ?_
        refine lv_istore_n (lv' := [(1, .int (v1 + 1)), (0, .ref (ad 999)), (2, .int v2)]) hx hb dX1_west_40 rfl hl (by decide) rfl (fun ls hl => ?_)
        refine lv_iinc (v := (v2 + 1)) (lv' := [(2, .int (v2 + 1)), (1, .int (v1 + 1)), (0, .ref (ad 999))]) hx hb dX1_west_41 hl (k := 2) rfl (ii_v _ _ _ (by decide)) (by decide) rfl (fun ls hl => ?_)
        refine lv_goto (tgt := 4) hx hb dX1_west_44 (by decide) ?_
        exact ih _ _ _ _ _ hW (lv_sub hl [2, 1, 0] rfl) hf
noncomputable def d_west (σ : cS) : Option (Int32) :=
  d_west_4 σ (fun v_8 => (some v_8)) FU 0 0
set_option maxHeartbeats 4000000 in
theorem wb_d_west {p : Program} {l : Launch} {e : Env} {s : State} {m : MethodId} {args : Array Value} {below : List Frame} {meth : Method} {c : Code} {g : gG} {A : Nat → Prop} {ad : Nat → Nat} (X : MX p s m args meth c cX1_west 3 RX1 (some .int) g A) (had : dI_ ad) {r : Int32} {σ : cS}  {H : Heap} {locs : List Loc} {ls : Array Slot} (hW : WB g A s.heap dIds ad (dE g ad σ) H locs) (hl : lv_has ls 3 [(0, .ref (ad 999))]) (hf : d_west σ = some r) : W p l e (rm_ 3 81) s m args below meth c H locs 0 0 (Qm below g dIds ad (dE g ad σ) (some (.int r)) A args s) (F0 m 0 ls []) := by
  have hx := X.1.1
  have hb := X.1.2.1
  unfold d_west at hf
  refine lv_iconst (v := 0) hx hb dX1_west_0 (by decide) ?_
  refine lv_istore_n (lv' := [(1, .int 0), (0, .ref (ad 999))]) hx hb dX1_west_1 rfl hl (by decide) rfl (fun ls hl => ?_)
  refine lv_iconst (v := 0) hx hb dX1_west_2 (by decide) ?_
  refine lv_istore_n (lv' := [(2, .int 0), (1, .int 0), (0, .ref (ad 999))]) hx hb dX1_west_3 rfl hl (by decide) rfl (fun ls hl => ?_)
  refine wd_west_4 X had (fun v_8 H locs ls hW hl hf => ?_) _ _ _ _ _ _ hW (lv_sub hl [2, 1, 0] rfl) hf
  refine lv_iload_n hx hb dX1_west_47 rfl (lv_at hl 0 rfl) ?_
  exact p_iret X hW hf dX1_west_48
theorem w_d_west (l : Launch) {g : gG} {ad : Nat → Nat} (had : dI_ ad) {r : Int32} {σ : cS}  (hf : d_west σ = some r) : MC l yX1_west cX1_west 3 (some .int) 3 81 g dIds ad (dE g ad σ) (dE g ad σ) [.ref (ad 999)] (some (.int r)) := by
  exact MC.of (by decide) dIds_nd had (Nat.le_of_ble_eq_true rfl) (fun p e s m below meth c A ls X hW hl => wb_d_west X had hW hl hf)
