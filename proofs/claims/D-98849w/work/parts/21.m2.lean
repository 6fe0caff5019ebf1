set_option maxRecDepth 100000
-- test
noncomputable def m_test_9 {ρ : Type}  (K : cS → Option ρ) : Nat → cS → Int32 → Int32 → Option ρ
  | 0, _, _, _ => none
  | n + 1, σ, v1, v2 => if v2 = 0 then (K σ) else (if (σ.1 999 29) = 0 then (if v1 = 0 then (((m_answers σ 9).bind fun σ_5 => ((m_blanks σ_5).bind fun σ_7 => ((m_stood σ_7 35).bind fun r_9 => ((m_stood σ_7 36).bind fun r_11 => ((m_answers σ_7 10).bind fun σ_13 => if r_9 = 0 then (if r_11 = 0 then (((m_answers σ_13 11).bind fun σ_30 => ((m_top σ_30).bind fun r_32 => if r_32 = 12 then (((m_sign σ_30).bind fun r_35 => ((if r_35 = 93 then (some (σ_30)) else (((m_fails σ_30 0 (σ_30.1 999 28)).bind fun σ_44 => some (σ_44))) : Option (cS)).bind fun σ_36 => (nmb (si σ_36 999 28 ((σ_36.1 999 28) + 1)) fun σ_38 => (nmb (si σ_38 999 35 (((si σ_36 999 28 ((σ_36.1 999 28) + 1)).1 999 35) - 1)) fun σ_40 => (m_test_9 K n (si σ_40 999 33 (((si σ_38 999 35 (((si σ_36 999 28 ((σ_36.1 999 28) + 1)).1 999 35) - 1)).1 999 33) - 1)) v1 v2)))))) else (m_test_9 K n σ_30 v1 0)))) else (((if r_11 = 0 then (some (σ_13)) else (((m_answers σ_13 11).bind fun σ_57 => some (σ_57))) : Option (cS)).bind fun σ_45 => (((if r_9 = 0 then (some (11)) else (some (10)) : Option (Int32)).bind fun t_47 => (((m_opens σ_45 t_47).bind fun σ_50 => ((if r_9 = 0 then (some (2)) else (some (3)) : Option (Int32)).bind fun t_51 => (m_test_9 K n (si σ_50 999 28 ((σ_50.1 999 28) + t_51)) 1 v2))))))))) else (((if r_11 = 0 then (some (σ_13)) else (((m_answers σ_13 11).bind fun σ_27 => some (σ_27))) : Option (cS)).bind fun σ_15 => (((if r_9 = 0 then (some (11)) else (some (10)) : Option (Int32)).bind fun t_17 => (((m_opens σ_15 t_17).bind fun σ_20 => ((if r_9 = 0 then (some (2)) else (some (3)) : Option (Int32)).bind fun t_21 => (m_test_9 K n (si σ_20 999 28 ((σ_20.1 999 28) + t_21)) 1 v2)))))))))))))) else (((m_fact σ).bind fun (σ_60, r_59) => if r_59 = 0 then (m_test_9 K n σ_60 1 v2) else (m_test_9 K n σ_60 0 v2)))) else (K σ))
set_option maxHeartbeats 4000000 in
theorem wm_test_9 {p : Program} {l : Launch} {e : Env} {s : State} {m : MethodId} {args : Array Value} {below : List Frame} {meth : Method} {c : Code} {g : gG} {A : Nat → Prop} {ad : Nat → Nat} (X : MX p s m args meth c cX3_test 5 RX3 none g A) (had : mI ad) {ρ : Type} {res : ρ} {Q : State → Prop}   {K : cS → Option ρ}
    (hK : ∀ (σ : cS) (H : Heap) (locs : List Loc) (ls : Array Slot), WB g A s.heap mIds ad (mE g ad σ) H locs → lv_has ls 5 [] → K σ = some res → W p l e (rm_ 12 330) s m args below meth c H locs 0 0 Q (F0 m 202 ls [])) :
    ∀ (n : Nat) (σ : cS) (v1 : Int32) (v2 : Int32) (H : Heap) (locs : List Loc) (ls : Array Slot), WB g A s.heap mIds ad (mE g ad σ) H locs → lv_has ls 5 [(0, .ref (ad 999)), (1, .int v1), (2, .int v2)] → m_test_9 K n σ v1 v2 = some res → W p l e (rm_ 12 330) s m args below meth c H locs 0 0 Q (F0 m 9 ls []) := by
  have hx := X.1.1
  have hb := X.1.2.1
  intro n
  induction n with
  | zero =>
    intro σ v1 v2 H locs ls hW hl hf
    rw [m_test_9] at hf
    cases hf
  | succ n ih =>
    intro σ v1 v2 H locs ls hW hl hf
    rw [m_test_9] at hf
    refine lv_iload_n hx hb dX3_test_9 rfl (lv_at hl 2 rfl) ?_
    refine lv_if_eq (tgt := 202) hx hb dX3_test_10 (by decide) (fun c_1 => ?_) (fun c_1 => ?_)
    · replace hf := ip hf c_1
      exact hK _ _ _ _ hW (lv_sub hl [] rfl) hf
    · replace hf := ine hf c_1
      refine lv_aload_n hx hb dX3_test_13 rfl (lv_at hl 0 rfl) ?_
      refine mg_29 X hW dX3_test_14 ?_
      refine lv_if_ne (tgt := 202) hx hb dX3_test_17 (by decide) (fun c_2 => ?_) (fun c_2 => ?_)
      · replace hf := ine hf c_2
        exact hK _ _ _ _ hW (lv_sub hl [] rfl) hf
      · replace hf := ip hf c_2
        refine lv_iload_n hx hb dX3_test_20 rfl (lv_at hl 1 rfl) ?_
        refine lv_if_eq (tgt := 40) hx hb dX3_test_21 (by decide) (fun c_3 => ?_) (fun c_3 => ?_)
        · replace hf := ip hf c_3
          refine lv_aload_n hx hb dX3_test_40 rfl (lv_at hl 0 rfl) ?_
          refine lv_bipush (v := 9) hx hb dX3_test_41 (by decide) ?_
          obtain ⟨σ_5, h_4, hf⟩ := bd_e hf
          refine k_answers X hW had h_4 (by decide) hl (Nat.le_of_ble_eq_true rfl) dX3_test_43 (fun H locs hW => ?_)
          refine lv_aload_n hx hb dX3_test_46 rfl (lv_at hl 0 rfl) ?_
          obtain ⟨σ_7, h_6, hf⟩ := bd_e hf
          refine k_blanks X hW had h_6 (by decide) hl (Nat.le_of_ble_eq_true rfl) dX3_test_47 (fun H locs hW => ?_)
          refine lv_aload_n hx hb dX3_test_50 rfl (lv_at hl 0 rfl) ?_
          refine va_ldcSw hx hb X.1.2.2.2.1 (X.2.2.2.2.1.1 35 _ rfl).1 dX3_test_51 ?_
          obtain ⟨r_9, h_8, hf⟩ := bd_e hf
          refine k_stood X hW had (by decide) h_8 (by decide) hl (Nat.le_of_ble_eq_true rfl) dX3_test_54 (fun H locs hW => ?_)
          refine lv_istore_n (lv' := [(3, .int r_9), (0, .ref (ad 999)), (1, .int v1), (2, .int v2)]) hx hb dX3_test_57 rfl hl (by decide) rfl (fun ls hl => ?_)
          refine lv_aload_n hx hb dX3_test_58 rfl (lv_at hl 1 rfl) ?_
          refine va_ldcSw hx hb X.1.2.2.2.1 (X.2.2.2.2.1.1 36 _ rfl).1 dX3_test_59 ?_
          obtain ⟨r_11, h_10, hf⟩ := bd_e hf
          refine k_stood X hW had (by decide) h_10 (by decide) hl (Nat.le_of_ble_eq_true rfl) dX3_test_62 (fun H locs hW => ?_)
          refine lv_istore (lv' := [(4, .int r_11), (3, .int r_9), (0, .ref (ad 999)), (1, .int v1), (2, .int v2)]) hx hb dX3_test_65 hl (by decide) rfl (fun ls hl => ?_)
          refine lv_aload_n hx hb dX3_test_67 rfl (lv_at hl 2 rfl) ?_
          refine lv_bipush (v := 10) hx hb dX3_test_68 (by decide) ?_
          obtain ⟨σ_13, h_12, hf⟩ := bd_e hf
          refine k_answers X hW had h_12 (by decide) hl (Nat.le_of_ble_eq_true rfl) dX3_test_70 (fun H locs hW => ?_)
          refine lv_iload_n hx hb dX3_test_73 rfl (lv_at hl 1 rfl) ?_
          refine lv_if_ne (tgt := 82) hx hb dX3_test_74 (by decide) (fun c_14 => ?_) (fun c_14 => ?_)
          · replace hf := ine hf c_14
            refine lv_iload hx hb dX3_test_82 (lv_at hl 0 rfl) ?_
            obtain ⟨σ_15, hD_16, hf⟩ := bd_e hf
            have hJ : ∀ (H : Heap) (locs : List Loc) (ls : Array Slot), WB g A s.heap mIds ad (mE g ad σ_15) H locs → lv_has ls 5 [(0, .ref (ad 999)), (2, .int v2), (3, .int r_9)] → W p l e (rm_ 12 330) s m args below meth c H locs 0 0 Q (F0 m 93 ls []) := by
              intro H locs ls hW hl
              refine lv_aload_n hx hb dX3_test_93 rfl (lv_at hl 0 rfl) ?_
              refine lv_iload_n hx hb dX3_test_94 rfl (lv_at hl 2 rfl) ?_
              obtain ⟨t_17, hD_18, hf⟩ := bd_e hf
              have hJ : ∀ (H : Heap) (locs : List Loc) (ls : Array Slot), WB g A s.heap mIds ad (mE g ad σ_15) H locs → lv_has ls 5 [(0, .ref (ad 999)), (2, .int v2), (3, .int r_9)] → W p l e (rm_ 12 330) s m args below meth c H locs 0 0 Q (F0 m 105 ls [.int t_17, .ref (ad 999)]) := by
                intro H locs ls hW hl
                obtain ⟨σ_20, h_19, hf⟩ := bd_e hf
                refine k_opens X hW had h_19 (by decide) hl (Nat.le_of_ble_eq_true rfl) dX3_test_105 (fun H locs hW => ?_)
                refine lv_aload_n hx hb dX3_test_108 rfl (lv_at hl 0 rfl) ?_
                refine lv_dup hx hb dX3_test_109 rfl ?_
                refine mg_28 X hW dX3_test_110 ?_
                refine lv_iload_n hx hb dX3_test_113 rfl (lv_at hl 2 rfl) ?_
                obtain ⟨t_21, hD_22, hf⟩ := bd_e hf
                have hJ : ∀ (H : Heap) (locs : List Loc) (ls : Array Slot), WB g A s.heap mIds ad (mE g ad σ_20) H locs → lv_has ls 5 [(0, .ref (ad 999)), (2, .int v2)] → W p l e (rm_ 12 330) s m args below meth c H locs 0 0 Q (F0 m 122 ls [.int t_21, .int (σ_20.1 999 28), .ref (ad 999)]) := by
                  intro H locs ls hW hl
                  refine lv_iadd hx hb dX3_test_122 ?_
                  refine mp_28 X hW dX3_test_123 (fun H locs hW => ?_)
                  refine lv_iconst (v := 1) hx hb dX3_test_126 (by decide) ?_
                  refine lv_istore_n (lv' := [(1, .int 1), (0, .ref (ad 999)), (2, .int v2)]) hx hb dX3_test_127 rfl hl (by decide) rfl (fun ls hl => ?_)
                  refine lv_goto (tgt := 199) hx hb dX3_test_128 (by decide) ?_
                  refine lv_goto (tgt := 9) hx hb dX3_test_199 (by decide) ?_
                  exact ih _ _ _ _ _ _ hW (lv_sub hl [1, 0, 2] rfl) hf
                clear hf
                refine lv_if_eq (tgt := 121) hx hb dX3_test_114 (by decide) (fun c_23 => ?_) (fun c_23 => ?_)
                · replace hD_22 := ip hD_22 c_23
                  refine lv_iconst (v := 2) hx hb dX3_test_121 (by decide) ?_
                  cases hD_22
                  exact hJ _ _ _ hW (lv_sub hl [0, 1] rfl)
                · replace hD_22 := ine hD_22 c_23
                  refine lv_iconst (v := 3) hx hb dX3_test_117 (by decide) ?_
                  refine lv_goto (tgt := 122) hx hb dX3_test_118 (by decide) ?_
                  cases hD_22
                  exact hJ _ _ _ hW (lv_sub hl [0, 1] rfl)
              clear hf
              refine lv_if_eq (tgt := 103) hx hb dX3_test_95 (by decide) (fun c_24 => ?_) (fun c_24 => ?_)
              · replace hD_18 := ip hD_18 c_24
                refine lv_bipush (v := 11) hx hb dX3_test_103 (by decide) ?_
                cases hD_18
                exact hJ _ _ _ hW (lv_sub hl [0, 1, 2] rfl)
              · replace hD_18 := ine hD_18 c_24
                refine lv_bipush (v := 10) hx hb dX3_test_98 (by decide) ?_
                refine lv_goto (tgt := 105) hx hb dX3_test_100 (by decide) ?_
                cases hD_18
                exact hJ _ _ _ hW (lv_sub hl [0, 1, 2] rfl)
            clear hf
            refine lv_if_eq (tgt := 93) hx hb dX3_test_84 (by decide) (fun c_25 => ?_) (fun c_25 => ?_)
            · replace hD_16 := ip hD_16 c_25
              cases hD_16
              exact hJ _ _ _ hW (lv_sub hl [2, 4, 1] rfl)
            · replace hD_16 := ine hD_16 c_25
              refine lv_aload_n hx hb dX3_test_87 rfl (lv_at hl 2 rfl) ?_
              refine lv_bipush (v := 11) hx hb dX3_test_88 (by decide) ?_
              obtain ⟨σ_27, h_26, hD_16⟩ := bd_e hD_16
              refine k_answers X hW had h_26 (by decide) hl (Nat.le_of_ble_eq_true rfl) dX3_test_90 (fun H locs hW => ?_)
              cases hD_16
              exact hJ _ _ _ hW (lv_sub hl [2, 4, 1] rfl)
          · replace hf := ip hf c_14
            refine lv_iload hx hb dX3_test_77 (lv_at hl 0 rfl) ?_
            refine lv_if_eq (tgt := 131) hx hb dX3_test_79 (by decide) (fun c_28 => ?_) (fun c_28 => ?_)
            · replace hf := ip hf c_28
              refine lv_aload_n hx hb dX3_test_131 rfl (lv_at hl 2 rfl) ?_
              refine lv_bipush (v := 11) hx hb dX3_test_132 (by decide) ?_
              obtain ⟨σ_30, h_29, hf⟩ := bd_e hf
              refine k_answers X hW had h_29 (by decide) hl (Nat.le_of_ble_eq_true rfl) dX3_test_134 (fun H locs hW => ?_)
              refine lv_aload_n hx hb dX3_test_137 rfl (lv_at hl 2 rfl) ?_
              obtain ⟨r_32, h_31, hf⟩ := bd_e hf
              refine k_top X hW had h_31 (by decide) hl (Nat.le_of_ble_eq_true rfl) dX3_test_138 (fun H locs hW => ?_)
              refine lv_bipush (v := 12) hx hb dX3_test_141 (by decide) ?_
              refine lv_icmp_ne (tgt := 197) hx hb dX3_test_143 (by decide) (fun c_33 => ?_) (fun c_33 => ?_)
              · replace hf := ine hf c_33
                refine lv_iconst (v := 0) hx hb dX3_test_197 (by decide) ?_
                refine lv_istore_n (lv' := [(2, .int 0), (4, .int r_11), (3, .int r_9), (0, .ref (ad 999)), (1, .int v1)]) hx hb dX3_test_198 rfl hl (by decide) rfl (fun ls hl => ?_)
                refine lv_goto (tgt := 9) hx hb dX3_test_199 (by decide) ?_
                exact ih _ _ _ _ _ _ hW (lv_sub hl [3, 4, 0] rfl) hf
              · replace hf := ip hf c_33
                refine lv_aload_n hx hb dX3_test_146 rfl (lv_at hl 2 rfl) ?_
                obtain ⟨r_35, h_34, hf⟩ := bd_e hf
                refine k_sign X hW had h_34 (by decide) hl (Nat.le_of_ble_eq_true rfl) dX3_test_147 (fun H locs hW => ?_)
                refine lv_bipush (v := 93) hx hb dX3_test_150 (by decide) ?_
                obtain ⟨σ_36, hD_37, hf⟩ := bd_e hf
                have hJ : ∀ (H : Heap) (locs : List Loc) (ls : Array Slot), WB g A s.heap mIds ad (mE g ad σ_36) H locs → lv_has ls 5 [(0, .ref (ad 999)), (1, .int v1), (2, .int v2)] → W p l e (rm_ 12 330) s m args below meth c H locs 0 0 Q (F0 m 164 ls []) := by
                  intro H locs ls hW hl
                  refine lv_aload_n hx hb dX3_test_164 rfl (lv_at hl 0 rfl) ?_
                  refine lv_dup hx hb dX3_test_165 rfl ?_
                  refine mg_28 X hW dX3_test_166 ?_
                  refine lv_iconst (v := 1) hx hb dX3_test_169 (by decide) ?_
                  refine lv_iadd hx hb dX3_test_170 ?_
                  refine mp_28 X hW dX3_test_171 (fun H locs hW => ?_)
                  refine lv_aload_n hx hb dX3_test_174 rfl (lv_at hl 0 rfl) ?_
                  refine lv_dup hx hb dX3_test_175 rfl ?_
                  refine mg_35 X hW dX3_test_176 ?_
                  refine lv_iconst (v := 1) hx hb dX3_test_179 (by decide) ?_
                  refine lv_isub hx hb dX3_test_180 ?_
                  obtain ⟨σ_38, e_39, hf⟩ := nmb_e hf
                  rw [← e_39] at hW
                  clear e_39
                  refine mp_35 X hW dX3_test_181 (fun H locs hW => ?_)
                  refine lv_aload_n hx hb dX3_test_184 rfl (lv_at hl 0 rfl) ?_
                  refine lv_dup hx hb dX3_test_185 rfl ?_
                  refine mg_33 X hW dX3_test_186 ?_
                  refine lv_iconst (v := 1) hx hb dX3_test_189 (by decide) ?_
                  refine lv_isub hx hb dX3_test_190 ?_
                  obtain ⟨σ_40, e_41, hf⟩ := nmb_e hf
                  rw [← e_41] at hW
                  clear e_41
                  refine mp_33 X hW dX3_test_191 (fun H locs hW => ?_)
                  refine lv_goto (tgt := 199) hx hb dX3_test_194 (by decide) ?_
                  refine lv_goto (tgt := 9) hx hb dX3_test_199 (by decide) ?_
                  exact ih _ _ _ _ _ _ hW (lv_sub hl [0, 1, 2] rfl) hf
                clear hf
                refine lv_icmp_eq (tgt := 164) hx hb dX3_test_152 (by decide) (fun c_42 => ?_) (fun c_42 => ?_)
                · replace hD_37 := ip hD_37 c_42
                  cases hD_37
                  exact hJ _ _ _ hW (lv_sub hl [2, 3, 4] rfl)
                · replace hD_37 := ine hD_37 c_42
                  refine lv_aload_n hx hb dX3_test_155 rfl (lv_at hl 2 rfl) ?_
                  refine lv_iconst (v := 0) hx hb dX3_test_156 (by decide) ?_
                  refine lv_aload_n hx hb dX3_test_157 rfl (lv_at hl 2 rfl) ?_
                  refine mg_28 X hW dX3_test_158 ?_
                  obtain ⟨σ_44, h_43, hD_37⟩ := bd_e hD_37
                  refine k_fails X hW had h_43 (by decide) hl (Nat.le_of_ble_eq_true rfl) dX3_test_161 (fun H locs hW => ?_)
                  cases hD_37
                  exact hJ _ _ _ hW (lv_sub hl [2, 3, 4] rfl)
            · replace hf := ine hf c_28
              refine lv_iload hx hb dX3_test_82 (lv_at hl 0 rfl) ?_
              obtain ⟨σ_45, hD_46, hf⟩ := bd_e hf
              have hJ : ∀ (H : Heap) (locs : List Loc) (ls : Array Slot), WB g A s.heap mIds ad (mE g ad σ_45) H locs → lv_has ls 5 [(0, .ref (ad 999)), (2, .int v2), (3, .int r_9)] → W p l e (rm_ 12 330) s m args below meth c H locs 0 0 Q (F0 m 93 ls []) := by
                intro H locs ls hW hl
                refine lv_aload_n hx hb dX3_test_93 rfl (lv_at hl 0 rfl) ?_
                refine lv_iload_n hx hb dX3_test_94 rfl (lv_at hl 2 rfl) ?_
                obtain ⟨t_47, hD_48, hf⟩ := bd_e hf
                have hJ : ∀ (H : Heap) (locs : List Loc) (ls : Array Slot), WB g A s.heap mIds ad (mE g ad σ_45) H locs → lv_has ls 5 [(0, .ref (ad 999)), (2, .int v2), (3, .int r_9)] → W p l e (rm_ 12 330) s m args below meth c H locs 0 0 Q (F0 m 105 ls [.int t_47, .ref (ad 999)]) := by
                  intro H locs ls hW hl
                  obtain ⟨σ_50, h_49, hf⟩ := bd_e hf
                  refine k_opens X hW had h_49 (by decide) hl (Nat.le_of_ble_eq_true rfl) dX3_test_105 (fun H locs hW => ?_)
                  refine lv_aload_n hx hb dX3_test_108 rfl (lv_at hl 0 rfl) ?_
                  refine lv_dup hx hb dX3_test_109 rfl ?_
                  refine mg_28 X hW dX3_test_110 ?_
                  refine lv_iload_n hx hb dX3_test_113 rfl (lv_at hl 2 rfl) ?_
                  obtain ⟨t_51, hD_52, hf⟩ := bd_e hf
                  have hJ : ∀ (H : Heap) (locs : List Loc) (ls : Array Slot), WB g A s.heap mIds ad (mE g ad σ_50) H locs → lv_has ls 5 [(0, .ref (ad 999)), (2, .int v2)] → W p l e (rm_ 12 330) s m args below meth c H locs 0 0 Q (F0 m 122 ls [.int t_51, .int (σ_50.1 999 28), .ref (ad 999)]) := by
                    intro H locs ls hW hl
                    refine lv_iadd hx hb dX3_test_122 ?_
                    refine mp_28 X hW dX3_test_123 (fun H locs hW => ?_)
                    refine lv_iconst (v := 1) hx hb dX3_test_126 (by decide) ?_
                    refine lv_istore_n (lv' := [(1, .int 1), (0, .ref (ad 999)), (2, .int v2)]) hx hb dX3_test_127 rfl hl (by decide) rfl (fun ls hl => ?_)
                    refine lv_goto (tgt := 199) hx hb dX3_test_128 (by decide) ?_
                    refine lv_goto (tgt := 9) hx hb dX3_test_199 (by decide) ?_
                    exact ih _ _ _ _ _ _ hW (lv_sub hl [1, 0, 2] rfl) hf
                  clear hf
                  refine lv_if_eq (tgt := 121) hx hb dX3_test_114 (by decide) (fun c_53 => ?_) (fun c_53 => ?_)
                  · replace hD_52 := ip hD_52 c_53
                    refine lv_iconst (v := 2) hx hb dX3_test_121 (by decide) ?_
                    cases hD_52
                    exact hJ _ _ _ hW (lv_sub hl [0, 1] rfl)
                  · replace hD_52 := ine hD_52 c_53
                    refine lv_iconst (v := 3) hx hb dX3_test_117 (by decide) ?_
                    refine lv_goto (tgt := 122) hx hb dX3_test_118 (by decide) ?_
                    cases hD_52
                    exact hJ _ _ _ hW (lv_sub hl [0, 1] rfl)
                clear hf
                refine lv_if_eq (tgt := 103) hx hb dX3_test_95 (by decide) (fun c_54 => ?_) (fun c_54 => ?_)
                · replace hD_48 := ip hD_48 c_54
                  refine lv_bipush (v := 11) hx hb dX3_test_103 (by decide) ?_
                  cases hD_48
                  exact hJ _ _ _ hW (lv_sub hl [0, 1, 2] rfl)
                · replace hD_48 := ine hD_48 c_54
                  refine lv_bipush (v := 10) hx hb dX3_test_98 (by decide) ?_
                  refine lv_goto (tgt := 105) hx hb dX3_test_100 (by decide) ?_
                  cases hD_48
                  exact hJ _ _ _ hW (lv_sub hl [0, 1, 2] rfl)
              clear hf
              refine lv_if_eq (tgt := 93) hx hb dX3_test_84 (by decide) (fun c_55 => ?_) (fun c_55 => ?_)
              · replace hD_46 := ip hD_46 c_55
                cases hD_46
                exact hJ _ _ _ hW (lv_sub hl [2, 4, 1] rfl)
              · replace hD_46 := ine hD_46 c_55
                refine lv_aload_n hx hb dX3_test_87 rfl (lv_at hl 2 rfl) ?_
                refine lv_bipush (v := 11) hx hb dX3_test_88 (by decide) ?_
                obtain ⟨σ_57, h_56, hD_46⟩ := bd_e hD_46
                refine k_answers X hW had h_56 (by decide) hl (Nat.le_of_ble_eq_true rfl) dX3_test_90 (fun H locs hW => ?_)
                cases hD_46
                exact hJ _ _ _ hW (lv_sub hl [2, 4, 1] rfl)
        · replace hf := ine hf c_3
          refine lv_aload_n hx hb dX3_test_24 rfl (lv_at hl 0 rfl) ?_
          obtain ⟨⟨σ_60, r_59⟩, h_58, hf⟩ := bd_e hf
          refine k_fact X hW had h_58 (by decide) hl (Nat.le_of_ble_eq_true rfl) dX3_test_25 (fun H locs hW => ?_)
          refine lv_if_ne (tgt := 35) hx hb dX3_test_28 (by decide) (fun c_61 => ?_) (fun c_61 => ?_)
          · replace hf := ine hf c_61
            refine lv_iconst (v := 0) hx hb dX3_test_35 (by decide) ?_
            refine lv_istore_n (lv' := [(1, .int 0), (0, .ref (ad 999)), (2, .int v2)]) hx hb dX3_test_36 rfl hl (by decide) rfl (fun ls hl => ?_)
            refine lv_goto (tgt := 9) hx hb dX3_test_37 (by decide) ?_
            exact ih _ _ _ _ _ _ hW (lv_sub hl [1, 0, 2] rfl) hf
          · replace hf := ip hf c_61
            refine lv_iconst (v := 1) hx hb dX3_test_31 (by decide) ?_
            refine lv_goto (tgt := 36) hx hb dX3_test_32 (by decide) ?_
            refine lv_istore_n (lv' := [(1, .int 1), (0, .ref (ad 999)), (2, .int v2)]) hx hb dX3_test_36 rfl hl (by decide) rfl (fun ls hl => ?_)
            refine lv_goto (tgt := 9) hx hb dX3_test_37 (by decide) ?_
            exact ih _ _ _ _ _ _ hW (lv_sub hl [1, 0, 2] rfl) hf
noncomputable def m_test (σ : cS) : Option (cS) :=
  m_test_9  (fun σ_62 => (some σ_62)) FU (si σ 999 35 0) 1 1
set_option maxHeartbeats 4000000 in
theorem wb_test {p : Program} {l : Launch} {e : Env} {s : State} {m : MethodId} {args : Array Value} {below : List Frame} {meth : Method} {c : Code} {g : gG} {A : Nat → Prop} {ad : Nat → Nat} (X : MX p s m args meth c cX3_test 5 RX3 none g A) (had : mI ad) {σr : cS}  {σ : cS}  {H : Heap} {locs : List Loc} {ls : Array Slot} (hW : WB g A s.heap mIds ad (mE g ad σ) H locs) (hl : lv_has ls 5 [(0, .ref (ad 999))]) (hf : m_test σ = some σr) : W p l e (rm_ 12 330) s m args below meth c H locs 0 0 (Qm below g mIds ad (mE g ad σr) none A args s) (F0 m 0 ls []) := by
  have hx := X.1.1
  have hb := X.1.2.1
  unfold m_test at hf
  refine lv_aload_n hx hb dX3_test_0 rfl (lv_at hl 0 rfl) ?_
  refine lv_iconst (v := 0) hx hb dX3_test_1 (by decide) ?_
  refine mp_35 X hW dX3_test_2 (fun H locs hW => ?_)
  refine lv_iconst (v := 1) hx hb dX3_test_5 (by decide) ?_
  refine lv_istore_n (lv' := [(1, .int 1), (0, .ref (ad 999))]) hx hb dX3_test_6 rfl hl (by decide) rfl (fun ls hl => ?_)
  refine lv_iconst (v := 1) hx hb dX3_test_7 (by decide) ?_
  refine lv_istore_n (lv' := [(2, .int 1), (1, .int 1), (0, .ref (ad 999))]) hx hb dX3_test_8 rfl hl (by decide) rfl (fun ls hl => ?_)
  refine wm_test_9 X had (fun σ_62 H locs ls hW hl hf => ?_) _ _ _ _ _ _ _ hW (lv_sub hl [2, 1, 0] rfl) hf
  exact m_vret X hW hf dX3_test_202
theorem w_test (l : Launch) {g : gG} {ad : Nat → Nat} (had : mI ad) {σr : cS}  {σ : cS}  (hf : m_test σ = some σr) : MM l yX3_test cX3_test 5 none 12 330 g ad σ σr [.ref (ad 999)] none :=
  MC.of (by decide) mIds_nd had (Nat.le_of_ble_eq_true rfl) (fun p e s m below meth c A ls X hW hl => wb_test X had hW hl hf)
theorem k_test {p : Program} {l : Launch} {e : Env} {R : Room} {s : State} {m : MethodId} {args : Array Value} {below : List Frame} {meth : Method} {c : Code} {H : Heap} {locs : List Loc} {Q : State → Prop} {cc : ByteArray} {nL : Nat} {ret : Option FieldType} {g : gG} {A : Nat → Prop} {ad : Nat → Nat} {pc : Nat} {ls : Array Slot} {rest : List Value} {lv : List (Nat × Value)} {σr : cS}  {σ : cS} (X : MX p s m args meth c cc nL RX3 ret g A) (hW : WB g A s.heap mIds ad (mE g ad σ) H locs) (had : mI ad)  (hf : m_test σ = some σr) (hR : 13 ≤ R.frames ∧ 354 ≤ R.locals) (hl : lv_has ls nL lv) (hcat : (rest.map fun v => v.category).sum ≤ 8) (hdg : decode cc pc = .ok (.invokevirtual 371, 3)) (kk : ∀ (H1 : Heap) (l1 : List Loc), WB g A s.heap mIds ad (mE g ad σr) H1 l1 → W p l e R s m args below meth c H1 l1 0 0 Q (F0 m (pc + 3) ls (rest))) : W p l e R s m args below meth c H locs 0 0 Q (F0 m pc ls (.ref (ad 999) :: rest)) :=
  r_callV X hW Sub.all (w_test l had hf) (lw_V q1505 q1507 qs71 q126 q1508) ⟨rfl, by decide, by decide, by decide +kernel⟩ m_999 mE_o rfl (n := 0) hR hl rfl rfl hcat ⟨Nat.zero_le _, Nat.zero_le _⟩ hdg kk
-- ruleClause
noncomputable def m_ruleClause (σ : cS) (v1 : Int32) : Option (cS) :=
  ((m_blanks σ).bind fun σ_2 => ((m_stood σ_2 41).bind fun r_4 => if r_4 = 0 then (((m_fails σ_2 0 (σ_2.1 999 28)).bind fun σ_24 => some σ_24)) else (if v1 = 12 then (((m_fails σ_2 4 (σ_2.1 999 28)).bind fun σ_22 => some σ_22)) else (nmb (si σ_2 999 28 ((σ_2.1 999 28) + 5)) fun σ_7 => (gd (inb ((12 * ((si σ_2 999 28 ((σ_2.1 999 28) + 5)).1 999 30)) + v1) 72) (((m_sum (si σ_7 41 (ix ((12 * ((si σ_2 999 28 ((σ_2.1 999 28) + 5)).1 999 30)) + v1)) ((si σ_2 999 28 ((σ_2.1 999 28) + 5)).1 999 32))).bind fun σ_11 => ((if ((si σ_11 42 (ix ((12 * ((si σ_2 999 28 ((σ_2.1 999 28) + 5)).1 999 30)) + v1)) (σ_11.1 999 32)).1 999 29) = 0 then (((m_takes (si σ_11 42 (ix ((12 * ((si σ_2 999 28 ((σ_2.1 999 28) + 5)).1 999 30)) + v1)) (σ_11.1 999 32)) 42).bind fun (σ_17, r_16) => if r_16 = 0 then (some (σ_17)) else (((m_test σ_17).bind fun σ_20 => some (σ_20))))) else (some ((si σ_11 42 (ix ((12 * ((si σ_2 999 28 ((σ_2.1 999 28) + 5)).1 999 30)) + v1)) (σ_11.1 999 32)))) : Option (cS)).bind fun σ_12 => (some (si σ_12 43 (ix ((12 * ((si σ_2 999 28 ((σ_2.1 999 28) + 5)).1 999 30)) + v1)) (σ_12.1 999 32)))))))))))
set_option maxHeartbeats 4000000 in
theorem wb_ruleClause {p : Program} {l : Launch} {e : Env} {s : State} {m : MethodId} {args : Array Value} {below : List Frame} {meth : Method} {c : Code} {g : gG} {A : Nat → Prop} {ad : Nat → Nat} (X : MX p s m args meth c cX3_ruleClause 4 RX3 none g A) (had : mI ad) {σr : cS}  {σ : cS} {v1 : Int32}  {H : Heap} {locs : List Loc} {ls : Array Slot} (hW : WB g A s.heap mIds ad (mE g ad σ) H locs) (hl : lv_has ls 4 [(0, .ref (ad 999)), (1, .int v1)]) (hf : m_ruleClause σ v1 = some σr) : W p l e (rm_ 13 354) s m args below meth c H locs 0 0 (Qm below g mIds ad (mE g ad σr) none A args s) (F0 m 0 ls []) := by
  have hx := X.1.1
  have hb := X.1.2.1
  unfold m_ruleClause at hf
  refine lv_aload_n hx hb dX3_ruleClause_0 rfl (lv_at hl 0 rfl) ?_
  obtain ⟨σ_2, h_1, hf⟩ := bd_e hf
  refine k_blanks X hW had h_1 (by decide) hl (Nat.le_of_ble_eq_true rfl) dX3_ruleClause_1 (fun H locs hW => ?_)
  refine lv_aload_n hx hb dX3_ruleClause_4 rfl (lv_at hl 0 rfl) ?_
  refine mg_28 X hW dX3_ruleClause_5 ?_
  refine lv_istore_n (lv' := [(2, .int (σ_2.1 999 28)), (0, .ref (ad 999)), (1, .int v1)]) hx hb dX3_ruleClause_8 rfl hl (by decide) rfl (fun ls hl => ?_)
  refine lv_aload_n hx hb dX3_ruleClause_9 rfl (lv_at hl 1 rfl) ?_
  refine va_ldcSw hx hb X.1.2.2.2.1 (X.2.2.2.2.1.1 41 _ rfl).1 dX3_ruleClause_10 ?_
  obtain ⟨r_4, h_3, hf⟩ := bd_e hf
  refine k_stood X hW had (by decide) h_3 (by decide) hl (Nat.le_of_ble_eq_true rfl) dX3_ruleClause_13 (fun H locs hW => ?_)
  refine lv_if_ne (tgt := 26) hx hb dX3_ruleClause_16 (by decide) (fun c_5 => ?_) (fun c_5 => ?_)
  · replace hf := ine hf c_5
    refine lv_iload_n hx hb dX3_ruleClause_26 rfl (lv_at hl 2 rfl) ?_
    refine lv_bipush (v := 12) hx hb dX3_ruleClause_27 (by decide) ?_
    refine lv_icmp_ne (tgt := 39) hx hb dX3_ruleClause_29 (by decide) (fun c_6 => ?_) (fun c_6 => ?_)
    · replace hf := ine hf c_6
      refine lv_aload_n hx hb dX3_ruleClause_39 rfl (lv_at hl 1 rfl) ?_
      refine lv_dup hx hb dX3_ruleClause_40 rfl ?_
      refine mg_28 X hW dX3_ruleClause_41 ?_
      refine lv_iconst (v := 5) hx hb dX3_ruleClause_44 (by decide) ?_
      refine lv_iadd hx hb dX3_ruleClause_45 ?_
      refine mp_28 X hW dX3_ruleClause_46 (fun H locs hW => ?_)
      refine lv_bipush (v := 12) hx hb dX3_ruleClause_49 (by decide) ?_
      refine lv_aload_n hx hb dX3_ruleClause_51 rfl (lv_at hl 1 rfl) ?_
      refine mg_30 X hW dX3_ruleClause_52 ?_
      refine lv_imul hx hb dX3_ruleClause_55 ?_
      refine lv_iload_n hx hb dX3_ruleClause_56 rfl (lv_at hl 2 rfl) ?_
      refine lv_iadd hx hb dX3_ruleClause_57 ?_
      refine lv_istore_n (lv' := [(3, .int ((12 * ((si σ_2 999 28 ((σ_2.1 999 28) + 5)).1 999 30)) + v1)), (2, .int (σ_2.1 999 28)), (0, .ref (ad 999)), (1, .int v1)]) hx hb dX3_ruleClause_58 rfl hl (by decide) rfl (fun ls hl => ?_)
      refine lv_aload_n hx hb dX3_ruleClause_59 rfl (lv_at hl 2 rfl) ?_
      refine mg_41 X hW dX3_ruleClause_60 ?_
      refine lv_iload_n hx hb dX3_ruleClause_63 rfl (lv_at hl 0 rfl) ?_
      refine lv_aload_n hx hb dX3_ruleClause_64 rfl (lv_at hl 2 rfl) ?_
      refine mg_32 X hW dX3_ruleClause_65 ?_
      obtain ⟨σ_7, e_8, hf⟩ := nmb_e hf
      rw [← e_8] at hW
      clear e_8
      obtain ⟨h_9, hf⟩ := gd_e hf
      refine ms_41 X hW h_9 dX3_ruleClause_68 (fun H locs hW => ?_)
      refine lv_aload_n hx hb dX3_ruleClause_69 rfl (lv_at hl 2 rfl) ?_
      obtain ⟨σ_11, h_10, hf⟩ := bd_e hf
      refine k_sum X hW had h_10 (by decide) hl (Nat.le_of_ble_eq_true rfl) dX3_ruleClause_70 (fun H locs hW => ?_)
      refine lv_aload_n hx hb dX3_ruleClause_73 rfl (lv_at hl 2 rfl) ?_
      refine mg_42 X hW dX3_ruleClause_74 ?_
      refine lv_iload_n hx hb dX3_ruleClause_77 rfl (lv_at hl 0 rfl) ?_
      refine lv_aload_n hx hb dX3_ruleClause_78 rfl (lv_at hl 2 rfl) ?_
      refine mg_32 X hW dX3_ruleClause_79 ?_
      refine ms_42 X hW h_9 dX3_ruleClause_82 (fun H locs hW => ?_)
      refine lv_aload_n hx hb dX3_ruleClause_83 rfl (lv_at hl 2 rfl) ?_
      refine mg_29 X hW dX3_ruleClause_84 ?_
      obtain ⟨σ_12, hD_13, hf⟩ := bd_e hf
      have hJ : ∀ (H : Heap) (locs : List Loc) (ls : Array Slot), WB g A s.heap mIds ad (mE g ad σ_12) H locs → lv_has ls 4 [(0, .ref (ad 999)), (3, .int ((12 * ((si σ_2 999 28 ((σ_2.1 999 28) + 5)).1 999 30)) + v1))] → W p l e (rm_ 13 354) s m args below meth c H locs 0 0 (Qm below g mIds ad (mE g ad σr) none A args s) (F0 m 104 ls []) := by
        intro H locs ls hW hl
        refine lv_aload_n hx hb dX3_ruleClause_104 rfl (lv_at hl 0 rfl) ?_
        refine mg_43 X hW dX3_ruleClause_105 ?_
        refine lv_iload_n hx hb dX3_ruleClause_108 rfl (lv_at hl 1 rfl) ?_
        refine lv_aload_n hx hb dX3_ruleClause_109 rfl (lv_at hl 0 rfl) ?_
        refine mg_32 X hW dX3_ruleClause_110 ?_
        refine ms_43 X hW h_9 dX3_ruleClause_113 (fun H locs hW => ?_)
        exact m_vret X hW hf dX3_ruleClause_114
      clear hf
      refine lv_if_ne (tgt := 104) hx hb dX3_ruleClause_87 (by decide) (fun c_14 => ?_) (fun c_14 => ?_)
      · replace hD_13 := ine hD_13 c_14
        cases hD_13
        exact hJ _ _ _ hW (lv_sub hl [2, 0] rfl)
      · replace hD_13 := ip hD_13 c_14
        refine lv_aload_n hx hb dX3_ruleClause_90 rfl (lv_at hl 2 rfl) ?_
        refine va_ldcSw hx hb X.1.2.2.2.1 (X.2.2.2.2.1.1 42 _ rfl).1 dX3_ruleClause_91 ?_
        obtain ⟨⟨σ_17, r_16⟩, h_15, hD_13⟩ := bd_e hD_13
        refine k_takes X hW had (by decide) h_15 (by decide) hl (Nat.le_of_ble_eq_true rfl) dX3_ruleClause_94 (fun H locs hW => ?_)
        refine lv_if_eq (tgt := 104) hx hb dX3_ruleClause_97 (by decide) (fun c_18 => ?_) (fun c_18 => ?_)
        · replace hD_13 := ip hD_13 c_18
          cases hD_13
          exact hJ _ _ _ hW (lv_sub hl [2, 0] rfl)
        · replace hD_13 := ine hD_13 c_18
          refine lv_aload_n hx hb dX3_ruleClause_100 rfl (lv_at hl 2 rfl) ?_
          obtain ⟨σ_20, h_19, hD_13⟩ := bd_e hD_13
          refine k_test X hW had h_19 (by decide) hl (Nat.le_of_ble_eq_true rfl) dX3_ruleClause_101 (fun H locs hW => ?_)
          cases hD_13
          exact hJ _ _ _ hW (lv_sub hl [2, 0] rfl)
    · replace hf := ip hf c_6
      refine lv_aload_n hx hb dX3_ruleClause_32 rfl (lv_at hl 1 rfl) ?_
      refine lv_iconst (v := 4) hx hb dX3_ruleClause_33 (by decide) ?_
      refine lv_iload_n hx hb dX3_ruleClause_34 rfl (lv_at hl 0 rfl) ?_
      obtain ⟨σ_22, h_21, hf⟩ := bd_e hf
      refine k_fails X hW had h_21 (by decide) hl (Nat.le_of_ble_eq_true rfl) dX3_ruleClause_35 (fun H locs hW => ?_)
      exact m_vret X hW hf dX3_ruleClause_38
  · replace hf := ip hf c_5
    refine lv_aload_n hx hb dX3_ruleClause_19 rfl (lv_at hl 1 rfl) ?_
    refine lv_iconst (v := 0) hx hb dX3_ruleClause_20 (by decide) ?_
    refine lv_iload_n hx hb dX3_ruleClause_21 rfl (lv_at hl 0 rfl) ?_
    obtain ⟨σ_24, h_23, hf⟩ := bd_e hf
    refine k_fails X hW had h_23 (by decide) hl (Nat.le_of_ble_eq_true rfl) dX3_ruleClause_22 (fun H locs hW => ?_)
    exact m_vret X hW hf dX3_ruleClause_25
theorem w_ruleClause (l : Launch) {g : gG} {ad : Nat → Nat} (had : mI ad) {σr : cS}  {σ : cS} {v1 : Int32}  (hf : m_ruleClause σ v1 = some σr) : MM l yX3_ruleClause cX3_ruleClause 4 none 13 354 g ad σ σr [.ref (ad 999), .int v1] none :=
  MC.of (by decide) mIds_nd had (Nat.le_of_ble_eq_true rfl) (fun p e s m below meth c A ls X hW hl => wb_ruleClause X had hW hl hf)
theorem k_ruleClause {p : Program} {l : Launch} {e : Env} {R : Room} {s : State} {m : MethodId} {args : Array Value} {below : List Frame} {meth : Method} {c : Code} {H : Heap} {locs : List Loc} {Q : State → Prop} {cc : ByteArray} {nL : Nat} {ret : Option FieldType} {g : gG} {A : Nat → Prop} {ad : Nat → Nat} {pc : Nat} {ls : Array Slot} {rest : List Value} {lv : List (Nat × Value)} {σr : cS}  {σ : cS} {v1 : Int32} (X : MX p s m args meth c cc nL RX3 ret g A) (hW : WB g A s.heap mIds ad (mE g ad σ) H locs) (had : mI ad)  (hf : m_ruleClause σ v1 = some σr) (hR : 14 ≤ R.frames ∧ 377 ≤ R.locals) (hl : lv_has ls nL lv) (hcat : (rest.map fun v => v.category).sum ≤ 8) (hdg : decode cc pc = .ok (.invokevirtual 377, 3)) (kk : ∀ (H1 : Heap) (l1 : List Loc), WB g A s.heap mIds ad (mE g ad σr) H1 l1 → W p l e R s m args below meth c H1 l1 0 0 Q (F0 m (pc + 3) ls (rest))) : W p l e R s m args below meth c H locs 0 0 Q (F0 m pc ls (.int v1 :: .ref (ad 999) :: rest)) :=
  r_callV X hW Sub.all (w_ruleClause l had hf) (lw_V q1462 q1464 qs64 q126 q1465) ⟨rfl, by decide, by decide, by decide +kernel⟩ m_999 mE_o rfl (n := 1) hR hl rfl rfl hcat ⟨Nat.zero_le _, Nat.zero_le _⟩ hdg kk
-- rule
noncomputable def m_rule_27 {ρ : Type}  (K : cS → Int32 → Option ρ) : Nat → cS → Int32 → Int32 → Option ρ
  | 0, _, _, _ => none
  | n + 1, σ, v1, v2 => if v2 = 0 then (K σ v1) else (((m_ruleClause σ v1).bind fun σ_6 => ((m_goesOn σ_6).bind fun (σ_9, r_8) => m_rule_27 K n σ_9 (v1 + 1) r_8)))
set_option maxHeartbeats 4000000 in
theorem wm_rule_27 {p : Program} {l : Launch} {e : Env} {s : State} {m : MethodId} {args : Array Value} {below : List Frame} {meth : Method} {c : Code} {g : gG} {A : Nat → Prop} {ad : Nat → Nat} (X : MX p s m args meth c cX3_rule 3 RX3 (some .int) g A) (had : mI ad) {ρ : Type} {res : ρ} {Q : State → Prop}   {K : cS → Int32 → Option ρ}
    (hK : ∀ (σ : cS) (k1 : Int32) (H : Heap) (locs : List Loc) (ls : Array Slot), WB g A s.heap mIds ad (mE g ad σ) H locs → lv_has ls 3 [(0, .ref (ad 999)), (1, .int k1)] → K σ k1 = some res → W p l e (rm_ 14 377) s m args below meth c H locs 0 0 Q (F0 m 47 ls [])) :
    ∀ (n : Nat) (σ : cS) (v1 : Int32) (v2 : Int32) (H : Heap) (locs : List Loc) (ls : Array Slot), WB g A s.heap mIds ad (mE g ad σ) H locs → lv_has ls 3 [(0, .ref (ad 999)), (1, .int v1), (2, .int v2)] → m_rule_27 K n σ v1 v2 = some res → W p l e (rm_ 14 377) s m args below meth c H locs 0 0 Q (F0 m 27 ls []) := by
  have hx := X.1.1
  have hb := X.1.2.1
  intro n
  induction n with
  | zero =>
    intro σ v1 v2 H locs ls hW hl hf
    rw [m_rule_27] at hf
    cases hf
  | succ n ih =>
    intro σ v1 v2 H locs ls hW hl hf
    rw [m_rule_27] at hf
    refine lv_iload_n hx hb dX3_rule_27 rfl (lv_at hl 2 rfl) ?_
    refine lv_if_eq (tgt := 47) hx hb dX3_rule_28 (by decide) (fun c_4 => ?_) (fun c_4 => ?_)
    · replace hf := ip hf c_4
      exact hK _ _ _ _ _ hW (lv_sub hl [0, 1] rfl) hf
    · replace hf := ine hf c_4
      refine lv_aload_n hx hb dX3_rule_31 rfl (lv_at hl 0 rfl) ?_
      refine lv_iload_n hx hb dX3_rule_32 rfl (lv_at hl 1 rfl) ?_
      obtain ⟨σ_6, h_5, hf⟩ := bd_e hf
      refine k_ruleClause X hW had h_5 (by decide) hl (Nat.le_of_ble_eq_true rfl) dX3_rule_33 (fun H locs hW => ?_)
      refine lv_iinc (v := (v1 + 1)) (lv' := [(1, .int (v1 + 1)), (0, .ref (ad 999)), (2, .int v2)]) hx hb dX3_rule_36 hl (k := 1) rfl (ii_v _ _ _ (by decide)) (by decide) rfl (fun ls hl => ?_)
      refine lv_aload_n hx hb dX3_rule_39 rfl (lv_at hl 1 rfl) ?_
      obtain ⟨⟨σ_9, r_8⟩, h_7, hf⟩ := bd_e hf
      refine k_goesOn X hW had h_7 (by decide) hl (Nat.le_of_ble_eq_true rfl) dX3_rule_40 (fun H locs hW => ?_)
      refine lv_istore_n (lv' := [(2, .int r_8), (1, .int (v1 + 1)), (0, .ref (ad 999))]) hx hb dX3_rule_43 rfl hl (by decide) rfl (fun ls hl => ?_)
      refine lv_goto (tgt := 27) hx hb dX3_rule_44 (by decide) ?_
      exact ih _ _ _ _ _ _ hW (lv_sub hl [2, 1, 0] rfl) hf
noncomputable def m_rule (σ : cS) : Option (cS × Int32) :=
  if (σ.1 999 31) = 6 then (some (σ, (-1))) else (((m_starts (si σ 999 30 (σ.1 999 31))).bind fun σ_3 => m_rule_27  (fun σ_10 v_11 => (nmb (si σ_10 999 27 0) fun σ_12 => (gd (inb ((si σ_10 999 27 0).1 999 30) 6) (((if ((si σ_12 40 (ix ((si σ_10 999 27 0).1 999 30)) v_11).1 999 29) = 0 then (some (1)) else (some (0)) : Option (Int32)).bind fun t_15 => (nmb (si σ_12 40 (ix ((si σ_10 999 27 0).1 999 30)) v_11) fun σ_17 => (if ((si σ_17 999 31 (((si σ_12 40 (ix ((si σ_10 999 27 0).1 999 30)) v_11).1 999 31) + t_15)).1 999 29) ≤ 0 then (some ((si σ_17 999 31 (((si σ_12 40 (ix ((si σ_10 999 27 0).1 999 30)) v_11).1 999 31) + t_15)), (((si σ_17 999 31 (((si σ_12 40 (ix ((si σ_10 999 27 0).1 999 30)) v_11).1 999 31) + t_15)).1 999 31) - 1))) else (some ((si σ_17 999 31 (((si σ_12 40 (ix ((si σ_10 999 27 0).1 999 30)) v_11).1 999 31) + t_15)), ((-2) - ((si σ_17 999 31 (((si σ_12 40 (ix ((si σ_10 999 27 0).1 999 30)) v_11).1 999 31) + t_15)).1 999 29))))))))))) FU σ_3 0 1))
set_option maxHeartbeats 4000000 in
theorem wb_rule {p : Program} {l : Launch} {e : Env} {s : State} {m : MethodId} {args : Array Value} {below : List Frame} {meth : Method} {c : Code} {g : gG} {A : Nat → Prop} {ad : Nat → Nat} (X : MX p s m args meth c cX3_rule 3 RX3 (some .int) g A) (had : mI ad) {σr : cS} {r : Int32} {σ : cS}  {H : Heap} {locs : List Loc} {ls : Array Slot} (hW : WB g A s.heap mIds ad (mE g ad σ) H locs) (hl : lv_has ls 3 [(0, .ref (ad 999))]) (hf : m_rule σ = some (σr, r)) : W p l e (rm_ 14 377) s m args below meth c H locs 0 0 (Qm below g mIds ad (mE g ad σr) (some (.int r)) A args s) (F0 m 0 ls []) := by
  have hx := X.1.1
  have hb := X.1.2.1
  unfold m_rule at hf
  refine lv_aload_n hx hb dX3_rule_0 rfl (lv_at hl 0 rfl) ?_
  refine mg_31 X hW dX3_rule_1 ?_
  refine lv_bipush (v := 6) hx hb dX3_rule_4 (by decide) ?_
  refine lv_icmp_ne (tgt := 11) hx hb dX3_rule_6 (by decide) (fun c_1 => ?_) (fun c_1 => ?_)
  · replace hf := ine hf c_1
    refine lv_aload_n hx hb dX3_rule_11 rfl (lv_at hl 0 rfl) ?_
    refine lv_aload_n hx hb dX3_rule_12 rfl (lv_at hl 0 rfl) ?_
    refine mg_31 X hW dX3_rule_13 ?_
    refine mp_30 X hW dX3_rule_16 (fun H locs hW => ?_)
    refine lv_aload_n hx hb dX3_rule_19 rfl (lv_at hl 0 rfl) ?_
    obtain ⟨σ_3, h_2, hf⟩ := bd_e hf
    refine k_starts X hW had h_2 (by decide) hl (Nat.le_of_ble_eq_true rfl) dX3_rule_20 (fun H locs hW => ?_)
    refine lv_iconst (v := 0) hx hb dX3_rule_23 (by decide) ?_
    refine lv_istore_n (lv' := [(1, .int 0), (0, .ref (ad 999))]) hx hb dX3_rule_24 rfl hl (by decide) rfl (fun ls hl => ?_)
    refine lv_iconst (v := 1) hx hb dX3_rule_25 (by decide) ?_
    refine lv_istore_n (lv' := [(2, .int 1), (1, .int 0), (0, .ref (ad 999))]) hx hb dX3_rule_26 rfl hl (by decide) rfl (fun ls hl => ?_)
    refine wm_rule_27 X had (fun σ_10 v_11 H locs ls hW hl hf => ?_) _ _ _ _ _ _ _ hW (lv_sub hl [2, 1, 0] rfl) hf
    refine lv_aload_n hx hb dX3_rule_47 rfl (lv_at hl 0 rfl) ?_
    refine lv_iconst (v := 0) hx hb dX3_rule_48 (by decide) ?_
    refine mp_27 X hW dX3_rule_49 (fun H locs hW => ?_)
    refine lv_aload_n hx hb dX3_rule_52 rfl (lv_at hl 0 rfl) ?_
    refine mg_40 X hW dX3_rule_53 ?_
    refine lv_aload_n hx hb dX3_rule_56 rfl (lv_at hl 0 rfl) ?_
    refine mg_30 X hW dX3_rule_57 ?_
    refine lv_iload_n hx hb dX3_rule_60 rfl (lv_at hl 1 rfl) ?_
    obtain ⟨σ_12, e_13, hf⟩ := nmb_e hf
    rw [← e_13] at hW
    clear e_13
    obtain ⟨h_14, hf⟩ := gd_e hf
    refine ms_40 X hW h_14 dX3_rule_61 (fun H locs hW => ?_)
    refine lv_aload_n hx hb dX3_rule_62 rfl (lv_at hl 0 rfl) ?_
    refine lv_dup hx hb dX3_rule_63 rfl ?_
    refine mg_31 X hW dX3_rule_64 ?_
    refine lv_aload_n hx hb dX3_rule_67 rfl (lv_at hl 0 rfl) ?_
    refine mg_29 X hW dX3_rule_68 ?_
    obtain ⟨t_15, hD_16, hf⟩ := bd_e hf
    have hJ : ∀ (H : Heap) (locs : List Loc) (ls : Array Slot), WB g A s.heap mIds ad (mE g ad (si σ_12 40 (ix ((si σ_10 999 27 0).1 999 30)) v_11)) H locs → lv_has ls 3 [(0, .ref (ad 999))] → W p l e (rm_ 14 377) s m args below meth c H locs 0 0 (Qm below g mIds ad (mE g ad σr) (some (.int r)) A args s) (F0 m 79 ls [.int t_15, .int ((si σ_12 40 (ix ((si σ_10 999 27 0).1 999 30)) v_11).1 999 31), .ref (ad 999)]) := by
      intro H locs ls hW hl
      refine lv_iadd hx hb dX3_rule_79 ?_
      obtain ⟨σ_17, e_18, hf⟩ := nmb_e hf
      rw [← e_18] at hW
      clear e_18
      refine mp_31 X hW dX3_rule_80 (fun H locs hW => ?_)
      refine lv_aload_n hx hb dX3_rule_83 rfl (lv_at hl 0 rfl) ?_
      refine mg_29 X hW dX3_rule_84 ?_
      refine lv_if_le (tgt := 100) hx hb dX3_rule_87 (by decide) (fun c_19 => ?_) (fun c_19 => ?_)
      · replace hf := ip hf c_19
        refine lv_aload_n hx hb dX3_rule_100 rfl (lv_at hl 0 rfl) ?_
        refine mg_31 X hW dX3_rule_101 ?_
        refine lv_iconst (v := 1) hx hb dX3_rule_104 (by decide) ?_
        refine lv_isub hx hb dX3_rule_105 ?_
        exact m_iret X hW hf dX3_rule_106
      · replace hf := ine hf c_19
        refine lv_bipush (v := (-2)) hx hb dX3_rule_90 (by decide) ?_
        refine lv_aload_n hx hb dX3_rule_92 rfl (lv_at hl 0 rfl) ?_
        refine mg_29 X hW dX3_rule_93 ?_
        refine lv_isub hx hb dX3_rule_96 ?_
        refine lv_goto (tgt := 106) hx hb dX3_rule_97 (by decide) ?_
        exact m_iret X hW hf dX3_rule_106
    clear hf
    refine lv_if_ne (tgt := 78) hx hb dX3_rule_71 (by decide) (fun c_20 => ?_) (fun c_20 => ?_)
    · replace hD_16 := ine hD_16 c_20
      refine lv_iconst (v := 0) hx hb dX3_rule_78 (by decide) ?_
      cases hD_16
      exact hJ _ _ _ hW (lv_sub hl [0] rfl)
    · replace hD_16 := ip hD_16 c_20
      refine lv_iconst (v := 1) hx hb dX3_rule_74 (by decide) ?_
      refine lv_goto (tgt := 79) hx hb dX3_rule_75 (by decide) ?_
      cases hD_16
      exact hJ _ _ _ hW (lv_sub hl [0] rfl)
  · replace hf := ip hf c_1
    refine lv_iconst (v := (-1)) hx hb dX3_rule_9 (by decide) ?_
    exact m_iret X hW hf dX3_rule_10
theorem w_rule (l : Launch) {g : gG} {ad : Nat → Nat} (had : mI ad) {σr : cS} {r : Int32} {σ : cS}  (hf : m_rule σ = some (σr, r)) : MM l yX3_rule cX3_rule 3 (some .int) 14 377 g ad σ σr [.ref (ad 999)] (some (.int r)) :=
  MC.of (by decide) mIds_nd had (Nat.le_of_ble_eq_true rfl) (fun p e s m below meth c A ls X hW hl => wb_rule X had hW hl hf)
-- force
noncomputable def m_force (σ : cS) (v1 : Int32) : Option (cS × Int32) :=
  ((m_in v1.toInt64 (-1) (((σ.1 999 31) - 1).toInt64)).bind fun r_2 => if r_2 = 0 then (some (σ, (-2))) else (some ((si σ 1 (ix 8) v1), (σ.1 1 (ix 8)))))
set_option maxHeartbeats 4000000 in
theorem wb_force {p : Program} {l : Launch} {e : Env} {s : State} {m : MethodId} {args : Array Value} {below : List Frame} {meth : Method} {c : Code} {g : gG} {A : Nat → Prop} {ad : Nat → Nat} (X : MX p s m args meth c cX3_force 3 RX3 (some .int) g A) (had : mI ad) {σr : cS} {r : Int32} {σ : cS} {v1 : Int32}  {H : Heap} {locs : List Loc} {ls : Array Slot} (hW : WB g A s.heap mIds ad (mE g ad σ) H locs) (hl : lv_has ls 3 [(0, .ref (ad 999)), (1, .int v1)]) (hf : m_force σ v1 = some (σr, r)) : W p l e (rm_ 2 45) s m args below meth c H locs 0 0 (Qm below g mIds ad (mE g ad σr) (some (.int r)) A args s) (F0 m 0 ls []) := by
  have hx := X.1.1
  have hb := X.1.2.1
  unfold m_force at hf
  refine lv_iload_n hx hb dX3_force_0 rfl (lv_at hl 1 rfl) ?_
  refine lv_i2l (v := v1.toInt64) hx hb dX3_force_1 rfl ?_
  refine lv_ldc2 (v := (-1)) hx hb X.1.2.2.2.1 (X.1.2.2.2.2 _ q1536) dX3_force_2 ?_
  refine lv_aload_n hx hb dX3_force_5 rfl (lv_at hl 0 rfl) ?_
  refine mg_31 X hW dX3_force_6 ?_
  refine lv_iconst (v := 1) hx hb dX3_force_9 (by decide) ?_
  refine lv_isub hx hb dX3_force_10 ?_
  refine lv_i2l (v := ((σ.1 999 31) - 1).toInt64) hx hb dX3_force_11 rfl ?_
  obtain ⟨r_2, h_1, hf⟩ := bd_e hf
  refine k_in X hW h_1 (by decide) hl (Nat.le_of_ble_eq_true rfl) dX3_force_12 (fun H locs hW => ?_)
  refine lv_if_ne (tgt := 21) hx hb dX3_force_15 (by decide) (fun c_3 => ?_) (fun c_3 => ?_)
  · replace hf := ine hf c_3
    refine lv_aload_n hx hb dX3_force_21 rfl (lv_at hl 0 rfl) ?_
    refine mg_1 X hW dX3_force_22 ?_
    refine lv_bipush (v := 8) hx hb dX3_force_25 (by decide) ?_
    refine ml_1 X hW (by decide) dX3_force_27 ?_
    refine lv_istore_n (lv' := [(2, .int (σ.1 1 (ix 8))), (0, .ref (ad 999)), (1, .int v1)]) hx hb dX3_force_28 rfl hl (by decide) rfl (fun ls hl => ?_)
    refine lv_aload_n hx hb dX3_force_29 rfl (lv_at hl 1 rfl) ?_
    refine mg_1 X hW dX3_force_30 ?_
    refine lv_bipush (v := 8) hx hb dX3_force_33 (by decide) ?_
    refine lv_iload_n hx hb dX3_force_35 rfl (lv_at hl 2 rfl) ?_
    refine ms_1 X hW (by decide) dX3_force_36 (fun H locs hW => ?_)
    refine lv_iload_n hx hb dX3_force_37 rfl (lv_at hl 0 rfl) ?_
    exact m_iret X hW hf dX3_force_38
  · replace hf := ip hf c_3
    refine lv_bipush (v := (-2)) hx hb dX3_force_18 (by decide) ?_
    exact m_iret X hW hf dX3_force_20
theorem w_force (l : Launch) {g : gG} {ad : Nat → Nat} (had : mI ad) {σr : cS} {r : Int32} {σ : cS} {v1 : Int32}  (hf : m_force σ v1 = some (σr, r)) : MM l yX3_force cX3_force 3 (some .int) 2 45 g ad σ σr [.ref (ad 999), .int v1] (some (.int r)) :=
  MC.of (by decide) mIds_nd had (Nat.le_of_ble_eq_true rfl) (fun p e s m below meth c A ls X hW hl => wb_force X had hW hl hf)
-- isMile
noncomputable def m_isMile (σ : cS) (v1 : Int32) : Option (Int32) :=
  ((m_in v1.toInt64 0 (((σ.1 1 (ix 0)) - 1).toInt64)).bind fun r_2 => gd (zb r_2) (some r_2))
set_option maxHeartbeats 4000000 in
theorem wb_isMile {p : Program} {l : Launch} {e : Env} {s : State} {m : MethodId} {args : Array Value} {below : List Frame} {meth : Method} {c : Code} {g : gG} {A : Nat → Prop} {ad : Nat → Nat} (X : MX p s m args meth c cX3_isMile 2 RX3 (some .boolean) g A) (had : mI ad) {r : Int32} {σ : cS} {v1 : Int32}  {H : Heap} {locs : List Loc} {ls : Array Slot} (hW : WB g A s.heap mIds ad (mE g ad σ) H locs) (hl : lv_has ls 2 [(0, .ref (ad 999)), (1, .int v1)]) (hf : m_isMile σ v1 = some r) : W p l e (rm_ 2 45) s m args below meth c H locs 0 0 (Qm below g mIds ad (mE g ad σ) (some (.int r)) A args s) (F0 m 0 ls []) := by
  have hx := X.1.1
  have hb := X.1.2.1
  unfold m_isMile at hf
  refine lv_iload_n hx hb dX3_isMile_0 rfl (lv_at hl 1 rfl) ?_
  refine lv_i2l (v := v1.toInt64) hx hb dX3_isMile_1 rfl ?_
  refine lv_lconst (v := 0) hx hb dX3_isMile_2 (by decide) ?_
  refine lv_aload_n hx hb dX3_isMile_3 rfl (lv_at hl 0 rfl) ?_
  refine mg_1 X hW dX3_isMile_4 ?_
  refine lv_iconst (v := 0) hx hb dX3_isMile_7 (by decide) ?_
  refine ml_1 X hW (by decide) dX3_isMile_8 ?_
  refine lv_iconst (v := 1) hx hb dX3_isMile_9 (by decide) ?_
  refine lv_isub hx hb dX3_isMile_10 ?_
  refine lv_i2l (v := ((σ.1 1 (ix 0)) - 1).toInt64) hx hb dX3_isMile_11 rfl ?_
  obtain ⟨r_2, h_1, hf⟩ := bd_e hf
  refine k_in X hW h_1 (by decide) hl (Nat.le_of_ble_eq_true rfl) dX3_isMile_12 (fun H locs hW => ?_)
  obtain ⟨h_3, hf⟩ := gd_e hf
  exact p_zret X hW hf h_3 dX3_isMile_15
theorem w_isMile (l : Launch) {g : gG} {ad : Nat → Nat} (had : mI ad) {r : Int32} {σ : cS} {v1 : Int32}  (hf : m_isMile σ v1 = some r) : MM l yX3_isMile cX3_isMile 2 (some .boolean) 2 45 g ad σ σ [.ref (ad 999), .int v1] (some (.int r)) :=
  MC.of (by decide) mIds_nd had (Nat.le_of_ble_eq_true rfl) (fun p e s m below meth c A ls X hW hl => wb_isMile X had hW hl hf)
theorem k_isMile {p : Program} {l : Launch} {e : Env} {R : Room} {s : State} {m : MethodId} {args : Array Value} {below : List Frame} {meth : Method} {c : Code} {H : Heap} {locs : List Loc} {Q : State → Prop} {cc : ByteArray} {nL : Nat} {ret : Option FieldType} {g : gG} {A : Nat → Prop} {ad : Nat → Nat} {pc : Nat} {ls : Array Slot} {rest : List Value} {lv : List (Nat × Value)} {r : Int32} {σ : cS} {v1 : Int32} (X : MX p s m args meth c cc nL RX3 ret g A) (hW : WB g A s.heap mIds ad (mE g ad σ) H locs) (had : mI ad)  (hf : m_isMile σ v1 = some r) (hR : 3 ≤ R.frames ∧ 66 ≤ R.locals) (hl : lv_has ls nL lv) (hcat : (rest.map fun v => v.category).sum ≤ 8) (hdg : decode cc pc = .ok (.invokevirtual 178, 3)) (kk : ∀ (H1 : Heap) (l1 : List Loc), WB g A s.heap mIds ad (mE g ad σ) H1 l1 → W p l e R s m args below meth c H1 l1 0 0 Q (F0 m (pc + 3) ls (.int r :: rest))) : W p l e R s m args below meth c H locs 0 0 Q (F0 m pc ls (.int v1 :: .ref (ad 999) :: rest)) :=
  r_callV X hW Sub.all (w_isMile l had hf) (lw_V q1541 q1543 qs77 q126 q1544) ⟨rfl, by decide, by decide, by decide +kernel⟩ m_999 mE_o rfl (n := 1) hR hl rfl rfl hcat ⟨Nat.zero_le _, Nat.zero_le _⟩ hdg kk
-- has
noncomputable def m_has (v0 : Int32) (v1 : Int32) : Option (Int32) :=
  if ((v0 >>> (v1 &&& 31)) &&& 1) = 1 then (some 1) else (some 0)
set_option maxHeartbeats 4000000 in
theorem wb_has {p : Program} {l : Launch} {e : Env} {s : State} {m : MethodId} {args : Array Value} {below : List Frame} {meth : Method} {c : Code} {g : gG} {A : Nat → Prop} (X : MX p s m args meth c cX3_has 2 RX3 (some .boolean) g A)  {r : Int32} {v0 : Int32} {v1 : Int32}  {H : Heap} {locs : List Loc} {ls : Array Slot} (hW : WB g A s.heap [] ad0 E0 H locs) (hl : lv_has ls 2 [(0, .int v0), (1, .int v1)]) (hf : m_has v0 v1 = some r) : W p l e (rm_ 1 20) s m args below meth c H locs 0 0 (Qm below g [] ad0 E0 (some (.int r)) A args s) (F0 m 0 ls []) := by
  have hx := X.1.1
  have hb := X.1.2.1
  unfold m_has at hf
  refine lv_iload_n hx hb dX3_has_0 rfl (lv_at hl 0 rfl) ?_
  refine lv_iload_n hx hb dX3_has_1 rfl (lv_at hl 1 rfl) ?_
  refine lv_ishr hx hb dX3_has_2 ?_
  refine lv_iconst (v := 1) hx hb dX3_has_3 (by decide) ?_
  refine lv_iand hx hb dX3_has_4 ?_
  refine lv_iconst (v := 1) hx hb dX3_has_5 (by decide) ?_
  refine lv_icmp_ne (tgt := 13) hx hb dX3_has_6 (by decide) (fun c_1 => ?_) (fun c_1 => ?_)
  · replace hf := ine hf c_1
    refine lv_iconst (v := 0) hx hb dX3_has_13 (by decide) ?_
    exact p_zret X hW hf (by decide) dX3_has_14
  · replace hf := ip hf c_1
    refine lv_iconst (v := 1) hx hb dX3_has_9 (by decide) ?_
    refine lv_goto (tgt := 14) hx hb dX3_has_10 (by decide) ?_
    exact p_zret X hW hf (by decide) dX3_has_14
theorem w_has (l : Launch) {g : gG} {r : Int32} {v0 : Int32} {v1 : Int32}  (hf : m_has v0 v1 = some r) : MS l yX3_has cX3_has 2 (some .boolean) 1 20 g [.int v0, .int v1] (some (.int r)) :=
  MC.of (by decide) List.nodup_nil wI_nil (Nat.le_of_ble_eq_true rfl) (fun p e s m below meth c A ls X hW hl => wb_has X hW hl hf)
theorem k_has {p : Program} {l : Launch} {e : Env} {R : Room} {s : State} {m : MethodId} {args : Array Value} {below : List Frame} {meth : Method} {c : Code} {H : Heap} {locs : List Loc} {Q : State → Prop} {cc : ByteArray} {nL : Nat} {ret : Option FieldType} {g : gG} {A : Nat → Prop} {ad : Nat → Nat} {ids : List Nat} {E : Nat → va_E} {pc : Nat} {ls : Array Slot} {rest : List Value} {lv : List (Nat × Value)} {r : Int32} {v0 : Int32} {v1 : Int32} (X : MX p s m args meth c cc nL RX3 ret g A) (hW : WB g A s.heap ids ad E H locs)  (hf : m_has v0 v1 = some r) (hR : 2 ≤ R.frames ∧ 41 ≤ R.locals) (hl : lv_has ls nL lv) (hcat : (rest.map fun v => v.category).sum ≤ 8) (hdg : decode cc pc = .ok (.invokestatic 174, 3)) (kk : ∀ (H1 : Heap) (l1 : List Loc), WB g A s.heap ids ad E H1 l1 → W p l e R s m args below meth c H1 l1 0 0 Q (F0 m (pc + 3) ls (.int r :: rest))) : W p l e R s m args below meth c H locs 0 0 Q (F0 m pc ls (.int v1 :: .int v0 :: rest)) :=
  r_callS X hW Sub.nil (w_has l hf) (lw_S q1549 q1550 q126 q1551) ⟨by decide, by decide, by decide +kernel⟩ (n := 2) hR hl rfl rfl hcat ⟨Nat.zero_le _, Nat.zero_le _⟩ hdg kk
-- isBaked
noncomputable def m_isBaked (σ : cS) (v1 : Int32) : Option (Int32) :=
  ((m_has (σ.1 1 (ix 4)) v1).bind fun r_2 => gd (zb r_2) (some r_2))
set_option maxHeartbeats 4000000 in
theorem wb_isBaked {p : Program} {l : Launch} {e : Env} {s : State} {m : MethodId} {args : Array Value} {below : List Frame} {meth : Method} {c : Code} {g : gG} {A : Nat → Prop} {ad : Nat → Nat} (X : MX p s m args meth c cX3_isBaked 2 RX3 (some .boolean) g A) (had : mI ad) {r : Int32} {σ : cS} {v1 : Int32}  {H : Heap} {locs : List Loc} {ls : Array Slot} (hW : WB g A s.heap mIds ad (mE g ad σ) H locs) (hl : lv_has ls 2 [(0, .ref (ad 999)), (1, .int v1)]) (hf : m_isBaked σ v1 = some r) : W p l e (rm_ 2 41) s m args below meth c H locs 0 0 (Qm below g mIds ad (mE g ad σ) (some (.int r)) A args s) (F0 m 0 ls []) := by
  have hx := X.1.1
  have hb := X.1.2.1
  unfold m_isBaked at hf
  refine lv_aload_n hx hb dX3_isBaked_0 rfl (lv_at hl 0 rfl) ?_
  refine mg_1 X hW dX3_isBaked_1 ?_
  refine lv_iconst (v := 4) hx hb dX3_isBaked_4 (by decide) ?_
  refine ml_1 X hW (by decide) dX3_isBaked_5 ?_
  refine lv_iload_n hx hb dX3_isBaked_6 rfl (lv_at hl 1 rfl) ?_
  obtain ⟨r_2, h_1, hf⟩ := bd_e hf
  refine k_has X hW h_1 (by decide) hl (Nat.le_of_ble_eq_true rfl) dX3_isBaked_7 (fun H locs hW => ?_)
  obtain ⟨h_3, hf⟩ := gd_e hf
  exact p_zret X hW hf h_3 dX3_isBaked_10
theorem w_isBaked (l : Launch) {g : gG} {ad : Nat → Nat} (had : mI ad) {r : Int32} {σ : cS} {v1 : Int32}  (hf : m_isBaked σ v1 = some r) : MM l yX3_isBaked cX3_isBaked 2 (some .boolean) 2 41 g ad σ σ [.ref (ad 999), .int v1] (some (.int r)) :=
  MC.of (by decide) mIds_nd had (Nat.le_of_ble_eq_true rfl) (fun p e s m below meth c A ls X hW hl => wb_isBaked X had hW hl hf)
theorem k_isBaked {p : Program} {l : Launch} {e : Env} {R : Room} {s : State} {m : MethodId} {args : Array Value} {below : List Frame} {meth : Method} {c : Code} {H : Heap} {locs : List Loc} {Q : State → Prop} {cc : ByteArray} {nL : Nat} {ret : Option FieldType} {g : gG} {A : Nat → Prop} {ad : Nat → Nat} {pc : Nat} {ls : Array Slot} {rest : List Value} {lv : List (Nat × Value)} {r : Int32} {σ : cS} {v1 : Int32} (X : MX p s m args meth c cc nL RX3 ret g A) (hW : WB g A s.heap mIds ad (mE g ad σ) H locs) (had : mI ad)  (hf : m_isBaked σ v1 = some r) (hR : 3 ≤ R.frames ∧ 62 ≤ R.locals) (hl : lv_has ls nL lv) (hcat : (rest.map fun v => v.category).sum ≤ 8) (hdg : decode cc pc = .ok (.invokevirtual 182, 3)) (kk : ∀ (H1 : Heap) (l1 : List Loc), WB g A s.heap mIds ad (mE g ad σ) H1 l1 → W p l e R s m args below meth c H1 l1 0 0 Q (F0 m (pc + 3) ls (.int r :: rest))) : W p l e R s m args below meth c H locs 0 0 Q (F0 m pc ls (.int v1 :: .ref (ad 999) :: rest)) :=
  r_callV X hW Sub.all (w_isBaked l had hf) (lw_V q1545 q1547 qs78 q126 q1548) ⟨rfl, by decide, by decide, by decide +kernel⟩ m_999 mE_o rfl (n := 1) hR hl rfl rfl hcat ⟨Nat.zero_le _, Nat.zero_le _⟩ hdg kk
-- mile
noncomputable def m_mile_88 {ρ : Type} (σ : cS) (v1 : Int32) (K : Int32 → Option ρ) : Nat → Int32 → Int32 → Option ρ
  | 0, _, _ => none
  | n + 1, v3, v4 => if (σ.1 1 (ix 2)) ≤ v4 then (K v3) else (gd (inb v4 8) (if (σ.1 6 (ix v4)) = v1 then (m_mile_88 σ v1 K n (v3 ||| (1 <<< (v4 &&& 31))) (v4 + 1)) else (m_mile_88 σ v1 K n (v3 ||| 0) (v4 + 1))))
set_option maxHeartbeats 4000000 in
theorem wm_mile_88 {p : Program} {l : Launch} {e : Env} {s : State} {m : MethodId} {args : Array Value} {below : List Frame} {meth : Method} {c : Code} {g : gG} {A : Nat → Prop} {ad : Nat → Nat} (X : MX p s m args meth c cX3_mile 5 RX3 (some .int) g A) (had : mI ad) {ρ : Type} {res : ρ} {Q : State → Prop} {v1 : Int32} {σ : cS}  {K : Int32 → Option ρ}
    (hK : ∀ (k3 : Int32) (H : Heap) (locs : List Loc) (ls : Array Slot), WB g A s.heap mIds ad (mE g ad σ) H locs → lv_has ls 5 [(3, .int k3)] → K k3 = some res → W p l e (rm_ 3 66) s m args below meth c H locs 0 0 Q (F0 m 127 ls [])) :
    ∀ (n : Nat) (v3 : Int32) (v4 : Int32) (H : Heap) (locs : List Loc) (ls : Array Slot), WB g A s.heap mIds ad (mE g ad σ) H locs → lv_has ls 5 [(0, .ref (ad 999)), (1, .int v1), (3, .int v3), (4, .int v4)] → m_mile_88 σ v1 K n v3 v4 = some res → W p l e (rm_ 3 66) s m args below meth c H locs 0 0 Q (F0 m 88 ls []) := by
  have hx := X.1.1
  have hb := X.1.2.1
  intro n
  induction n with
  | zero =>
    intro v3 v4 H locs ls hW hl hf
    rw [m_mile_88] at hf
    cases hf
  | succ n ih =>
    intro v3 v4 H locs ls hW hl hf
    rw [m_mile_88] at hf
    refine lv_iload hx hb dX3_mile_88 (lv_at hl 3 rfl) ?_
    refine lv_aload_n hx hb dX3_mile_90 rfl (lv_at hl 0 rfl) ?_
    refine mg_1 X hW dX3_mile_91 ?_
    refine lv_iconst (v := 2) hx hb dX3_mile_94 (by decide) ?_
    refine ml_1 X hW (by decide) dX3_mile_95 ?_
    refine lv_icmp_ge (tgt := 127) hx hb dX3_mile_96 (by decide) (fun c_15 => ?_) (fun c_15 => ?_)
    · replace hf := ip hf c_15
      exact hK _ _ _ _ hW (lv_sub hl [2] rfl) hf
    · replace hf := ine hf c_15
      refine lv_iload_n hx hb dX3_mile_99 rfl (lv_at hl 2 rfl) ?_
      refine lv_aload_n hx hb dX3_mile_100 rfl (lv_at hl 0 rfl) ?_
      refine mg_6 X hW dX3_mile_101 ?_
      refine lv_iload hx hb dX3_mile_104 (lv_at hl 3 rfl) ?_
      obtain ⟨h_16, hf⟩ := gd_e hf
      refine ml_6 X hW h_16 dX3_mile_106 ?_
      refine lv_iload_n hx hb dX3_mile_107 rfl (lv_at hl 1 rfl) ?_
      refine lv_icmp_ne (tgt := 118) hx hb dX3_mile_108 (by decide) (fun c_17 => ?_) (fun c_17 => ?_)
      · replace hf := ine hf c_17
        refine lv_iconst (v := 0) hx hb dX3_mile_118 (by decide) ?_
        refine lv_ior hx hb dX3_mile_119 ?_
        refine lv_istore_n (lv' := [(3, .int (v3 ||| 0)), (0, .ref (ad 999)), (1, .int v1), (4, .int v4)]) hx hb dX3_mile_120 rfl hl (by decide) rfl (fun ls hl => ?_)
        refine lv_iinc (v := (v4 + 1)) (lv' := [(4, .int (v4 + 1)), (3, .int (v3 ||| 0)), (0, .ref (ad 999)), (1, .int v1)]) hx hb dX3_mile_121 hl (k := 3) rfl (ii_v _ _ _ (by decide)) (by decide) rfl (fun ls hl => ?_)
        refine lv_goto (tgt := 88) hx hb dX3_mile_124 (by decide) ?_
        exact ih _ _ _ _ _ hW (lv_sub hl [2, 3, 1, 0] rfl) hf
      · replace hf := ip hf c_17
        refine lv_iconst (v := 1) hx hb dX3_mile_111 (by decide) ?_
        refine lv_iload hx hb dX3_mile_112 (lv_at hl 3 rfl) ?_
        refine lv_ishl hx hb dX3_mile_114 ?_
        refine lv_goto (tgt := 119) hx hb dX3_mile_115 (by decide) ?_
        refine lv_ior hx hb dX3_mile_119 ?_
        refine lv_istore_n (lv' := [(3, .int (v3 ||| (1 <<< (v4 &&& 31)))), (0, .ref (ad 999)), (1, .int v1), (4, .int v4)]) hx hb dX3_mile_120 rfl hl (by decide) rfl (fun ls hl => ?_)
        refine lv_iinc (v := (v4 + 1)) (lv' := [(4, .int (v4 + 1)), (3, .int (v3 ||| (1 <<< (v4 &&& 31)))), (0, .ref (ad 999)), (1, .int v1)]) hx hb dX3_mile_121 hl (k := 3) rfl (ii_v _ _ _ (by decide)) (by decide) rfl (fun ls hl => ?_)
        refine lv_goto (tgt := 88) hx hb dX3_mile_124 (by decide) ?_
        exact ih _ _ _ _ _ hW (lv_sub hl [2, 3, 1, 0] rfl) hf
noncomputable def m_mile (σ : cS) (v1 : Int32) (v2 : Int32) : Option (Int32) :=
  ((m_isMile σ v1).bind fun r_2 => if r_2 = 0 then (some (-100)) else (if v2 = 0 then (gd (inb v1 10) (some (σ.1 2 (ix v1)))) else (if v2 = 1 then (gd (inb v1 10) (some (σ.1 3 (ix v1)))) else (if v2 = 2 then (gd (inb v1 10) (some (σ.1 4 (ix v1)))) else (if v2 = 3 then (((m_isBaked σ v1).bind fun r_12 => if r_12 = 0 then (some 0) else (some 1))) else (if v2 = 4 then (m_mile_88 σ v1 (fun v_18 => (some v_18)) FU 0 0) else (some (-100))))))))
set_option maxHeartbeats 4000000 in
theorem wb_mile {p : Program} {l : Launch} {e : Env} {s : State} {m : MethodId} {args : Array Value} {below : List Frame} {meth : Method} {c : Code} {g : gG} {A : Nat → Prop} {ad : Nat → Nat} (X : MX p s m args meth c cX3_mile 5 RX3 (some .int) g A) (had : mI ad) {r : Int32} {σ : cS} {v1 : Int32} {v2 : Int32}  {H : Heap} {locs : List Loc} {ls : Array Slot} (hW : WB g A s.heap mIds ad (mE g ad σ) H locs) (hl : lv_has ls 5 [(0, .ref (ad 999)), (1, .int v1), (2, .int v2)]) (hf : m_mile σ v1 v2 = some r) : W p l e (rm_ 3 66) s m args below meth c H locs 0 0 (Qm below g mIds ad (mE g ad σ) (some (.int r)) A args s) (F0 m 0 ls []) := by
  have hx := X.1.1
  have hb := X.1.2.1
  unfold m_mile at hf
  refine lv_aload_n hx hb dX3_mile_0 rfl (lv_at hl 0 rfl) ?_
  refine lv_iload_n hx hb dX3_mile_1 rfl (lv_at hl 1 rfl) ?_
  obtain ⟨r_2, h_1, hf⟩ := bd_e hf
  refine k_isMile X hW had h_1 (by decide) hl (Nat.le_of_ble_eq_true rfl) dX3_mile_2 (fun H locs hW => ?_)
  refine lv_if_ne (tgt := 11) hx hb dX3_mile_5 (by decide) (fun c_3 => ?_) (fun c_3 => ?_)
  · replace hf := ine hf c_3
    refine lv_iload_n hx hb dX3_mile_11 rfl (lv_at hl 2 rfl) ?_
    by_cases c_4 : v2 = 0
    · replace hf := ip hf c_4
      refine r_tabIn (tgt := 48) (off := 36) (k := 0) hx hb c_4 dX3_mile_12 (by decide) (by decide) rfl (by decide) ?_
      refine lv_aload_n hx hb dX3_mile_48 rfl (lv_at hl 0 rfl) ?_
      refine mg_2 X hW dX3_mile_49 ?_
      refine lv_iload_n hx hb dX3_mile_52 rfl (lv_at hl 1 rfl) ?_
      obtain ⟨h_5, hf⟩ := gd_e hf
      refine ml_2 X hW h_5 dX3_mile_53 ?_
      exact p_iret X hW hf dX3_mile_54
    · replace hf := ine hf c_4
      by_cases c_6 : v2 = 1
      · replace hf := ip hf c_6
        refine r_tabIn (tgt := 55) (off := 43) (k := 1) hx hb c_6 dX3_mile_12 (by decide) (by decide) rfl (by decide) ?_
        refine lv_aload_n hx hb dX3_mile_55 rfl (lv_at hl 0 rfl) ?_
        refine mg_3 X hW dX3_mile_56 ?_
        refine lv_iload_n hx hb dX3_mile_59 rfl (lv_at hl 1 rfl) ?_
        obtain ⟨h_7, hf⟩ := gd_e hf
        refine ml_3 X hW h_7 dX3_mile_60 ?_
        exact p_iret X hW hf dX3_mile_61
      · replace hf := ine hf c_6
        by_cases c_8 : v2 = 2
        · replace hf := ip hf c_8
          refine r_tabIn (tgt := 62) (off := 50) (k := 2) hx hb c_8 dX3_mile_12 (by decide) (by decide) rfl (by decide) ?_
          refine lv_aload_n hx hb dX3_mile_62 rfl (lv_at hl 0 rfl) ?_
          refine mg_4 X hW dX3_mile_63 ?_
          refine lv_iload_n hx hb dX3_mile_66 rfl (lv_at hl 1 rfl) ?_
          obtain ⟨h_9, hf⟩ := gd_e hf
          refine ml_4 X hW h_9 dX3_mile_67 ?_
          exact p_iret X hW hf dX3_mile_68
        · replace hf := ine hf c_8
          by_cases c_10 : v2 = 3
          · replace hf := ip hf c_10
            refine r_tabIn (tgt := 69) (off := 57) (k := 3) hx hb c_10 dX3_mile_12 (by decide) (by decide) rfl (by decide) ?_
            refine lv_aload_n hx hb dX3_mile_69 rfl (lv_at hl 0 rfl) ?_
            refine lv_iload_n hx hb dX3_mile_70 rfl (lv_at hl 1 rfl) ?_
            obtain ⟨r_12, h_11, hf⟩ := bd_e hf
            refine k_isBaked X hW had h_11 (by decide) hl (Nat.le_of_ble_eq_true rfl) dX3_mile_71 (fun H locs hW => ?_)
            refine lv_if_eq (tgt := 81) hx hb dX3_mile_74 (by decide) (fun c_13 => ?_) (fun c_13 => ?_)
            · replace hf := ip hf c_13
              refine lv_iconst (v := 0) hx hb dX3_mile_81 (by decide) ?_
              exact p_iret X hW hf dX3_mile_82
            · replace hf := ine hf c_13
              refine lv_iconst (v := 1) hx hb dX3_mile_77 (by decide) ?_
              refine lv_goto (tgt := 82) hx hb dX3_mile_78 (by decide) ?_
              exact p_iret X hW hf dX3_mile_82
          · replace hf := ine hf c_10
            by_cases c_14 : v2 = 4
            · replace hf := ip hf c_14
              refine r_tabIn (tgt := 83) (off := 71) (k := 4) hx hb c_14 dX3_mile_12 (by decide) (by decide) rfl (by decide) ?_
              refine lv_iconst (v := 0) hx hb dX3_mile_83 (by decide) ?_
              refine lv_istore_n (lv' := [(3, .int 0), (0, .ref (ad 999)), (1, .int v1), (2, .int v2)]) hx hb dX3_mile_84 rfl hl (by decide) rfl (fun ls hl => ?_)
              refine lv_iconst (v := 0) hx hb dX3_mile_85 (by decide) ?_
              refine lv_istore (lv' := [(4, .int 0), (3, .int 0), (0, .ref (ad 999)), (1, .int v1), (2, .int v2)]) hx hb dX3_mile_86 hl (by decide) rfl (fun ls hl => ?_)
              refine wm_mile_88 X had (fun v_18 H locs ls hW hl hf => ?_) _ _ _ _ _ _ hW (lv_sub hl [2, 3, 1, 0] rfl) hf
              refine lv_iload_n hx hb dX3_mile_127 rfl (lv_at hl 0 rfl) ?_
              exact p_iret X hW hf dX3_mile_128
            · replace hf := ine hf c_14
              refine lv_tableOut (tgt := 129) hx hb dX3_mile_12 (by have := lv_neT c_4 (a := 0) rfl; have := lv_neT c_6 (a := 1) rfl; have := lv_neT c_8 (a := 2) rfl; have := lv_neT c_10 (a := 3) rfl; have := lv_neT c_14 (a := 4) rfl; omega) (by decide) ?_
              refine lv_bipush (v := (-100)) hx hb dX3_mile_129 (by decide) ?_
              exact p_iret X hW hf dX3_mile_131
  · replace hf := ip hf c_3
    refine lv_bipush (v := (-100)) hx hb dX3_mile_8 (by decide) ?_
    exact p_iret X hW hf dX3_mile_10
theorem w_mile (l : Launch) {g : gG} {ad : Nat → Nat} (had : mI ad) {r : Int32} {σ : cS} {v1 : Int32} {v2 : Int32}  (hf : m_mile σ v1 v2 = some r) : MM l yX3_mile cX3_mile 5 (some .int) 3 66 g ad σ σ [.ref (ad 999), .int v1, .int v2] (some (.int r)) :=
  MC.of (by decide) mIds_nd had (Nat.le_of_ble_eq_true rfl) (fun p e s m below meth c A ls X hW hl => wb_mile X had hW hl hf)
-- isVillage
noncomputable def m_isVillage (σ : cS) (v1 : Int32) : Option (Int32) :=
  ((m_in v1.toInt64 0 (((σ.1 1 (ix 2)) - 1).toInt64)).bind fun r_2 => gd (zb r_2) (some r_2))
set_option maxHeartbeats 4000000 in
theorem wb_isVillage {p : Program} {l : Launch} {e : Env} {s : State} {m : MethodId} {args : Array Value} {below : List Frame} {meth : Method} {c : Code} {g : gG} {A : Nat → Prop} {ad : Nat → Nat} (X : MX p s m args meth c cX3_isVillage 2 RX3 (some .boolean) g A) (had : mI ad) {r : Int32} {σ : cS} {v1 : Int32}  {H : Heap} {locs : List Loc} {ls : Array Slot} (hW : WB g A s.heap mIds ad (mE g ad σ) H locs) (hl : lv_has ls 2 [(0, .ref (ad 999)), (1, .int v1)]) (hf : m_isVillage σ v1 = some r) : W p l e (rm_ 2 45) s m args below meth c H locs 0 0 (Qm below g mIds ad (mE g ad σ) (some (.int r)) A args s) (F0 m 0 ls []) := by
  have hx := X.1.1
  have hb := X.1.2.1
  unfold m_isVillage at hf
  refine lv_iload_n hx hb dX3_isVillage_0 rfl (lv_at hl 1 rfl) ?_
  refine lv_i2l (v := v1.toInt64) hx hb dX3_isVillage_1 rfl ?_
  refine lv_lconst (v := 0) hx hb dX3_isVillage_2 (by decide) ?_
  refine lv_aload_n hx hb dX3_isVillage_3 rfl (lv_at hl 0 rfl) ?_
  refine mg_1 X hW dX3_isVillage_4 ?_
  refine lv_iconst (v := 2) hx hb dX3_isVillage_7 (by decide) ?_
  refine ml_1 X hW (by decide) dX3_isVillage_8 ?_
  refine lv_iconst (v := 1) hx hb dX3_isVillage_9 (by decide) ?_
  refine lv_isub hx hb dX3_isVillage_10 ?_
  refine lv_i2l (v := ((σ.1 1 (ix 2)) - 1).toInt64) hx hb dX3_isVillage_11 rfl ?_
  obtain ⟨r_2, h_1, hf⟩ := bd_e hf
  refine k_in X hW h_1 (by decide) hl (Nat.le_of_ble_eq_true rfl) dX3_isVillage_12 (fun H locs hW => ?_)
  obtain ⟨h_3, hf⟩ := gd_e hf
  exact p_zret X hW hf h_3 dX3_isVillage_15
theorem w_isVillage (l : Launch) {g : gG} {ad : Nat → Nat} (had : mI ad) {r : Int32} {σ : cS} {v1 : Int32}  (hf : m_isVillage σ v1 = some r) : MM l yX3_isVillage cX3_isVillage 2 (some .boolean) 2 45 g ad σ σ [.ref (ad 999), .int v1] (some (.int r)) :=
  MC.of (by decide) mIds_nd had (Nat.le_of_ble_eq_true rfl) (fun p e s m below meth c A ls X hW hl => wb_isVillage X had hW hl hf)
theorem k_isVillage {p : Program} {l : Launch} {e : Env} {R : Room} {s : State} {m : MethodId} {args : Array Value} {below : List Frame} {meth : Method} {c : Code} {H : Heap} {locs : List Loc} {Q : State → Prop} {cc : ByteArray} {nL : Nat} {ret : Option FieldType} {g : gG} {A : Nat → Prop} {ad : Nat → Nat} {pc : Nat} {ls : Array Slot} {rest : List Value} {lv : List (Nat × Value)} {r : Int32} {σ : cS} {v1 : Int32} (X : MX p s m args meth c cc nL RX3 ret g A) (hW : WB g A s.heap mIds ad (mE g ad σ) H locs) (had : mI ad)  (hf : m_isVillage σ v1 = some r) (hR : 3 ≤ R.frames ∧ 66 ≤ R.locals) (hl : lv_has ls nL lv) (hcat : (rest.map fun v => v.category).sum ≤ 8) (hdg : decode cc pc = .ok (.invokevirtual 397, 3)) (kk : ∀ (H1 : Heap) (l1 : List Loc), WB g A s.heap mIds ad (mE g ad σ) H1 l1 → W p l e R s m args below meth c H1 l1 0 0 Q (F0 m (pc + 3) ls (.int r :: rest))) : W p l e R s m args below meth c H locs 0 0 Q (F0 m pc ls (.int v1 :: .ref (ad 999) :: rest)) :=
  r_callV X hW Sub.all (w_isVillage l had hf) (lw_V q1556 q1558 qs79 q126 q1559) ⟨rfl, by decide, by decide, by decide +kernel⟩ m_999 mE_o rfl (n := 1) hR hl rfl rfl hcat ⟨Nat.zero_le _, Nat.zero_le _⟩ hdg kk
-- sideOf
noncomputable def m_sideOf (σ : cS) (v1 : Int32) : Option (Int32) :=
  gd (inb v1 8) (gd (inb (σ.1 6 (ix v1)) 10) (if (σ.1 2 (ix (σ.1 6 (ix v1)))) ≤ (σ.1 7 (ix v1)) then (if (σ.1 7 (ix v1)) ≤ (σ.1 2 (ix (σ.1 6 (ix v1)))) then (some 2) else (some 1)) else (some 0)))
set_option maxHeartbeats 4000000 in
theorem wb_sideOf {p : Program} {l : Launch} {e : Env} {s : State} {m : MethodId} {args : Array Value} {below : List Frame} {meth : Method} {c : Code} {g : gG} {A : Nat → Prop} {ad : Nat → Nat} (X : MX p s m args meth c cX3_sideOf 3 RX3 (some .int) g A) (had : mI ad) {r : Int32} {σ : cS} {v1 : Int32}  {H : Heap} {locs : List Loc} {ls : Array Slot} (hW : WB g A s.heap mIds ad (mE g ad σ) H locs) (hl : lv_has ls 3 [(0, .ref (ad 999)), (1, .int v1)]) (hf : m_sideOf σ v1 = some r) : W p l e (rm_ 1 20) s m args below meth c H locs 0 0 (Qm below g mIds ad (mE g ad σ) (some (.int r)) A args s) (F0 m 0 ls []) := by
  have hx := X.1.1
  have hb := X.1.2.1
  unfold m_sideOf at hf
  refine lv_aload_n hx hb dX3_sideOf_0 rfl (lv_at hl 0 rfl) ?_
  refine mg_2 X hW dX3_sideOf_1 ?_
  refine lv_aload_n hx hb dX3_sideOf_4 rfl (lv_at hl 0 rfl) ?_
  refine mg_6 X hW dX3_sideOf_5 ?_
  refine lv_iload_n hx hb dX3_sideOf_8 rfl (lv_at hl 1 rfl) ?_
  obtain ⟨h_1, hf⟩ := gd_e hf
  refine ml_6 X hW h_1 dX3_sideOf_9 ?_
  obtain ⟨h_2, hf⟩ := gd_e hf
  refine ml_2 X hW h_2 dX3_sideOf_10 ?_
  refine lv_istore_n (lv' := [(2, .int (σ.1 2 (ix (σ.1 6 (ix v1))))), (0, .ref (ad 999)), (1, .int v1)]) hx hb dX3_sideOf_11 rfl hl (by decide) rfl (fun ls hl => ?_)
  refine lv_aload_n hx hb dX3_sideOf_12 rfl (lv_at hl 1 rfl) ?_
  refine mg_7 X hW dX3_sideOf_13 ?_
  refine lv_iload_n hx hb dX3_sideOf_16 rfl (lv_at hl 2 rfl) ?_
  refine ml_7 X hW h_1 dX3_sideOf_17 ?_
  refine lv_iload_n hx hb dX3_sideOf_18 rfl (lv_at hl 0 rfl) ?_
  refine lv_icmp_ge (tgt := 26) hx hb dX3_sideOf_19 (by decide) (fun c_3 => ?_) (fun c_3 => ?_)
  · replace hf := ip hf c_3
    refine lv_aload_n hx hb dX3_sideOf_26 rfl (lv_at hl 1 rfl) ?_
    refine mg_7 X hW dX3_sideOf_27 ?_
    refine lv_iload_n hx hb dX3_sideOf_30 rfl (lv_at hl 2 rfl) ?_
    refine ml_7 X hW h_1 dX3_sideOf_31 ?_
    refine lv_iload_n hx hb dX3_sideOf_32 rfl (lv_at hl 0 rfl) ?_
    refine lv_icmp_le (tgt := 40) hx hb dX3_sideOf_33 (by decide) (fun c_4 => ?_) (fun c_4 => ?_)
    · replace hf := ip hf c_4
      refine lv_iconst (v := 2) hx hb dX3_sideOf_40 (by decide) ?_
      exact p_iret X hW hf dX3_sideOf_41
    · replace hf := ine hf c_4
      refine lv_iconst (v := 1) hx hb dX3_sideOf_36 (by decide) ?_
      refine lv_goto (tgt := 41) hx hb dX3_sideOf_37 (by decide) ?_
      exact p_iret X hW hf dX3_sideOf_41
  · replace hf := ine hf c_3
    refine lv_iconst (v := 0) hx hb dX3_sideOf_22 (by decide) ?_
    refine lv_goto (tgt := 41) hx hb dX3_sideOf_23 (by decide) ?_
    exact p_iret X hW hf dX3_sideOf_41
theorem w_sideOf (l : Launch) {g : gG} {ad : Nat → Nat} (had : mI ad) {r : Int32} {σ : cS} {v1 : Int32}  (hf : m_sideOf σ v1 = some r) : MM l yX3_sideOf cX3_sideOf 3 (some .int) 1 20 g ad σ σ [.ref (ad 999), .int v1] (some (.int r)) :=
  MC.of (by decide) mIds_nd had (Nat.le_of_ble_eq_true rfl) (fun p e s m below meth c A ls X hW hl => wb_sideOf X had hW hl hf)
theorem k_sideOf {p : Program} {l : Launch} {e : Env} {R : Room} {s : State} {m : MethodId} {args : Array Value} {below : List Frame} {meth : Method} {c : Code} {H : Heap} {locs : List Loc} {Q : State → Prop} {cc : ByteArray} {nL : Nat} {ret : Option FieldType} {g : gG} {A : Nat → Prop} {ad : Nat → Nat} {pc : Nat} {ls : Array Slot} {rest : List Value} {lv : List (Nat × Value)} {r : Int32} {σ : cS} {v1 : Int32} (X : MX p s m args meth c cc nL RX3 ret g A) (hW : WB g A s.heap mIds ad (mE g ad σ) H locs) (had : mI ad)  (hf : m_sideOf σ v1 = some r) (hR : 2 ≤ R.frames ∧ 42 ≤ R.locals) (hl : lv_has ls nL lv) (hcat : (rest.map fun v => v.category).sum ≤ 8) (hdg : decode cc pc = .ok (.invokevirtual 394, 3)) (kk : ∀ (H1 : Heap) (l1 : List Loc), WB g A s.heap mIds ad (mE g ad σ) H1 l1 → W p l e R s m args below meth c H1 l1 0 0 Q (F0 m (pc + 3) ls (.int r :: rest))) : W p l e R s m args below meth c H locs 0 0 Q (F0 m pc ls (.int v1 :: .ref (ad 999) :: rest)) :=
  r_callV X hW Sub.all (w_sideOf l had hf) (lw_V q1560 q1562 qs80 q126 q1563) ⟨rfl, by decide, by decide, by decide +kernel⟩ m_999 mE_o rfl (n := 1) hR hl rfl rfl hcat ⟨Nat.zero_le _, Nat.zero_le _⟩ hdg kk
-- village
noncomputable def m_village (σ : cS) (v1 : Int32) (v2 : Int32) : Option (Int32) :=
  ((m_isVillage σ v1).bind fun r_2 => if r_2 = 0 then (some (-100)) else (if v2 = 0 then (gd (inb v1 8) (some (σ.1 6 (ix v1)))) else (if v2 = 1 then (gd (inb v1 8) (some (σ.1 7 (ix v1)))) else (if v2 = 2 then (gd (inb v1 8) (some (σ.1 8 (ix v1)))) else (if v2 = 3 then (((m_sideOf σ v1).bind fun r_12 => some r_12)) else (if v2 = 4 then (gd (inb v1 8) (some (σ.1 9 (ix v1)))) else (some (-100))))))))
set_option maxHeartbeats 4000000 in
theorem wb_village {p : Program} {l : Launch} {e : Env} {s : State} {m : MethodId} {args : Array Value} {below : List Frame} {meth : Method} {c : Code} {g : gG} {A : Nat → Prop} {ad : Nat → Nat} (X : MX p s m args meth c cX3_village 3 RX3 (some .int) g A) (had : mI ad) {r : Int32} {σ : cS} {v1 : Int32} {v2 : Int32}  {H : Heap} {locs : List Loc} {ls : Array Slot} (hW : WB g A s.heap mIds ad (mE g ad σ) H locs) (hl : lv_has ls 3 [(0, .ref (ad 999)), (1, .int v1), (2, .int v2)]) (hf : m_village σ v1 v2 = some r) : W p l e (rm_ 3 66) s m args below meth c H locs 0 0 (Qm below g mIds ad (mE g ad σ) (some (.int r)) A args s) (F0 m 0 ls []) := by
  have hx := X.1.1
  have hb := X.1.2.1
  unfold m_village at hf
  refine lv_aload_n hx hb dX3_village_0 rfl (lv_at hl 0 rfl) ?_
  refine lv_iload_n hx hb dX3_village_1 rfl (lv_at hl 1 rfl) ?_
  obtain ⟨r_2, h_1, hf⟩ := bd_e hf
  refine k_isVillage X hW had h_1 (by decide) hl (Nat.le_of_ble_eq_true rfl) dX3_village_2 (fun H locs hW => ?_)
  refine lv_if_ne (tgt := 11) hx hb dX3_village_5 (by decide) (fun c_3 => ?_) (fun c_3 => ?_)
  · replace hf := ine hf c_3
    refine lv_iload_n hx hb dX3_village_11 rfl (lv_at hl 2 rfl) ?_
    by_cases c_4 : v2 = 0
    · replace hf := ip hf c_4
      refine r_tabIn (tgt := 48) (off := 36) (k := 0) hx hb c_4 dX3_village_12 (by decide) (by decide) rfl (by decide) ?_
      refine lv_aload_n hx hb dX3_village_48 rfl (lv_at hl 0 rfl) ?_
      refine mg_6 X hW dX3_village_49 ?_
      refine lv_iload_n hx hb dX3_village_52 rfl (lv_at hl 1 rfl) ?_
      obtain ⟨h_5, hf⟩ := gd_e hf
      refine ml_6 X hW h_5 dX3_village_53 ?_
      exact p_iret X hW hf dX3_village_54
    · replace hf := ine hf c_4
      by_cases c_6 : v2 = 1
      · replace hf := ip hf c_6
        refine r_tabIn (tgt := 55) (off := 43) (k := 1) hx hb c_6 dX3_village_12 (by decide) (by decide) rfl (by decide) ?_
        refine lv_aload_n hx hb dX3_village_55 rfl (lv_at hl 0 rfl) ?_
        refine mg_7 X hW dX3_village_56 ?_
        refine lv_iload_n hx hb dX3_village_59 rfl (lv_at hl 1 rfl) ?_
        obtain ⟨h_7, hf⟩ := gd_e hf
        refine ml_7 X hW h_7 dX3_village_60 ?_
        exact p_iret X hW hf dX3_village_61
      · replace hf := ine hf c_6
        by_cases c_8 : v2 = 2
        · replace hf := ip hf c_8
          refine r_tabIn (tgt := 62) (off := 50) (k := 2) hx hb c_8 dX3_village_12 (by decide) (by decide) rfl (by decide) ?_
          refine lv_aload_n hx hb dX3_village_62 rfl (lv_at hl 0 rfl) ?_
          refine mg_8 X hW dX3_village_63 ?_
          refine lv_iload_n hx hb dX3_village_66 rfl (lv_at hl 1 rfl) ?_
          obtain ⟨h_9, hf⟩ := gd_e hf
          refine ml_8 X hW h_9 dX3_village_67 ?_
          exact p_iret X hW hf dX3_village_68
        · replace hf := ine hf c_8
          by_cases c_10 : v2 = 3
          · replace hf := ip hf c_10
            refine r_tabIn (tgt := 69) (off := 57) (k := 3) hx hb c_10 dX3_village_12 (by decide) (by decide) rfl (by decide) ?_
            refine lv_aload_n hx hb dX3_village_69 rfl (lv_at hl 0 rfl) ?_
            refine lv_iload_n hx hb dX3_village_70 rfl (lv_at hl 1 rfl) ?_
            obtain ⟨r_12, h_11, hf⟩ := bd_e hf
            refine k_sideOf X hW had h_11 (by decide) hl (Nat.le_of_ble_eq_true rfl) dX3_village_71 (fun H locs hW => ?_)
            exact p_iret X hW hf dX3_village_74
          · replace hf := ine hf c_10
            by_cases c_13 : v2 = 4
            · replace hf := ip hf c_13
              refine r_tabIn (tgt := 75) (off := 63) (k := 4) hx hb c_13 dX3_village_12 (by decide) (by decide) rfl (by decide) ?_
              refine lv_aload_n hx hb dX3_village_75 rfl (lv_at hl 0 rfl) ?_
              refine mg_9 X hW dX3_village_76 ?_
              refine lv_iload_n hx hb dX3_village_79 rfl (lv_at hl 1 rfl) ?_
              obtain ⟨h_14, hf⟩ := gd_e hf
              refine ml_9 X hW h_14 dX3_village_80 ?_
              exact p_iret X hW hf dX3_village_81
            · replace hf := ine hf c_13
              refine lv_tableOut (tgt := 82) hx hb dX3_village_12 (by have := lv_neT c_4 (a := 0) rfl; have := lv_neT c_6 (a := 1) rfl; have := lv_neT c_8 (a := 2) rfl; have := lv_neT c_10 (a := 3) rfl; have := lv_neT c_13 (a := 4) rfl; omega) (by decide) ?_
              refine lv_bipush (v := (-100)) hx hb dX3_village_82 (by decide) ?_
              exact p_iret X hW hf dX3_village_84
  · replace hf := ip hf c_3
    refine lv_bipush (v := (-100)) hx hb dX3_village_8 (by decide) ?_
    exact p_iret X hW hf dX3_village_10
theorem w_village (l : Launch) {g : gG} {ad : Nat → Nat} (had : mI ad) {r : Int32} {σ : cS} {v1 : Int32} {v2 : Int32}  (hf : m_village σ v1 v2 = some r) : MM l yX3_village cX3_village 3 (some .int) 3 66 g ad σ σ [.ref (ad 999), .int v1, .int v2] (some (.int r)) :=
  MC.of (by decide) mIds_nd had (Nat.le_of_ble_eq_true rfl) (fun p e s m below meth c A ls X hW hl => wb_village X had hW hl hf)
-- isStrip
noncomputable def m_isStrip (σ : cS) : Option (Int32) :=
  if (σ.1 1 (ix 0)) ≤ 0 then (some 0) else (some 1)
set_option maxHeartbeats 4000000 in
theorem wb_isStrip {p : Program} {l : Launch} {e : Env} {s : State} {m : MethodId} {args : Array Value} {below : List Frame} {meth : Method} {c : Code} {g : gG} {A : Nat → Prop} {ad : Nat → Nat} (X : MX p s m args meth c cX3_isStrip 1 RX3 (some .boolean) g A) (had : mI ad) {r : Int32} {σ : cS}  {H : Heap} {locs : List Loc} {ls : Array Slot} (hW : WB g A s.heap mIds ad (mE g ad σ) H locs) (hl : lv_has ls 1 [(0, .ref (ad 999))]) (hf : m_isStrip σ = some r) : W p l e (rm_ 1 20) s m args below meth c H locs 0 0 (Qm below g mIds ad (mE g ad σ) (some (.int r)) A args s) (F0 m 0 ls []) := by
  have hx := X.1.1
  have hb := X.1.2.1
  unfold m_isStrip at hf
  refine lv_aload_n hx hb dX3_isStrip_0 rfl (lv_at hl 0 rfl) ?_
  refine mg_1 X hW dX3_isStrip_1 ?_
  refine lv_iconst (v := 0) hx hb dX3_isStrip_4 (by decide) ?_
  refine ml_1 X hW (by decide) dX3_isStrip_5 ?_
  refine lv_if_le (tgt := 13) hx hb dX3_isStrip_6 (by decide) (fun c_1 => ?_) (fun c_1 => ?_)
  · replace hf := ip hf c_1
    refine lv_iconst (v := 0) hx hb dX3_isStrip_13 (by decide) ?_
    exact p_zret X hW hf (by decide) dX3_isStrip_14
  · replace hf := ine hf c_1
    refine lv_iconst (v := 1) hx hb dX3_isStrip_9 (by decide) ?_
    refine lv_goto (tgt := 14) hx hb dX3_isStrip_10 (by decide) ?_
    exact p_zret X hW hf (by decide) dX3_isStrip_14
theorem w_isStrip (l : Launch) {g : gG} {ad : Nat → Nat} (had : mI ad) {r : Int32} {σ : cS}  (hf : m_isStrip σ = some r) : MM l yX3_isStrip cX3_isStrip 1 (some .boolean) 1 20 g ad σ σ [.ref (ad 999)] (some (.int r)) :=
  MC.of (by decide) mIds_nd had (Nat.le_of_ble_eq_true rfl) (fun p e s m below meth c A ls X hW hl => wb_isStrip X had hW hl hf)
theorem k_isStrip {p : Program} {l : Launch} {e : Env} {R : Room} {s : State} {m : MethodId} {args : Array Value} {below : List Frame} {meth : Method} {c : Code} {H : Heap} {locs : List Loc} {Q : State → Prop} {cc : ByteArray} {nL : Nat} {ret : Option FieldType} {g : gG} {A : Nat → Prop} {ad : Nat → Nat} {pc : Nat} {ls : Array Slot} {rest : List Value} {lv : List (Nat × Value)} {r : Int32} {σ : cS} (X : MX p s m args meth c cc nL RX3 ret g A) (hW : WB g A s.heap mIds ad (mE g ad σ) H locs) (had : mI ad)  (hf : m_isStrip σ = some r) (hR : 2 ≤ R.frames ∧ 40 ≤ R.locals) (hl : lv_has ls nL lv) (hcat : (rest.map fun v => v.category).sum ≤ 8) (hdg : decode cc pc = .ok (.invokevirtual 400, 3)) (kk : ∀ (H1 : Heap) (l1 : List Loc), WB g A s.heap mIds ad (mE g ad σ) H1 l1 → W p l e R s m args below meth c H1 l1 0 0 Q (F0 m (pc + 3) ls (.int r :: rest))) : W p l e R s m args below meth c H locs 0 0 Q (F0 m pc ls (.ref (ad 999) :: rest)) :=
  r_callV X hW Sub.all (w_isStrip l had hf) (lw_V q1568 q1570 qs81 q126 q1571) ⟨rfl, by decide, by decide, by decide +kernel⟩ m_999 mE_o rfl (n := 0) hR hl rfl rfl hcat ⟨Nat.zero_le _, Nat.zero_le _⟩ hdg kk
-- warmthOf
noncomputable def m_warmthOf (σ : cS) (v1 : Int32) : Option (Int32) :=
  if 100 ≤ v1 then (some 0) else (gd (inb v1 100) (some (σ.1 5 (ix v1))))
set_option maxHeartbeats 4000000 in
theorem wb_warmthOf {p : Program} {l : Launch} {e : Env} {s : State} {m : MethodId} {args : Array Value} {below : List Frame} {meth : Method} {c : Code} {g : gG} {A : Nat → Prop} {ad : Nat → Nat} (X : MX p s m args meth c cX3_warmthOf 2 RX3 (some .int) g A) (had : mI ad) {r : Int32} {σ : cS} {v1 : Int32}  {H : Heap} {locs : List Loc} {ls : Array Slot} (hW : WB g A s.heap mIds ad (mE g ad σ) H locs) (hl : lv_has ls 2 [(0, .ref (ad 999)), (1, .int v1)]) (hf : m_warmthOf σ v1 = some r) : W p l e (rm_ 1 20) s m args below meth c H locs 0 0 (Qm below g mIds ad (mE g ad σ) (some (.int r)) A args s) (F0 m 0 ls []) := by
  have hx := X.1.1
  have hb := X.1.2.1
  unfold m_warmthOf at hf
  refine lv_iload_n hx hb dX3_warmthOf_0 rfl (lv_at hl 1 rfl) ?_
  refine lv_bipush (v := 100) hx hb dX3_warmthOf_1 (by decide) ?_
  refine lv_icmp_ge (tgt := 15) hx hb dX3_warmthOf_3 (by decide) (fun c_1 => ?_) (fun c_1 => ?_)
  · replace hf := ip hf c_1
    refine lv_iconst (v := 0) hx hb dX3_warmthOf_15 (by decide) ?_
    exact p_iret X hW hf dX3_warmthOf_16
  · replace hf := ine hf c_1
    refine lv_aload_n hx hb dX3_warmthOf_6 rfl (lv_at hl 0 rfl) ?_
    refine mg_5 X hW dX3_warmthOf_7 ?_
    refine lv_iload_n hx hb dX3_warmthOf_10 rfl (lv_at hl 1 rfl) ?_
    obtain ⟨h_2, hf⟩ := gd_e hf
    refine ml_5 X hW h_2 dX3_warmthOf_11 ?_
    refine lv_goto (tgt := 16) hx hb dX3_warmthOf_12 (by decide) ?_
    exact p_iret X hW hf dX3_warmthOf_16
theorem w_warmthOf (l : Launch) {g : gG} {ad : Nat → Nat} (had : mI ad) {r : Int32} {σ : cS} {v1 : Int32}  (hf : m_warmthOf σ v1 = some r) : MM l yX3_warmthOf cX3_warmthOf 2 (some .int) 1 20 g ad σ σ [.ref (ad 999), .int v1] (some (.int r)) :=
  MC.of (by decide) mIds_nd had (Nat.le_of_ble_eq_true rfl) (fun p e s m below meth c A ls X hW hl => wb_warmthOf X had hW hl hf)
theorem k_warmthOf {p : Program} {l : Launch} {e : Env} {R : Room} {s : State} {m : MethodId} {args : Array Value} {below : List Frame} {meth : Method} {c : Code} {H : Heap} {locs : List Loc} {Q : State → Prop} {cc : ByteArray} {nL : Nat} {ret : Option FieldType} {g : gG} {A : Nat → Prop} {ad : Nat → Nat} {pc : Nat} {ls : Array Slot} {rest : List Value} {lv : List (Nat × Value)} {r : Int32} {σ : cS} {v1 : Int32} (X : MX p s m args meth c cc nL RX3 ret g A) (hW : WB g A s.heap mIds ad (mE g ad σ) H locs) (had : mI ad)  (hf : m_warmthOf σ v1 = some r) (hR : 2 ≤ R.frames ∧ 41 ≤ R.locals) (hl : lv_has ls nL lv) (hcat : (rest.map fun v => v.category).sum ≤ 8) (hdg : decode cc pc = .ok (.invokevirtual 403, 3)) (kk : ∀ (H1 : Heap) (l1 : List Loc), WB g A s.heap mIds ad (mE g ad σ) H1 l1 → W p l e R s m args below meth c H1 l1 0 0 Q (F0 m (pc + 3) ls (.int r :: rest))) : W p l e R s m args below meth c H locs 0 0 Q (F0 m pc ls (.int v1 :: .ref (ad 999) :: rest)) :=
  r_callV X hW Sub.all (w_warmthOf l had hf) (lw_V q1572 q1574 qs82 q126 q1575) ⟨rfl, by decide, by decide, by decide +kernel⟩ m_999 mE_o rfl (n := 1) hR hl rfl rfl hcat ⟨Nat.zero_le _, Nat.zero_le _⟩ hdg kk
-- warm
noncomputable def m_warm (σ : cS) (v1 : Int32) : Option (Int32) :=
  ((m_isStrip σ).bind fun r_2 => if r_2 = 0 then (some (-1)) else (if v1 < 0 then (some (-1)) else (((m_warmthOf σ v1).bind fun r_6 => some r_6))))
set_option maxHeartbeats 4000000 in
theorem wb_warm {p : Program} {l : Launch} {e : Env} {s : State} {m : MethodId} {args : Array Value} {below : List Frame} {meth : Method} {c : Code} {g : gG} {A : Nat → Prop} {ad : Nat → Nat} (X : MX p s m args meth c cX3_warm 2 RX3 (some .int) g A) (had : mI ad) {r : Int32} {σ : cS} {v1 : Int32}  {H : Heap} {locs : List Loc} {ls : Array Slot} (hW : WB g A s.heap mIds ad (mE g ad σ) H locs) (hl : lv_has ls 2 [(0, .ref (ad 999)), (1, .int v1)]) (hf : m_warm σ v1 = some r) : W p l e (rm_ 2 41) s m args below meth c H locs 0 0 (Qm below g mIds ad (mE g ad σ) (some (.int r)) A args s) (F0 m 0 ls []) := by
  have hx := X.1.1
  have hb := X.1.2.1
  unfold m_warm at hf
  refine lv_aload_n hx hb dX3_warm_0 rfl (lv_at hl 0 rfl) ?_
  obtain ⟨r_2, h_1, hf⟩ := bd_e hf
  refine k_isStrip X hW had h_1 (by decide) hl (Nat.le_of_ble_eq_true rfl) dX3_warm_1 (fun H locs hW => ?_)
  refine lv_if_eq (tgt := 19) hx hb dX3_warm_4 (by decide) (fun c_3 => ?_) (fun c_3 => ?_)
  · replace hf := ip hf c_3
    refine lv_iconst (v := (-1)) hx hb dX3_warm_19 (by decide) ?_
    exact p_iret X hW hf dX3_warm_20
  · replace hf := ine hf c_3
    refine lv_iload_n hx hb dX3_warm_7 rfl (lv_at hl 1 rfl) ?_
    refine lv_if_lt (tgt := 19) hx hb dX3_warm_8 (by decide) (fun c_4 => ?_) (fun c_4 => ?_)
    · replace hf := ip hf c_4
      refine lv_iconst (v := (-1)) hx hb dX3_warm_19 (by decide) ?_
      exact p_iret X hW hf dX3_warm_20
    · replace hf := ine hf c_4
      refine lv_aload_n hx hb dX3_warm_11 rfl (lv_at hl 0 rfl) ?_
      refine lv_iload_n hx hb dX3_warm_12 rfl (lv_at hl 1 rfl) ?_
      obtain ⟨r_6, h_5, hf⟩ := bd_e hf
      refine k_warmthOf X hW had h_5 (by decide) hl (Nat.le_of_ble_eq_true rfl) dX3_warm_13 (fun H locs hW => ?_)
      refine lv_goto (tgt := 20) hx hb dX3_warm_16 (by decide) ?_
      exact p_iret X hW hf dX3_warm_20
theorem w_warm (l : Launch) {g : gG} {ad : Nat → Nat} (had : mI ad) {r : Int32} {σ : cS} {v1 : Int32}  (hf : m_warm σ v1 = some r) : MM l yX3_warm cX3_warm 2 (some .int) 2 41 g ad σ σ [.ref (ad 999), .int v1] (some (.int r)) :=
  MC.of (by decide) mIds_nd had (Nat.le_of_ble_eq_true rfl) (fun p e s m below meth c A ls X hW hl => wb_warm X had hW hl hf)
-- moves
noncomputable def m_moves (σ : cS) (v1 : Int32) : Option (cS × Int32) :=
  ((if (σ.1 999 53) = 0 then (some (v1)) else (gd (inb (σ.1 999 52) 800) (some ((σ.1 49 (ix (σ.1 999 52)))))) : Option (Int32)).bind fun t_1 => (gd (inb (σ.1 999 52) 800) (nmb (si σ 49 (ix (σ.1 999 52)) t_1) fun σ_4 => (some ((si σ_4 999 52 (((si σ 49 (ix (σ.1 999 52)) t_1).1 999 52) + 1)), t_1)))))
set_option maxHeartbeats 4000000 in
theorem wb_moves {p : Program} {l : Launch} {e : Env} {s : State} {m : MethodId} {args : Array Value} {below : List Frame} {meth : Method} {c : Code} {g : gG} {A : Nat → Prop} {ad : Nat → Nat} (X : MX p s m args meth c cX3_moves 3 RX3 (some .int) g A) (had : mI ad) {σr : cS} {r : Int32} {σ : cS} {v1 : Int32}  {H : Heap} {locs : List Loc} {ls : Array Slot} (hW : WB g A s.heap mIds ad (mE g ad σ) H locs) (hl : lv_has ls 3 [(0, .ref (ad 999)), (1, .int v1)]) (hf : m_moves σ v1 = some (σr, r)) : W p l e (rm_ 1 20) s m args below meth c H locs 0 0 (Qm below g mIds ad (mE g ad σr) (some (.int r)) A args s) (F0 m 0 ls []) := by
  have hx := X.1.1
  have hb := X.1.2.1
  unfold m_moves at hf
  refine lv_aload_n hx hb dX3_moves_0 rfl (lv_at hl 0 rfl) ?_
  refine mg_53 X hW dX3_moves_1 ?_
  obtain ⟨t_1, hD_2, hf⟩ := bd_e hf
  have hJ : ∀ (H : Heap) (locs : List Loc) (ls : Array Slot), WB g A s.heap mIds ad (mE g ad σ) H locs → lv_has ls 3 [(0, .ref (ad 999))] → W p l e (rm_ 1 20) s m args below meth c H locs 0 0 (Qm below g mIds ad (mE g ad σr) (some (.int r)) A args s) (F0 m 20 ls [.int t_1]) := by
    intro H locs ls hW hl
    refine lv_istore_n (lv' := [(2, .int t_1), (0, .ref (ad 999))]) hx hb dX3_moves_20 rfl hl (by decide) rfl (fun ls hl => ?_)
    refine lv_aload_n hx hb dX3_moves_21 rfl (lv_at hl 1 rfl) ?_
    refine mg_49 X hW dX3_moves_22 ?_
    refine lv_aload_n hx hb dX3_moves_25 rfl (lv_at hl 1 rfl) ?_
    refine mg_52 X hW dX3_moves_26 ?_
    refine lv_iload_n hx hb dX3_moves_29 rfl (lv_at hl 0 rfl) ?_
    obtain ⟨h_3, hf⟩ := gd_e hf
    refine ms_49 X hW h_3 dX3_moves_30 (fun H locs hW => ?_)
    refine lv_aload_n hx hb dX3_moves_31 rfl (lv_at hl 1 rfl) ?_
    refine lv_dup hx hb dX3_moves_32 rfl ?_
    refine mg_52 X hW dX3_moves_33 ?_
    refine lv_iconst (v := 1) hx hb dX3_moves_36 (by decide) ?_
    refine lv_iadd hx hb dX3_moves_37 ?_
    obtain ⟨σ_4, e_5, hf⟩ := nmb_e hf
    rw [← e_5] at hW
    clear e_5
    refine mp_52 X hW dX3_moves_38 (fun H locs hW => ?_)
    refine lv_iload_n hx hb dX3_moves_41 rfl (lv_at hl 0 rfl) ?_
    exact m_iret X hW hf dX3_moves_42
  clear hf
  refine lv_if_eq (tgt := 19) hx hb dX3_moves_4 (by decide) (fun c_6 => ?_) (fun c_6 => ?_)
  · replace hD_2 := ip hD_2 c_6
    refine lv_iload_n hx hb dX3_moves_19 rfl (lv_at hl 1 rfl) ?_
    cases hD_2
    exact hJ _ _ _ hW (lv_sub hl [0] rfl)
  · replace hD_2 := ine hD_2 c_6
    refine lv_aload_n hx hb dX3_moves_7 rfl (lv_at hl 0 rfl) ?_
    refine mg_49 X hW dX3_moves_8 ?_
    refine lv_aload_n hx hb dX3_moves_11 rfl (lv_at hl 0 rfl) ?_
    refine mg_52 X hW dX3_moves_12 ?_
    obtain ⟨h_7, hD_2⟩ := gd_e hD_2
    refine ml_49 X hW h_7 dX3_moves_15 ?_
    refine lv_goto (tgt := 20) hx hb dX3_moves_16 (by decide) ?_
    cases hD_2
    exact hJ _ _ _ hW (lv_sub hl [0] rfl)
theorem w_moves (l : Launch) {g : gG} {ad : Nat → Nat} (had : mI ad) {σr : cS} {r : Int32} {σ : cS} {v1 : Int32}  (hf : m_moves σ v1 = some (σr, r)) : MM l yX3_moves cX3_moves 3 (some .int) 1 20 g ad σ σr [.ref (ad 999), .int v1] (some (.int r)) :=
  MC.of (by decide) mIds_nd had (Nat.le_of_ble_eq_true rfl) (fun p e s m below meth c A ls X hW hl => wb_moves X had hW hl hf)
theorem k_moves {p : Program} {l : Launch} {e : Env} {R : Room} {s : State} {m : MethodId} {args : Array Value} {below : List Frame} {meth : Method} {c : Code} {H : Heap} {locs : List Loc} {Q : State → Prop} {cc : ByteArray} {nL : Nat} {ret : Option FieldType} {g : gG} {A : Nat → Prop} {ad : Nat → Nat} {pc : Nat} {ls : Array Slot} {rest : List Value} {lv : List (Nat × Value)} {σr : cS} {r : Int32} {σ : cS} {v1 : Int32} (X : MX p s m args meth c cc nL RX3 ret g A) (hW : WB g A s.heap mIds ad (mE g ad σ) H locs) (had : mI ad)  (hf : m_moves σ v1 = some (σr, r)) (hR : 2 ≤ R.frames ∧ 42 ≤ R.locals) (hl : lv_has ls nL lv) (hcat : (rest.map fun v => v.category).sum ≤ 8) (hdg : decode cc pc = .ok (.invokevirtual 449, 3)) (kk : ∀ (H1 : Heap) (l1 : List Loc), WB g A s.heap mIds ad (mE g ad σr) H1 l1 → W p l e R s m args below meth c H1 l1 0 0 Q (F0 m (pc + 3) ls (.int r :: rest))) : W p l e R s m args below meth c H locs 0 0 Q (F0 m pc ls (.int v1 :: .ref (ad 999) :: rest)) :=
  r_callV X hW Sub.all (w_moves l had hf) (lw_V q1584 q1586 qs84 q126 q1587) ⟨rfl, by decide, by decide, by decide +kernel⟩ m_999 mE_o rfl (n := 1) hR hl rfl rfl hcat ⟨Nat.zero_le _, Nat.zero_le _⟩ hdg kk
-- movesRow
noncomputable def m_movesRow_2 {ρ : Type} (v1 : Nat) (K : cS → Option ρ) : Nat → cS → Int32 → Option ρ
  | 0, _, _ => none
  | n + 1, σ, v2 => if (nI (mK v1).2) ≤ v2 then (K σ) else (gd (inb v2 (mK v1).2) (((m_moves σ (σ.1 v1 (ix v2))).bind fun (σ_5, r_4) => m_movesRow_2 v1 K n (si σ_5 v1 (ix v2) r_4) (v2 + 1))))
set_option maxHeartbeats 4000000 in
theorem wm_movesRow_2 {p : Program} {l : Launch} {e : Env} {s : State} {m : MethodId} {args : Array Value} {below : List Frame} {meth : Method} {c : Code} {g : gG} {A : Nat → Prop} {ad : Nat → Nat} (X : MX p s m args meth c cX3_movesRow 3 RX3 none g A) (had : mI ad) {ρ : Type} {res : ρ} {Q : State → Prop} {v1 : Nat} (hk_v1 : v1 ∈ mIds) (hc_v1 : (mK v1).1 = 0) {K : cS → Option ρ}
    (hK : ∀ (σ : cS) (H : Heap) (locs : List Loc) (ls : Array Slot), WB g A s.heap mIds ad (mE g ad σ) H locs → lv_has ls 3 [] → K σ = some res → W p l e (rm_ 2 42) s m args below meth c H locs 0 0 Q (F0 m 24 ls [])) :
    ∀ (n : Nat) (σ : cS) (v2 : Int32) (H : Heap) (locs : List Loc) (ls : Array Slot), WB g A s.heap mIds ad (mE g ad σ) H locs → lv_has ls 3 [(0, .ref (ad 999)), (1, .ref (ad v1)), (2, .int v2)] → m_movesRow_2 v1 K n σ v2 = some res → W p l e (rm_ 2 42) s m args below meth c H locs 0 0 Q (F0 m 2 ls []) := by
  have hx := X.1.1
  have hb := X.1.2.1
  intro n
  induction n with
  | zero =>
    intro σ v2 H locs ls hW hl hf
    rw [m_movesRow_2] at hf
    cases hf
  | succ n ih =>
    intro σ v2 H locs ls hW hl hf
    rw [m_movesRow_2] at hf
    refine lv_iload_n hx hb dX3_movesRow_2 rfl (lv_at hl 2 rfl) ?_
    refine lv_aload_n hx hb dX3_movesRow_3 rfl (lv_at hl 1 rfl) ?_
    refine ma_v X hW hk_v1 hc_v1 dX3_movesRow_4 ?_
    refine lv_icmp_ge (tgt := 24) hx hb dX3_movesRow_5 (by decide) (fun c_1 => ?_) (fun c_1 => ?_)
    · replace hf := ip hf c_1
      exact hK _ _ _ _ hW (lv_sub hl [] rfl) hf
    · replace hf := ine hf c_1
      refine lv_aload_n hx hb dX3_movesRow_8 rfl (lv_at hl 1 rfl) ?_
      refine lv_iload_n hx hb dX3_movesRow_9 rfl (lv_at hl 2 rfl) ?_
      refine lv_aload_n hx hb dX3_movesRow_10 rfl (lv_at hl 0 rfl) ?_
      refine lv_aload_n hx hb dX3_movesRow_11 rfl (lv_at hl 1 rfl) ?_
      refine lv_iload_n hx hb dX3_movesRow_12 rfl (lv_at hl 2 rfl) ?_
      obtain ⟨h_2, hf⟩ := gd_e hf
      refine ml_v X hW hk_v1 hc_v1 h_2 dX3_movesRow_13 ?_
      obtain ⟨⟨σ_5, r_4⟩, h_3, hf⟩ := bd_e hf
      refine k_moves X hW had h_3 (by decide) hl (Nat.le_of_ble_eq_true rfl) dX3_movesRow_14 (fun H locs hW => ?_)
      refine ms_v X hW hk_v1 hc_v1 h_2 dX3_movesRow_17 (fun H locs hW => ?_)
      refine lv_iinc (v := (v2 + 1)) (lv' := [(2, .int (v2 + 1)), (0, .ref (ad 999)), (1, .ref (ad v1))]) hx hb dX3_movesRow_18 hl (k := 2) rfl (ii_v _ _ _ (by decide)) (by decide) rfl (fun ls hl => ?_)
      refine lv_goto (tgt := 2) hx hb dX3_movesRow_21 (by decide) ?_
      exact ih _ _ _ _ _ hW (lv_sub hl [1, 2, 0] rfl) hf
noncomputable def m_movesRow (σ : cS) (v1 : Nat) : Option (cS) :=
  m_movesRow_2 v1 (fun σ_6 => (some σ_6)) FU σ 0
set_option maxHeartbeats 4000000 in
theorem wb_movesRow {p : Program} {l : Launch} {e : Env} {s : State} {m : MethodId} {args : Array Value} {below : List Frame} {meth : Method} {c : Code} {g : gG} {A : Nat → Prop} {ad : Nat → Nat} (X : MX p s m args meth c cX3_movesRow 3 RX3 none g A) (had : mI ad) {σr : cS}  {σ : cS} {v1 : Nat} (hk_v1 : v1 ∈ mIds) (hc_v1 : (mK v1).1 = 0) {H : Heap} {locs : List Loc} {ls : Array Slot} (hW : WB g A s.heap mIds ad (mE g ad σ) H locs) (hl : lv_has ls 3 [(0, .ref (ad 999)), (1, .ref (ad v1))]) (hf : m_movesRow σ v1 = some σr) : W p l e (rm_ 2 42) s m args below meth c H locs 0 0 (Qm below g mIds ad (mE g ad σr) none A args s) (F0 m 0 ls []) := by
  have hx := X.1.1
  have hb := X.1.2.1
  unfold m_movesRow at hf
  refine lv_iconst (v := 0) hx hb dX3_movesRow_0 (by decide) ?_
  refine lv_istore_n (lv' := [(2, .int 0), (0, .ref (ad 999)), (1, .ref (ad v1))]) hx hb dX3_movesRow_1 rfl hl (by decide) rfl (fun ls hl => ?_)
  refine wm_movesRow_2 X had hk_v1 hc_v1 (fun σ_6 H locs ls hW hl hf => ?_) _ _ _ _ _ _ hW (lv_sub hl [1, 2, 0] rfl) hf
  exact m_vret X hW hf dX3_movesRow_24
theorem w_movesRow (l : Launch) {g : gG} {ad : Nat → Nat} (had : mI ad) {σr : cS}  {σ : cS} {v1 : Nat} (hk_v1 : v1 ∈ mIds) (hc_v1 : (mK v1).1 = 0) (hf : m_movesRow σ v1 = some σr) : MM l yX3_movesRow cX3_movesRow 3 none 2 42 g ad σ σr [.ref (ad 999), .ref (ad v1)] none :=
  MC.of (by decide) mIds_nd had (Nat.le_of_ble_eq_true rfl) (fun p e s m below meth c A ls X hW hl => wb_movesRow X had hk_v1 hc_v1 hW hl hf)
theorem k_movesRow {p : Program} {l : Launch} {e : Env} {R : Room} {s : State} {m : MethodId} {args : Array Value} {below : List Frame} {meth : Method} {c : Code} {H : Heap} {locs : List Loc} {Q : State → Prop} {cc : ByteArray} {nL : Nat} {ret : Option FieldType} {g : gG} {A : Nat → Prop} {ad : Nat → Nat} {pc : Nat} {ls : Array Slot} {rest : List Value} {lv : List (Nat × Value)} {σr : cS}  {σ : cS} {v1 : Nat} (X : MX p s m args meth c cc nL RX3 ret g A) (hW : WB g A s.heap mIds ad (mE g ad σ) H locs) (had : mI ad) (hk_v1 : v1 ∈ mIds) (hc_v1 : (mK v1).1 = 0) (hf : m_movesRow σ v1 = some σr) (hR : 3 ≤ R.frames ∧ 64 ≤ R.locals) (hl : lv_has ls nL lv) (hcat : (rest.map fun v => v.category).sum ≤ 8) (hdg : decode cc pc = .ok (.invokevirtual 452, 3)) (kk : ∀ (H1 : Heap) (l1 : List Loc), WB g A s.heap mIds ad (mE g ad σr) H1 l1 → W p l e R s m args below meth c H1 l1 0 0 Q (F0 m (pc + 3) ls (rest))) : W p l e R s m args below meth c H locs 0 0 Q (F0 m pc ls (.ref (ad v1) :: .ref (ad 999) :: rest)) :=
  r_callV X hW Sub.all (w_movesRow l had hk_v1 hc_v1 hf) (lw_V q1588 q1590 qs85 q126 q1591) ⟨rfl, by decide, by decide, by decide +kernel⟩ m_999 mE_o rfl (n := 1) hR hl rfl rfl hcat ⟨Nat.zero_le _, Nat.zero_le _⟩ hdg kk
-- movesAll
noncomputable def m_movesAll (σ : cS) (v1 : Int32) (v2 : Int32) : Option (cS) :=
  nmb (si σ 999 52 (40 * v1)) fun σ_1 => (gd (zb v2) (((m_moves (si σ_1 999 53 v2) ((si σ_1 999 53 v2).1 1 (ix 4))).bind fun (σ_6, r_5) => ((m_moves (si σ_6 1 (ix 4) r_5) ((si σ_6 1 (ix 4) r_5).1 1 (ix 5))).bind fun (σ_9, r_8) => ((m_movesRow (si σ_9 1 (ix 5) r_8) 2).bind fun σ_11 => ((m_movesRow σ_11 3).bind fun σ_13 => ((m_movesRow σ_13 4).bind fun σ_15 => ((m_movesRow σ_15 9).bind fun σ_17 => some σ_17))))))))
set_option maxHeartbeats 4000000 in
theorem wb_movesAll {p : Program} {l : Launch} {e : Env} {s : State} {m : MethodId} {args : Array Value} {below : List Frame} {meth : Method} {c : Code} {g : gG} {A : Nat → Prop} {ad : Nat → Nat} (X : MX p s m args meth c cX3_movesAll 3 RX3 none g A) (had : mI ad) {σr : cS}  {σ : cS} {v1 : Int32} {v2 : Int32}  {H : Heap} {locs : List Loc} {ls : Array Slot} (hW : WB g A s.heap mIds ad (mE g ad σ) H locs) (hl : lv_has ls 3 [(0, .ref (ad 999)), (1, .int v1), (2, .int v2)]) (hf : m_movesAll σ v1 v2 = some σr) : W p l e (rm_ 3 64) s m args below meth c H locs 0 0 (Qm below g mIds ad (mE g ad σr) none A args s) (F0 m 0 ls []) := by
  have hx := X.1.1
  have hb := X.1.2.1
  unfold m_movesAll at hf
  refine lv_aload_n hx hb dX3_movesAll_0 rfl (lv_at hl 0 rfl) ?_
  refine lv_bipush (v := 40) hx hb dX3_movesAll_1 (by decide) ?_
  refine lv_iload_n hx hb dX3_movesAll_3 rfl (lv_at hl 1 rfl) ?_
  refine lv_imul hx hb dX3_movesAll_4 ?_
  refine mp_52 X hW dX3_movesAll_5 (fun H locs hW => ?_)
  refine lv_aload_n hx hb dX3_movesAll_8 rfl (lv_at hl 0 rfl) ?_
  refine lv_iload_n hx hb dX3_movesAll_9 rfl (lv_at hl 2 rfl) ?_
  obtain ⟨σ_1, e_2, hf⟩ := nmb_e hf
  rw [← e_2] at hW
  clear e_2
  obtain ⟨h_3, hf⟩ := gd_e hf
  refine mp_53 X hW h_3 dX3_movesAll_10 (fun H locs hW => ?_)
  refine lv_aload_n hx hb dX3_movesAll_13 rfl (lv_at hl 0 rfl) ?_
  refine mg_1 X hW dX3_movesAll_14 ?_
  refine lv_iconst (v := 4) hx hb dX3_movesAll_17 (by decide) ?_
  refine lv_aload_n hx hb dX3_movesAll_18 rfl (lv_at hl 0 rfl) ?_
  refine lv_aload_n hx hb dX3_movesAll_19 rfl (lv_at hl 0 rfl) ?_
  refine mg_1 X hW dX3_movesAll_20 ?_
  refine lv_iconst (v := 4) hx hb dX3_movesAll_23 (by decide) ?_
  refine ml_1 X hW (by decide) dX3_movesAll_24 ?_
  obtain ⟨⟨σ_6, r_5⟩, h_4, hf⟩ := bd_e hf
  refine k_moves X hW had h_4 (by decide) hl (Nat.le_of_ble_eq_true rfl) dX3_movesAll_25 (fun H locs hW => ?_)
  refine ms_1 X hW (by decide) dX3_movesAll_28 (fun H locs hW => ?_)
  refine lv_aload_n hx hb dX3_movesAll_29 rfl (lv_at hl 0 rfl) ?_
  refine mg_1 X hW dX3_movesAll_30 ?_
  refine lv_iconst (v := 5) hx hb dX3_movesAll_33 (by decide) ?_
  refine lv_aload_n hx hb dX3_movesAll_34 rfl (lv_at hl 0 rfl) ?_
  refine lv_aload_n hx hb dX3_movesAll_35 rfl (lv_at hl 0 rfl) ?_
  refine mg_1 X hW dX3_movesAll_36 ?_
  refine lv_iconst (v := 5) hx hb dX3_movesAll_39 (by decide) ?_
  refine ml_1 X hW (by decide) dX3_movesAll_40 ?_
  obtain ⟨⟨σ_9, r_8⟩, h_7, hf⟩ := bd_e hf
  refine k_moves X hW had h_7 (by decide) hl (Nat.le_of_ble_eq_true rfl) dX3_movesAll_41 (fun H locs hW => ?_)
  refine ms_1 X hW (by decide) dX3_movesAll_44 (fun H locs hW => ?_)
  refine lv_aload_n hx hb dX3_movesAll_45 rfl (lv_at hl 0 rfl) ?_
  refine lv_aload_n hx hb dX3_movesAll_46 rfl (lv_at hl 0 rfl) ?_
  refine mg_2 X hW dX3_movesAll_47 ?_
  obtain ⟨σ_11, h_10, hf⟩ := bd_e hf
  refine k_movesRow X hW had m_2 rfl h_10 (by decide) hl (Nat.le_of_ble_eq_true rfl) dX3_movesAll_50 (fun H locs hW => ?_)
  refine lv_aload_n hx hb dX3_movesAll_53 rfl (lv_at hl 0 rfl) ?_
  refine lv_aload_n hx hb dX3_movesAll_54 rfl (lv_at hl 0 rfl) ?_
  refine mg_3 X hW dX3_movesAll_55 ?_
  obtain ⟨σ_13, h_12, hf⟩ := bd_e hf
  refine k_movesRow X hW had m_3 rfl h_12 (by decide) hl (Nat.le_of_ble_eq_true rfl) dX3_movesAll_58 (fun H locs hW => ?_)
  refine lv_aload_n hx hb dX3_movesAll_61 rfl (lv_at hl 0 rfl) ?_
  refine lv_aload_n hx hb dX3_movesAll_62 rfl (lv_at hl 0 rfl) ?_
  refine mg_4 X hW dX3_movesAll_63 ?_
  obtain ⟨σ_15, h_14, hf⟩ := bd_e hf
  refine k_movesRow X hW had m_4 rfl h_14 (by decide) hl (Nat.le_of_ble_eq_true rfl) dX3_movesAll_66 (fun H locs hW => ?_)
  refine lv_aload_n hx hb dX3_movesAll_69 rfl (lv_at hl 0 rfl) ?_
  refine lv_aload_n hx hb dX3_movesAll_70 rfl (lv_at hl 0 rfl) ?_
  refine mg_9 X hW dX3_movesAll_71 ?_
  obtain ⟨σ_17, h_16, hf⟩ := bd_e hf
  refine k_movesRow X hW had m_9 rfl h_16 (by decide) hl (Nat.le_of_ble_eq_true rfl) dX3_movesAll_74 (fun H locs hW => ?_)
  exact m_vret X hW hf dX3_movesAll_77
theorem w_movesAll (l : Launch) {g : gG} {ad : Nat → Nat} (had : mI ad) {σr : cS}  {σ : cS} {v1 : Int32} {v2 : Int32}  (hf : m_movesAll σ v1 v2 = some σr) : MM l yX3_movesAll cX3_movesAll 3 none 3 64 g ad σ σr [.ref (ad 999), .int v1, .int v2] none :=
  MC.of (by decide) mIds_nd had (Nat.le_of_ble_eq_true rfl) (fun p e s m below meth c A ls X hW hl => wb_movesAll X had hW hl hf)
theorem k_movesAll {p : Program} {l : Launch} {e : Env} {R : Room} {s : State} {m : MethodId} {args : Array Value} {below : List Frame} {meth : Method} {c : Code} {H : Heap} {locs : List Loc} {Q : State → Prop} {cc : ByteArray} {nL : Nat} {ret : Option FieldType} {g : gG} {A : Nat → Prop} {ad : Nat → Nat} {pc : Nat} {ls : Array Slot} {rest : List Value} {lv : List (Nat × Value)} {σr : cS}  {σ : cS} {v1 : Int32} {v2 : Int32} (X : MX p s m args meth c cc nL RX3 ret g A) (hW : WB g A s.heap mIds ad (mE g ad σ) H locs) (had : mI ad)  (hf : m_movesAll σ v1 v2 = some σr) (hR : 4 ≤ R.frames ∧ 86 ≤ R.locals) (hl : lv_has ls nL lv) (hcat : (rest.map fun v => v.category).sum ≤ 8) (hdg : decode cc pc = .ok (.invokevirtual 456, 3)) (kk : ∀ (H1 : Heap) (l1 : List Loc), WB g A s.heap mIds ad (mE g ad σr) H1 l1 → W p l e R s m args below meth c H1 l1 0 0 Q (F0 m (pc + 3) ls (rest))) : W p l e R s m args below meth c H locs 0 0 Q (F0 m pc ls (.int v2 :: .int v1 :: .ref (ad 999) :: rest)) :=
  r_callV X hW Sub.all (w_movesAll l had hf) (lw_V q1580 q1582 qs83 q126 q1583) ⟨rfl, by decide, by decide, by decide +kernel⟩ m_999 mE_o rfl (n := 2) hR hl rfl rfl hcat ⟨Nat.zero_le _, Nat.zero_le _⟩ hdg kk
-- undo
noncomputable def m_undo (σ : cS) : Option (cS × Int32) :=
  if (σ.1 999 51) = 0 then (some (σ, (-2))) else (((m_movesAll (si σ 999 51 ((σ.1 999 51) - 1)) ((si σ 999 51 ((σ.1 999 51) - 1)).1 999 51) 1).bind fun σ_3 => some (σ_3, (σ_3.1 999 51))))
set_option maxHeartbeats 4000000 in
theorem wb_undo {p : Program} {l : Launch} {e : Env} {s : State} {m : MethodId} {args : Array Value} {below : List Frame} {meth : Method} {c : Code} {g : gG} {A : Nat → Prop} {ad : Nat → Nat} (X : MX p s m args meth c cX3_undo 1 RX3 (some .int) g A) (had : mI ad) {σr : cS} {r : Int32} {σ : cS}  {H : Heap} {locs : List Loc} {ls : Array Slot} (hW : WB g A s.heap mIds ad (mE g ad σ) H locs) (hl : lv_has ls 1 [(0, .ref (ad 999))]) (hf : m_undo σ = some (σr, r)) : W p l e (rm_ 4 86) s m args below meth c H locs 0 0 (Qm below g mIds ad (mE g ad σr) (some (.int r)) A args s) (F0 m 0 ls []) := by
  have hx := X.1.1
  have hb := X.1.2.1
  unfold m_undo at hf
  refine lv_aload_n hx hb dX3_undo_0 rfl (lv_at hl 0 rfl) ?_
  refine mg_51 X hW dX3_undo_1 ?_
  refine lv_if_ne (tgt := 10) hx hb dX3_undo_4 (by decide) (fun c_1 => ?_) (fun c_1 => ?_)
  · replace hf := ine hf c_1
    refine lv_aload_n hx hb dX3_undo_10 rfl (lv_at hl 0 rfl) ?_
    refine lv_dup hx hb dX3_undo_11 rfl ?_
    refine mg_51 X hW dX3_undo_12 ?_
    refine lv_iconst (v := 1) hx hb dX3_undo_15 (by decide) ?_
    refine lv_isub hx hb dX3_undo_16 ?_
    refine mp_51 X hW dX3_undo_17 (fun H locs hW => ?_)
    refine lv_aload_n hx hb dX3_undo_20 rfl (lv_at hl 0 rfl) ?_
    refine lv_aload_n hx hb dX3_undo_21 rfl (lv_at hl 0 rfl) ?_
    refine mg_51 X hW dX3_undo_22 ?_
    refine lv_iconst (v := 1) hx hb dX3_undo_25 (by decide) ?_
    obtain ⟨σ_3, h_2, hf⟩ := bd_e hf
    refine k_movesAll X hW had h_2 (by decide) hl (Nat.le_of_ble_eq_true rfl) dX3_undo_26 (fun H locs hW => ?_)
    refine lv_aload_n hx hb dX3_undo_29 rfl (lv_at hl 0 rfl) ?_
    refine mg_51 X hW dX3_undo_30 ?_
    exact m_iret X hW hf dX3_undo_33
  · replace hf := ip hf c_1
    refine lv_bipush (v := (-2)) hx hb dX3_undo_7 (by decide) ?_
    exact m_iret X hW hf dX3_undo_9
theorem w_undo (l : Launch) {g : gG} {ad : Nat → Nat} (had : mI ad) {σr : cS} {r : Int32} {σ : cS}  (hf : m_undo σ = some (σr, r)) : MM l yX3_undo cX3_undo 1 (some .int) 4 86 g ad σ σr [.ref (ad 999)] (some (.int r)) :=
  MC.of (by decide) mIds_nd had (Nat.le_of_ble_eq_true rfl) (fun p e s m below meth c A ls X hW hl => wb_undo X had hW hl hf)
-- keepsAct
noncomputable def m_keepsAct_12 {ρ : Type}  (K : cS → Option ρ) : Nat → cS → Int32 → Option ρ
  | 0, _, _ => none
  | n + 1, σ, v1 => if 800 ≤ v1 then (K σ) else (gd (inb v1 800) (gd (inb (v1 - 40) 800) (m_keepsAct_12 K n (si σ 49 (ix (v1 - 40)) (σ.1 49 (ix v1))) (v1 + 1))))
set_option maxHeartbeats 4000000 in
theorem wm_keepsAct_12 {p : Program} {l : Launch} {e : Env} {s : State} {m : MethodId} {args : Array Value} {below : List Frame} {meth : Method} {c : Code} {g : gG} {A : Nat → Prop} {ad : Nat → Nat} (X : MX p s m args meth c cX3_keepsAct 2 RX3 none g A) (had : mI ad) {ρ : Type} {res : ρ} {Q : State → Prop}   {K : cS → Option ρ}
    (hK : ∀ (σ : cS) (H : Heap) (locs : List Loc) (ls : Array Slot), WB g A s.heap mIds ad (mE g ad σ) H locs → lv_has ls 2 [(0, .ref (ad 999))] → K σ = some res → W p l e (rm_ 4 86) s m args below meth c H locs 0 0 Q (F0 m 40 ls [])) :
    ∀ (n : Nat) (σ : cS) (v1 : Int32) (H : Heap) (locs : List Loc) (ls : Array Slot), WB g A s.heap mIds ad (mE g ad σ) H locs → lv_has ls 2 [(0, .ref (ad 999)), (1, .int v1)] → m_keepsAct_12 K n σ v1 = some res → W p l e (rm_ 4 86) s m args below meth c H locs 0 0 Q (F0 m 12 ls []) := by
  have hx := X.1.1
  have hb := X.1.2.1
  intro n
  induction n with
  | zero =>
    intro σ v1 H locs ls hW hl hf
    rw [m_keepsAct_12] at hf
    cases hf
  | succ n ih =>
    intro σ v1 H locs ls hW hl hf
    rw [m_keepsAct_12] at hf
    refine lv_iload_n hx hb dX3_keepsAct_12 rfl (lv_at hl 1 rfl) ?_
    refine lv_sipush (v := 800) hx hb dX3_keepsAct_13 (by decide) ?_
    refine lv_icmp_ge (tgt := 40) hx hb dX3_keepsAct_16 (by decide) (fun c_6 => ?_) (fun c_6 => ?_)
    · replace hf := ip hf c_6
      exact hK _ _ _ _ hW (lv_sub hl [0] rfl) hf
    · replace hf := ine hf c_6
      refine lv_aload_n hx hb dX3_keepsAct_19 rfl (lv_at hl 0 rfl) ?_
      refine mg_49 X hW dX3_keepsAct_20 ?_
      refine lv_iload_n hx hb dX3_keepsAct_23 rfl (lv_at hl 1 rfl) ?_
      refine lv_bipush (v := 40) hx hb dX3_keepsAct_24 (by decide) ?_
      refine lv_isub hx hb dX3_keepsAct_26 ?_
      refine lv_aload_n hx hb dX3_keepsAct_27 rfl (lv_at hl 0 rfl) ?_
      refine mg_49 X hW dX3_keepsAct_28 ?_
      refine lv_iload_n hx hb dX3_keepsAct_31 rfl (lv_at hl 1 rfl) ?_
      obtain ⟨h_7, hf⟩ := gd_e hf
      refine ml_49 X hW h_7 dX3_keepsAct_32 ?_
      obtain ⟨h_8, hf⟩ := gd_e hf
      refine ms_49 X hW h_8 dX3_keepsAct_33 (fun H locs hW => ?_)
      refine lv_iinc (v := (v1 + 1)) (lv' := [(1, .int (v1 + 1)), (0, .ref (ad 999))]) hx hb dX3_keepsAct_34 hl (k := 1) rfl (ii_v _ _ _ (by decide)) (by decide) rfl (fun ls hl => ?_)
      refine lv_goto (tgt := 12) hx hb dX3_keepsAct_37 (by decide) ?_
      exact ih _ _ _ _ _ hW (lv_sub hl [1, 0] rfl) hf
noncomputable def m_keepsAct (σ : cS) : Option (cS) :=
  ((if (σ.1 999 51) = 20 then (m_keepsAct_12  (fun σ_9 => (some ((si σ_9 999 51 ((σ_9.1 999 51) - 1))))) FU σ 40) else (some (σ)) : Option (cS)).bind fun σ_1 => (((m_movesAll σ_1 (σ_1.1 999 51) 0).bind fun σ_4 => some (si σ_4 999 51 ((σ_4.1 999 51) + 1)))))
set_option maxHeartbeats 4000000 in
theorem wb_keepsAct {p : Program} {l : Launch} {e : Env} {s : State} {m : MethodId} {args : Array Value} {below : List Frame} {meth : Method} {c : Code} {g : gG} {A : Nat → Prop} {ad : Nat → Nat} (X : MX p s m args meth c cX3_keepsAct 2 RX3 none g A) (had : mI ad) {σr : cS}  {σ : cS}  {H : Heap} {locs : List Loc} {ls : Array Slot} (hW : WB g A s.heap mIds ad (mE g ad σ) H locs) (hl : lv_has ls 2 [(0, .ref (ad 999))]) (hf : m_keepsAct σ = some σr) : W p l e (rm_ 4 86) s m args below meth c H locs 0 0 (Qm below g mIds ad (mE g ad σr) none A args s) (F0 m 0 ls []) := by
  have hx := X.1.1
  have hb := X.1.2.1
  unfold m_keepsAct at hf
  refine lv_aload_n hx hb dX3_keepsAct_0 rfl (lv_at hl 0 rfl) ?_
  refine mg_51 X hW dX3_keepsAct_1 ?_
  refine lv_bipush (v := 20) hx hb dX3_keepsAct_4 (by decide) ?_
  obtain ⟨σ_1, hD_2, hf⟩ := bd_e hf
  have hJ : ∀ (H : Heap) (locs : List Loc) (ls : Array Slot), WB g A s.heap mIds ad (mE g ad σ_1) H locs → lv_has ls 2 [(0, .ref (ad 999))] → W p l e (rm_ 4 86) s m args below meth c H locs 0 0 (Qm below g mIds ad (mE g ad σr) none A args s) (F0 m 50 ls []) := by
    intro H locs ls hW hl
    refine lv_aload_n hx hb dX3_keepsAct_50 rfl (lv_at hl 0 rfl) ?_
    refine lv_aload_n hx hb dX3_keepsAct_51 rfl (lv_at hl 0 rfl) ?_
    refine mg_51 X hW dX3_keepsAct_52 ?_
    refine lv_iconst (v := 0) hx hb dX3_keepsAct_55 (by decide) ?_
    obtain ⟨σ_4, h_3, hf⟩ := bd_e hf
    refine k_movesAll X hW had h_3 (by decide) hl (Nat.le_of_ble_eq_true rfl) dX3_keepsAct_56 (fun H locs hW => ?_)
    refine lv_aload_n hx hb dX3_keepsAct_59 rfl (lv_at hl 0 rfl) ?_
    refine lv_dup hx hb dX3_keepsAct_60 rfl ?_
    refine mg_51 X hW dX3_keepsAct_61 ?_
    refine lv_iconst (v := 1) hx hb dX3_keepsAct_64 (by decide) ?_
    refine lv_iadd hx hb dX3_keepsAct_65 ?_
    refine mp_51 X hW dX3_keepsAct_66 (fun H locs hW => ?_)
    exact m_vret X hW hf dX3_keepsAct_69
  clear hf
  refine lv_icmp_ne (tgt := 50) hx hb dX3_keepsAct_6 (by decide) (fun c_5 => ?_) (fun c_5 => ?_)
  · replace hD_2 := ine hD_2 c_5
    cases hD_2
    exact hJ _ _ _ hW (lv_sub hl [0] rfl)
  · replace hD_2 := ip hD_2 c_5
    refine lv_bipush (v := 40) hx hb dX3_keepsAct_9 (by decide) ?_
    refine lv_istore_n (lv' := [(1, .int 40), (0, .ref (ad 999))]) hx hb dX3_keepsAct_11 rfl hl (by decide) rfl (fun ls hl => ?_)
    refine wm_keepsAct_12 X had (fun σ_9 H locs ls hW hl hD_2 => ?_) _ _ _ _ _ _ hW (lv_sub hl [1, 0] rfl) hD_2
    refine lv_aload_n hx hb dX3_keepsAct_40 rfl (lv_at hl 0 rfl) ?_
    refine lv_dup hx hb dX3_keepsAct_41 rfl ?_
    refine mg_51 X hW dX3_keepsAct_42 ?_
    refine lv_iconst (v := 1) hx hb dX3_keepsAct_45 (by decide) ?_
    refine lv_isub hx hb dX3_keepsAct_46 ?_
    refine mp_51 X hW dX3_keepsAct_47 (fun H locs hW => ?_)
    cases hD_2
    exact hJ _ _ _ hW (lv_sub hl [0] rfl)
theorem w_keepsAct (l : Launch) {g : gG} {ad : Nat → Nat} (had : mI ad) {σr : cS}  {σ : cS}  (hf : m_keepsAct σ = some σr) : MM l yX3_keepsAct cX3_keepsAct 2 none 4 86 g ad σ σr [.ref (ad 999)] none :=
  MC.of (by decide) mIds_nd had (Nat.le_of_ble_eq_true rfl) (fun p e s m below meth c A ls X hW hl => wb_keepsAct X had hW hl hf)
theorem k_keepsAct {p : Program} {l : Launch} {e : Env} {R : Room} {s : State} {m : MethodId} {args : Array Value} {below : List Frame} {meth : Method} {c : Code} {H : Heap} {locs : List Loc} {Q : State → Prop} {cc : ByteArray} {nL : Nat} {ret : Option FieldType} {g : gG} {A : Nat → Prop} {ad : Nat → Nat} {pc : Nat} {ls : Array Slot} {rest : List Value} {lv : List (Nat × Value)} {σr : cS}  {σ : cS} (X : MX p s m args meth c cc nL RX3 ret g A) (hW : WB g A s.heap mIds ad (mE g ad σ) H locs) (had : mI ad)  (hf : m_keepsAct σ = some σr) (hR : 5 ≤ R.frames ∧ 107 ≤ R.locals) (hl : lv_has ls nL lv) (hcat : (rest.map fun v => v.category).sum ≤ 8) (hdg : decode cc pc = .ok (.invokevirtual 460, 3)) (kk : ∀ (H1 : Heap) (l1 : List Loc), WB g A s.heap mIds ad (mE g ad σr) H1 l1 → W p l e R s m args below meth c H1 l1 0 0 Q (F0 m (pc + 3) ls (rest))) : W p l e R s m args below meth c H locs 0 0 Q (F0 m pc ls (.ref (ad 999) :: rest)) :=
  r_callV X hW Sub.all (w_keepsAct l had hf) (lw_V q1596 q1598 qs86 q126 q1599) ⟨rfl, by decide, by decide, by decide +kernel⟩ m_999 mE_o rfl (n := 0) hR hl rfl rfl hcat ⟨Nat.zero_le _, Nat.zero_le _⟩ hdg kk
-- notesSides
noncomputable def m_notesSides_2 {ρ : Type}  (K : cS → Option ρ) : Nat → cS → Int32 → Option ρ
  | 0, _, _ => none
  | n + 1, σ, v1 => if (σ.1 1 (ix 2)) ≤ v1 then (K σ) else (((m_sideOf σ v1).bind fun r_3 => gd (inb v1 8) (m_notesSides_2 K n (si σ 48 (ix v1) r_3) (v1 + 1))))
set_option maxHeartbeats 4000000 in
theorem wm_notesSides_2 {p : Program} {l : Launch} {e : Env} {s : State} {m : MethodId} {args : Array Value} {below : List Frame} {meth : Method} {c : Code} {g : gG} {A : Nat → Prop} {ad : Nat → Nat} (X : MX p s m args meth c cX3_notesSides 2 RX3 none g A) (had : mI ad) {ρ : Type} {res : ρ} {Q : State → Prop}   {K : cS → Option ρ}
    (hK : ∀ (σ : cS) (H : Heap) (locs : List Loc) (ls : Array Slot), WB g A s.heap mIds ad (mE g ad σ) H locs → lv_has ls 2 [] → K σ = some res → W p l e (rm_ 2 42) s m args below meth c H locs 0 0 Q (F0 m 29 ls [])) :
    ∀ (n : Nat) (σ : cS) (v1 : Int32) (H : Heap) (locs : List Loc) (ls : Array Slot), WB g A s.heap mIds ad (mE g ad σ) H locs → lv_has ls 2 [(0, .ref (ad 999)), (1, .int v1)] → m_notesSides_2 K n σ v1 = some res → W p l e (rm_ 2 42) s m args below meth c H locs 0 0 Q (F0 m 2 ls []) := by
  have hx := X.1.1
  have hb := X.1.2.1
  intro n
  induction n with
  | zero =>
    intro σ v1 H locs ls hW hl hf
    rw [m_notesSides_2] at hf
    cases hf
  | succ n ih =>
    intro σ v1 H locs ls hW hl hf
    rw [m_notesSides_2] at hf
    refine lv_iload_n hx hb dX3_notesSides_2 rfl (lv_at hl 1 rfl) ?_
    refine lv_aload_n hx hb dX3_notesSides_3 rfl (lv_at hl 0 rfl) ?_
    refine mg_1 X hW dX3_notesSides_4 ?_
    refine lv_iconst (v := 2) hx hb dX3_notesSides_7 (by decide) ?_
    refine ml_1 X hW (by decide) dX3_notesSides_8 ?_
    refine lv_icmp_ge (tgt := 29) hx hb dX3_notesSides_9 (by decide) (fun c_1 => ?_) (fun c_1 => ?_)
    · replace hf := ip hf c_1
      exact hK _ _ _ _ hW (lv_sub hl [] rfl) hf
    · replace hf := ine hf c_1
      refine lv_aload_n hx hb dX3_notesSides_12 rfl (lv_at hl 0 rfl) ?_
      refine mg_48 X hW dX3_notesSides_13 ?_
      refine lv_iload_n hx hb dX3_notesSides_16 rfl (lv_at hl 1 rfl) ?_
      refine lv_aload_n hx hb dX3_notesSides_17 rfl (lv_at hl 0 rfl) ?_
      refine lv_iload_n hx hb dX3_notesSides_18 rfl (lv_at hl 1 rfl) ?_
      obtain ⟨r_3, h_2, hf⟩ := bd_e hf
      refine k_sideOf X hW had h_2 (by decide) hl (Nat.le_of_ble_eq_true rfl) dX3_notesSides_19 (fun H locs hW => ?_)
      obtain ⟨h_4, hf⟩ := gd_e hf
      refine ms_48 X hW h_4 dX3_notesSides_22 (fun H locs hW => ?_)
      refine lv_iinc (v := (v1 + 1)) (lv' := [(1, .int (v1 + 1)), (0, .ref (ad 999))]) hx hb dX3_notesSides_23 hl (k := 1) rfl (ii_v _ _ _ (by decide)) (by decide) rfl (fun ls hl => ?_)
      refine lv_goto (tgt := 2) hx hb dX3_notesSides_26 (by decide) ?_
      exact ih _ _ _ _ _ hW (lv_sub hl [1, 0] rfl) hf
noncomputable def m_notesSides (σ : cS) : Option (cS) :=
  m_notesSides_2  (fun σ_5 => (some σ_5)) FU σ 0
set_option maxHeartbeats 4000000 in
theorem wb_notesSides {p : Program} {l : Launch} {e : Env} {s : State} {m : MethodId} {args : Array Value} {below : List Frame} {meth : Method} {c : Code} {g : gG} {A : Nat → Prop} {ad : Nat → Nat} (X : MX p s m args meth c cX3_notesSides 2 RX3 none g A) (had : mI ad) {σr : cS}  {σ : cS}  {H : Heap} {locs : List Loc} {ls : Array Slot} (hW : WB g A s.heap mIds ad (mE g ad σ) H locs) (hl : lv_has ls 2 [(0, .ref (ad 999))]) (hf : m_notesSides σ = some σr) : W p l e (rm_ 2 42) s m args below meth c H locs 0 0 (Qm below g mIds ad (mE g ad σr) none A args s) (F0 m 0 ls []) := by
  have hx := X.1.1
  have hb := X.1.2.1
  unfold m_notesSides at hf
  refine lv_iconst (v := 0) hx hb dX3_notesSides_0 (by decide) ?_
  refine lv_istore_n (lv' := [(1, .int 0), (0, .ref (ad 999))]) hx hb dX3_notesSides_1 rfl hl (by decide) rfl (fun ls hl => ?_)
  refine wm_notesSides_2 X had (fun σ_5 H locs ls hW hl hf => ?_) _ _ _ _ _ _ hW (lv_sub hl [1, 0] rfl) hf
  exact m_vret X hW hf dX3_notesSides_29
theorem w_notesSides (l : Launch) {g : gG} {ad : Nat → Nat} (had : mI ad) {σr : cS}  {σ : cS}  (hf : m_notesSides σ = some σr) : MM l yX3_notesSides cX3_notesSides 2 none 2 42 g ad σ σr [.ref (ad 999)] none :=
  MC.of (by decide) mIds_nd had (Nat.le_of_ble_eq_true rfl) (fun p e s m below meth c A ls X hW hl => wb_notesSides X had hW hl hf)
theorem k_notesSides {p : Program} {l : Launch} {e : Env} {R : Room} {s : State} {m : MethodId} {args : Array Value} {below : List Frame} {meth : Method} {c : Code} {H : Heap} {locs : List Loc} {Q : State → Prop} {cc : ByteArray} {nL : Nat} {ret : Option FieldType} {g : gG} {A : Nat → Prop} {ad : Nat → Nat} {pc : Nat} {ls : Array Slot} {rest : List Value} {lv : List (Nat × Value)} {σr : cS}  {σ : cS} (X : MX p s m args meth c cc nL RX3 ret g A) (hW : WB g A s.heap mIds ad (mE g ad σ) H locs) (had : mI ad)  (hf : m_notesSides σ = some σr) (hR : 3 ≤ R.frames ∧ 63 ≤ R.locals) (hl : lv_has ls nL lv) (hcat : (rest.map fun v => v.category).sum ≤ 8) (hdg : decode cc pc = .ok (.invokevirtual 424, 3)) (kk : ∀ (H1 : Heap) (l1 : List Loc), WB g A s.heap mIds ad (mE g ad σr) H1 l1 → W p l e R s m args below meth c H1 l1 0 0 Q (F0 m (pc + 3) ls (rest))) : W p l e R s m args below meth c H locs 0 0 Q (F0 m pc ls (.ref (ad 999) :: rest)) :=
  r_callV X hW Sub.all (w_notesSides l had hf) (lw_V q1608 q1610 qs89 q126 q1611) ⟨rfl, by decide, by decide, by decide +kernel⟩ m_999 mE_o rfl (n := 0) hR hl rfl rfl hcat ⟨Nat.zero_le _, Nat.zero_le _⟩ hdg kk
-- held
noncomputable def m_held (v0 : Int64) (v2 : Int32) : Option (Int32) :=
  if 0 ≤ (lg_cmp v0 ((-v2).toInt64)) then (if (lg_cmp v0 v2.toInt64) ≤ 0 then (some v0.toInt32) else (some v2)) else (some (-v2))
set_option maxHeartbeats 4000000 in
theorem wb_held {p : Program} {l : Launch} {e : Env} {s : State} {m : MethodId} {args : Array Value} {below : List Frame} {meth : Method} {c : Code} {g : gG} {A : Nat → Prop} (X : MX p s m args meth c cX3_held 3 RX3 (some .int) g A)  {r : Int32} {v0 : Int64} {v2 : Int32}  {H : Heap} {locs : List Loc} {ls : Array Slot} (hW : WB g A s.heap [] ad0 E0 H locs) (hl : lv_has ls 3 [(0, .long v0), (2, .int v2)]) (hf : m_held v0 v2 = some r) : W p l e (rm_ 1 20) s m args below meth c H locs 0 0 (Qm below g [] ad0 E0 (some (.int r)) A args s) (F0 m 0 ls []) := by
  have hx := X.1.1
  have hb := X.1.2.1
  unfold m_held at hf
  refine lv_lload_n hx hb dX3_held_0 rfl (lv_at hl 0 rfl) ?_
  refine lv_iload_n hx hb dX3_held_1 rfl (lv_at hl 1 rfl) ?_
  refine lv_ineg hx hb dX3_held_2 ?_
  refine lv_i2l (v := (-v2).toInt64) hx hb dX3_held_3 rfl ?_
  refine W.lcmp hx hb dX3_held_4 ?_
  refine lv_if_ge (tgt := 13) hx hb dX3_held_5 (by decide) (fun c_1 => ?_) (fun c_1 => ?_)
  · replace hf := ip hf c_1
    refine lv_lload_n hx hb dX3_held_13 rfl (lv_at hl 0 rfl) ?_
    refine lv_iload_n hx hb dX3_held_14 rfl (lv_at hl 1 rfl) ?_
    refine lv_i2l (v := v2.toInt64) hx hb dX3_held_15 rfl ?_
    refine W.lcmp hx hb dX3_held_16 ?_
    refine lv_if_le (tgt := 24) hx hb dX3_held_17 (by decide) (fun c_2 => ?_) (fun c_2 => ?_)
    · replace hf := ip hf c_2
      refine lv_lload_n hx hb dX3_held_24 rfl (lv_at hl 0 rfl) ?_
      refine lv_l2i (v := v0.toInt32) hx hb dX3_held_25 rfl ?_
      exact p_iret X hW hf dX3_held_26
    · replace hf := ine hf c_2
      refine lv_iload_n hx hb dX3_held_20 rfl (lv_at hl 1 rfl) ?_
      refine lv_goto (tgt := 26) hx hb dX3_held_21 (by decide) ?_
      exact p_iret X hW hf dX3_held_26
  · replace hf := ine hf c_1
    refine lv_iload_n hx hb dX3_held_8 rfl (lv_at hl 1 rfl) ?_
    refine lv_ineg hx hb dX3_held_9 ?_
    refine lv_goto (tgt := 26) hx hb dX3_held_10 (by decide) ?_
    exact p_iret X hW hf dX3_held_26
theorem w_held (l : Launch) {g : gG} {r : Int32} {v0 : Int64} {v2 : Int32}  (hf : m_held v0 v2 = some r) : MS l yX3_held cX3_held 3 (some .int) 1 20 g [.long v0, .int v2] (some (.int r)) :=
  MC.of (by decide) List.nodup_nil wI_nil (Nat.le_of_ble_eq_true rfl) (fun p e s m below meth c A ls X hW hl => wb_held X hW hl hf)
theorem k_held {p : Program} {l : Launch} {e : Env} {R : Room} {s : State} {m : MethodId} {args : Array Value} {below : List Frame} {meth : Method} {c : Code} {H : Heap} {locs : List Loc} {Q : State → Prop} {cc : ByteArray} {nL : Nat} {ret : Option FieldType} {g : gG} {A : Nat → Prop} {ad : Nat → Nat} {ids : List Nat} {E : Nat → va_E} {pc : Nat} {ls : Array Slot} {rest : List Value} {lv : List (Nat × Value)} {r : Int32} {v0 : Int64} {v2 : Int32} (X : MX p s m args meth c cc nL RX3 ret g A) (hW : WB g A s.heap ids ad E H locs)  (hf : m_held v0 v2 = some r) (hR : 2 ≤ R.frames ∧ 42 ≤ R.locals) (hl : lv_has ls nL lv) (hcat : (rest.map fun v => v.category).sum ≤ 8) (hdg : decode cc pc = .ok (.invokestatic 406, 3)) (kk : ∀ (H1 : Heap) (l1 : List Loc), WB g A s.heap ids ad E H1 l1 → W p l e R s m args below meth c H1 l1 0 0 Q (F0 m (pc + 3) ls (.int r :: rest))) : W p l e R s m args below meth c H locs 0 0 Q (F0 m pc ls (.int v2 :: .long v0 :: rest)) :=
  r_callS X hW Sub.nil (w_held l hf) (lw_S q1616 q1617 q126 q1618) ⟨by decide, by decide, by decide +kernel⟩ (n := 2) hR hl rfl rfl hcat ⟨Nat.zero_le _, Nat.zero_le _⟩ hdg kk
-- villagesIn
noncomputable def m_villagesIn_5 {ρ : Type} (σ : cS) (v1 : Int32) (v2 : Int32) (K : Int32 → Option ρ) : Nat → Int32 → Int32 → Option ρ
  | 0, _, _ => none
  | n + 1, v3, v4 => if (σ.1 1 (ix 2)) ≤ v4 then (K v3) else (gd (inb v4 8) (if (σ.1 6 (ix v4)) = v1 then (((m_sideOf σ v4).bind fun r_5 => if r_5 = v2 then (m_villagesIn_5 σ v1 v2 K n (v3 + 1) (v4 + 1)) else (m_villagesIn_5 σ v1 v2 K n (v3 + 0) (v4 + 1)))) else (m_villagesIn_5 σ v1 v2 K n (v3 + 0) (v4 + 1))))
set_option maxHeartbeats 4000000 in
theorem wm_villagesIn_5 {p : Program} {l : Launch} {e : Env} {s : State} {m : MethodId} {args : Array Value} {below : List Frame} {meth : Method} {c : Code} {g : gG} {A : Nat → Prop} {ad : Nat → Nat} (X : MX p s m args meth c cX3_villagesIn 5 RX3 (some .int) g A) (had : mI ad) {ρ : Type} {res : ρ} {Q : State → Prop} {v1 : Int32} {v2 : Int32} {σ : cS}  {K : Int32 → Option ρ}
    (hK : ∀ (k3 : Int32) (H : Heap) (locs : List Loc) (ls : Array Slot), WB g A s.heap mIds ad (mE g ad σ) H locs → lv_has ls 5 [(3, .int k3)] → K k3 = some res → W p l e (rm_ 2 42) s m args below meth c H locs 0 0 Q (F0 m 51 ls [])) :
    ∀ (n : Nat) (v3 : Int32) (v4 : Int32) (H : Heap) (locs : List Loc) (ls : Array Slot), WB g A s.heap mIds ad (mE g ad σ) H locs → lv_has ls 5 [(0, .ref (ad 999)), (1, .int v1), (2, .int v2), (3, .int v3), (4, .int v4)] → m_villagesIn_5 σ v1 v2 K n v3 v4 = some res → W p l e (rm_ 2 42) s m args below meth c H locs 0 0 Q (F0 m 5 ls []) := by
  have hx := X.1.1
  have hb := X.1.2.1
  intro n
  induction n with
  | zero =>
    intro v3 v4 H locs ls hW hl hf
    rw [m_villagesIn_5] at hf
    cases hf
  | succ n ih =>
    intro v3 v4 H locs ls hW hl hf
    rw [m_villagesIn_5] at hf
    refine lv_iload hx hb dX3_villagesIn_5 (lv_at hl 4 rfl) ?_
    refine lv_aload_n hx hb dX3_villagesIn_7 rfl (lv_at hl 0 rfl) ?_
    refine mg_1 X hW dX3_villagesIn_8 ?_
    refine lv_iconst (v := 2) hx hb dX3_villagesIn_11 (by decide) ?_
    refine ml_1 X hW (by decide) dX3_villagesIn_12 ?_
    refine lv_icmp_ge (tgt := 51) hx hb dX3_villagesIn_13 (by decide) (fun c_1 => ?_) (fun c_1 => ?_)
    · replace hf := ip hf c_1
      exact hK _ _ _ _ hW (lv_sub hl [3] rfl) hf
    · replace hf := ine hf c_1
      refine lv_iload_n hx hb dX3_villagesIn_16 rfl (lv_at hl 3 rfl) ?_
      refine lv_aload_n hx hb dX3_villagesIn_17 rfl (lv_at hl 0 rfl) ?_
      refine mg_6 X hW dX3_villagesIn_18 ?_
      refine lv_iload hx hb dX3_villagesIn_21 (lv_at hl 4 rfl) ?_
      obtain ⟨h_2, hf⟩ := gd_e hf
      refine ml_6 X hW h_2 dX3_villagesIn_23 ?_
      refine lv_iload_n hx hb dX3_villagesIn_24 rfl (lv_at hl 1 rfl) ?_
      refine lv_icmp_ne (tgt := 42) hx hb dX3_villagesIn_25 (by decide) (fun c_3 => ?_) (fun c_3 => ?_)
      · replace hf := ine hf c_3
        refine lv_iconst (v := 0) hx hb dX3_villagesIn_42 (by decide) ?_
        refine lv_iadd hx hb dX3_villagesIn_43 ?_
        refine lv_istore_n (lv' := [(3, .int (v3 + 0)), (0, .ref (ad 999)), (1, .int v1), (2, .int v2), (4, .int v4)]) hx hb dX3_villagesIn_44 rfl hl (by decide) rfl (fun ls hl => ?_)
        refine lv_iinc (v := (v4 + 1)) (lv' := [(4, .int (v4 + 1)), (3, .int (v3 + 0)), (0, .ref (ad 999)), (1, .int v1), (2, .int v2)]) hx hb dX3_villagesIn_45 hl (k := 4) rfl (ii_v _ _ _ (by decide)) (by decide) rfl (fun ls hl => ?_)
        refine lv_goto (tgt := 5) hx hb dX3_villagesIn_48 (by decide) ?_
        exact ih _ _ _ _ _ hW (lv_sub hl [2, 3, 4, 1, 0] rfl) hf
      · replace hf := ip hf c_3
        refine lv_aload_n hx hb dX3_villagesIn_28 rfl (lv_at hl 0 rfl) ?_
        refine lv_iload hx hb dX3_villagesIn_29 (lv_at hl 4 rfl) ?_
        obtain ⟨r_5, h_4, hf⟩ := bd_e hf
        refine k_sideOf X hW had h_4 (by decide) hl (Nat.le_of_ble_eq_true rfl) dX3_villagesIn_31 (fun H locs hW => ?_)
        refine lv_iload_n hx hb dX3_villagesIn_34 rfl (lv_at hl 2 rfl) ?_
        refine lv_icmp_ne (tgt := 42) hx hb dX3_villagesIn_35 (by decide) (fun c_6 => ?_) (fun c_6 => ?_)
        · replace hf := ine hf c_6
          refine lv_iconst (v := 0) hx hb dX3_villagesIn_42 (by decide) ?_
          refine lv_iadd hx hb dX3_villagesIn_43 ?_
          refine lv_istore_n (lv' := [(3, .int (v3 + 0)), (0, .ref (ad 999)), (1, .int v1), (2, .int v2), (4, .int v4)]) hx hb dX3_villagesIn_44 rfl hl (by decide) rfl (fun ls hl => ?_)
          refine lv_iinc (v := (v4 + 1)) (lv' := [(4, .int (v4 + 1)), (3, .int (v3 + 0)), (0, .ref (ad 999)), (1, .int v1), (2, .int v2)]) hx hb dX3_villagesIn_45 hl (k := 4) rfl (ii_v _ _ _ (by decide)) (by decide) rfl (fun ls hl => ?_)
          refine lv_goto (tgt := 5) hx hb dX3_villagesIn_48 (by decide) ?_
          exact ih _ _ _ _ _ hW (lv_sub hl [2, 3, 4, 1, 0] rfl) hf
        · replace hf := ip hf c_6
          refine lv_iconst (v := 1) hx hb dX3_villagesIn_38 (by decide) ?_
          refine lv_goto (tgt := 43) hx hb dX3_villagesIn_39 (by decide) ?_
          refine lv_iadd hx hb dX3_villagesIn_43 ?_
          refine lv_istore_n (lv' := [(3, .int (v3 + 1)), (0, .ref (ad 999)), (1, .int v1), (2, .int v2), (4, .int v4)]) hx hb dX3_villagesIn_44 rfl hl (by decide) rfl (fun ls hl => ?_)
          refine lv_iinc (v := (v4 + 1)) (lv' := [(4, .int (v4 + 1)), (3, .int (v3 + 1)), (0, .ref (ad 999)), (1, .int v1), (2, .int v2)]) hx hb dX3_villagesIn_45 hl (k := 4) rfl (ii_v _ _ _ (by decide)) (by decide) rfl (fun ls hl => ?_)
          refine lv_goto (tgt := 5) hx hb dX3_villagesIn_48 (by decide) ?_
          exact ih _ _ _ _ _ hW (lv_sub hl [2, 3, 4, 1, 0] rfl) hf
noncomputable def m_villagesIn (σ : cS) (v1 : Int32) (v2 : Int32) : Option (Int32) :=
  m_villagesIn_5 σ v1 v2 (fun v_7 => (some v_7)) FU 0 0
set_option maxHeartbeats 4000000 in
theorem wb_villagesIn {p : Program} {l : Launch} {e : Env} {s : State} {m : MethodId} {args : Array Value} {below : List Frame} {meth : Method} {c : Code} {g : gG} {A : Nat → Prop} {ad : Nat → Nat} (X : MX p s m args meth c cX3_villagesIn 5 RX3 (some .int) g A) (had : mI ad) {r : Int32} {σ : cS} {v1 : Int32} {v2 : Int32}  {H : Heap} {locs : List Loc} {ls : Array Slot} (hW : WB g A s.heap mIds ad (mE g ad σ) H locs) (hl : lv_has ls 5 [(0, .ref (ad 999)), (1, .int v1), (2, .int v2)]) (hf : m_villagesIn σ v1 v2 = some r) : W p l e (rm_ 2 42) s m args below meth c H locs 0 0 (Qm below g mIds ad (mE g ad σ) (some (.int r)) A args s) (F0 m 0 ls []) := by
  have hx := X.1.1
  have hb := X.1.2.1
  unfold m_villagesIn at hf
  refine lv_iconst (v := 0) hx hb dX3_villagesIn_0 (by decide) ?_
  refine lv_istore_n (lv' := [(3, .int 0), (0, .ref (ad 999)), (1, .int v1), (2, .int v2)]) hx hb dX3_villagesIn_1 rfl hl (by decide) rfl (fun ls hl => ?_)
  refine lv_iconst (v := 0) hx hb dX3_villagesIn_2 (by decide) ?_
  refine lv_istore (lv' := [(4, .int 0), (3, .int 0), (0, .ref (ad 999)), (1, .int v1), (2, .int v2)]) hx hb dX3_villagesIn_3 hl (by decide) rfl (fun ls hl => ?_)
  refine wm_villagesIn_5 X had (fun v_7 H locs ls hW hl hf => ?_) _ _ _ _ _ _ hW (lv_sub hl [2, 3, 4, 1, 0] rfl) hf
  refine lv_iload_n hx hb dX3_villagesIn_51 rfl (lv_at hl 0 rfl) ?_
  exact p_iret X hW hf dX3_villagesIn_52
theorem w_villagesIn (l : Launch) {g : gG} {ad : Nat → Nat} (had : mI ad) {r : Int32} {σ : cS} {v1 : Int32} {v2 : Int32}  (hf : m_villagesIn σ v1 v2 = some r) : MM l yX3_villagesIn cX3_villagesIn 5 (some .int) 2 42 g ad σ σ [.ref (ad 999), .int v1, .int v2] (some (.int r)) :=
  MC.of (by decide) mIds_nd had (Nat.le_of_ble_eq_true rfl) (fun p e s m below meth c A ls X hW hl => wb_villagesIn X had hW hl hf)
theorem k_villagesIn {p : Program} {l : Launch} {e : Env} {R : Room} {s : State} {m : MethodId} {args : Array Value} {below : List Frame} {meth : Method} {c : Code} {H : Heap} {locs : List Loc} {Q : State → Prop} {cc : ByteArray} {nL : Nat} {ret : Option FieldType} {g : gG} {A : Nat → Prop} {ad : Nat → Nat} {pc : Nat} {ls : Array Slot} {rest : List Value} {lv : List (Nat × Value)} {r : Int32} {σ : cS} {v1 : Int32} {v2 : Int32} (X : MX p s m args meth c cc nL RX3 ret g A) (hW : WB g A s.heap mIds ad (mE g ad σ) H locs) (had : mI ad)  (hf : m_villagesIn σ v1 v2 = some r) (hR : 3 ≤ R.frames ∧ 66 ≤ R.locals) (hl : lv_has ls nL lv) (hcat : (rest.map fun v => v.category).sum ≤ 8) (hdg : decode cc pc = .ok (.invokevirtual 410, 3)) (kk : ∀ (H1 : Heap) (l1 : List Loc), WB g A s.heap mIds ad (mE g ad σ) H1 l1 → W p l e R s m args below meth c H1 l1 0 0 Q (F0 m (pc + 3) ls (.int r :: rest))) : W p l e R s m args below meth c H locs 0 0 Q (F0 m pc ls (.int v2 :: .int v1 :: .ref (ad 999) :: rest)) :=
  r_callV X hW Sub.all (w_villagesIn l had hf) (lw_V q1619 q1621 qs91 q126 q1622) ⟨rfl, by decide, by decide, by decide +kernel⟩ m_999 mE_o rfl (n := 2) hR hl rfl rfl hcat ⟨Nat.zero_le _, Nat.zero_le _⟩ hdg kk
-- crustOf
noncomputable def m_crustOf (σ : cS) (v1 : Int32) : Option (Int32) :=
  ((if v1 ≤ 0 then (some (0)) else (((m_isBaked σ (v1 - 1)).bind fun r_9 => if r_9 = 0 then (some (0)) else (some (1)))) : Option (Int32)).bind fun t_1 => (if (σ.1 1 (ix 0)) ≤ (v1 + 1) then (some t_1) else (((m_isBaked σ (v1 + 1)).bind fun r_5 => if r_5 = 0 then (some t_1) else (some (t_1 + 1))))))
set_option maxHeartbeats 4000000 in
theorem wb_crustOf {p : Program} {l : Launch} {e : Env} {s : State} {m : MethodId} {args : Array Value} {below : List Frame} {meth : Method} {c : Code} {g : gG} {A : Nat → Prop} {ad : Nat → Nat} (X : MX p s m args meth c cX3_crustOf 3 RX3 (some .int) g A) (had : mI ad) {r : Int32} {σ : cS} {v1 : Int32}  {H : Heap} {locs : List Loc} {ls : Array Slot} (hW : WB g A s.heap mIds ad (mE g ad σ) H locs) (hl : lv_has ls 3 [(0, .ref (ad 999)), (1, .int v1)]) (hf : m_crustOf σ v1 = some r) : W p l e (rm_ 3 62) s m args below meth c H locs 0 0 (Qm below g mIds ad (mE g ad σ) (some (.int r)) A args s) (F0 m 0 ls []) := by
  have hx := X.1.1
  have hb := X.1.2.1
  unfold m_crustOf at hf
  refine lv_iload_n hx hb dX3_crustOf_0 rfl (lv_at hl 1 rfl) ?_
  obtain ⟨t_1, hD_2, hf⟩ := bd_e hf
  have hJ : ∀ (H : Heap) (locs : List Loc) (ls : Array Slot), WB g A s.heap mIds ad (mE g ad σ) H locs → lv_has ls 3 [(0, .ref (ad 999)), (1, .int v1)] → W p l e (rm_ 3 62) s m args below meth c H locs 0 0 (Qm below g mIds ad (mE g ad σ) (some (.int r)) A args s) (F0 m 19 ls [.int t_1]) := by
    intro H locs ls hW hl
    refine lv_istore_n (lv' := [(2, .int t_1), (0, .ref (ad 999)), (1, .int v1)]) hx hb dX3_crustOf_19 rfl hl (by decide) rfl (fun ls hl => ?_)
    refine lv_iload_n hx hb dX3_crustOf_20 rfl (lv_at hl 2 rfl) ?_
    refine lv_iconst (v := 1) hx hb dX3_crustOf_21 (by decide) ?_
    refine lv_iadd hx hb dX3_crustOf_22 ?_
    refine lv_aload_n hx hb dX3_crustOf_23 rfl (lv_at hl 1 rfl) ?_
    refine mg_1 X hW dX3_crustOf_24 ?_
    refine lv_iconst (v := 0) hx hb dX3_crustOf_27 (by decide) ?_
    refine ml_1 X hW (by decide) dX3_crustOf_28 ?_
    refine lv_icmp_ge (tgt := 48) hx hb dX3_crustOf_29 (by decide) (fun c_3 => ?_) (fun c_3 => ?_)
    · replace hf := ip hf c_3
      refine lv_iload_n hx hb dX3_crustOf_48 rfl (lv_at hl 0 rfl) ?_
      exact p_iret X hW hf dX3_crustOf_49
    · replace hf := ine hf c_3
      refine lv_aload_n hx hb dX3_crustOf_32 rfl (lv_at hl 1 rfl) ?_
      refine lv_iload_n hx hb dX3_crustOf_33 rfl (lv_at hl 2 rfl) ?_
      refine lv_iconst (v := 1) hx hb dX3_crustOf_34 (by decide) ?_
      refine lv_iadd hx hb dX3_crustOf_35 ?_
      obtain ⟨r_5, h_4, hf⟩ := bd_e hf
      refine k_isBaked X hW had h_4 (by decide) hl (Nat.le_of_ble_eq_true rfl) dX3_crustOf_36 (fun H locs hW => ?_)
      refine lv_if_eq (tgt := 48) hx hb dX3_crustOf_39 (by decide) (fun c_6 => ?_) (fun c_6 => ?_)
      · replace hf := ip hf c_6
        refine lv_iload_n hx hb dX3_crustOf_48 rfl (lv_at hl 0 rfl) ?_
        exact p_iret X hW hf dX3_crustOf_49
      · replace hf := ine hf c_6
        refine lv_iload_n hx hb dX3_crustOf_42 rfl (lv_at hl 0 rfl) ?_
        refine lv_iconst (v := 1) hx hb dX3_crustOf_43 (by decide) ?_
        refine lv_iadd hx hb dX3_crustOf_44 ?_
        refine lv_goto (tgt := 49) hx hb dX3_crustOf_45 (by decide) ?_
        exact p_iret X hW hf dX3_crustOf_49
  clear hf
  refine lv_if_le (tgt := 18) hx hb dX3_crustOf_1 (by decide) (fun c_7 => ?_) (fun c_7 => ?_)
  · replace hD_2 := ip hD_2 c_7
    refine lv_iconst (v := 0) hx hb dX3_crustOf_18 (by decide) ?_
    cases hD_2
    exact hJ _ _ _ hW (lv_sub hl [0, 1] rfl)
  · replace hD_2 := ine hD_2 c_7
    refine lv_aload_n hx hb dX3_crustOf_4 rfl (lv_at hl 0 rfl) ?_
    refine lv_iload_n hx hb dX3_crustOf_5 rfl (lv_at hl 1 rfl) ?_
    refine lv_iconst (v := 1) hx hb dX3_crustOf_6 (by decide) ?_
    refine lv_isub hx hb dX3_crustOf_7 ?_
    obtain ⟨r_9, h_8, hD_2⟩ := bd_e hD_2
    refine k_isBaked X hW had h_8 (by decide) hl (Nat.le_of_ble_eq_true rfl) dX3_crustOf_8 (fun H locs hW => ?_)
    refine lv_if_eq (tgt := 18) hx hb dX3_crustOf_11 (by decide) (fun c_10 => ?_) (fun c_10 => ?_)
    · replace hD_2 := ip hD_2 c_10
      refine lv_iconst (v := 0) hx hb dX3_crustOf_18 (by decide) ?_
      cases hD_2
      exact hJ _ _ _ hW (lv_sub hl [0, 1] rfl)
    · replace hD_2 := ine hD_2 c_10
      refine lv_iconst (v := 1) hx hb dX3_crustOf_14 (by decide) ?_
      refine lv_goto (tgt := 19) hx hb dX3_crustOf_15 (by decide) ?_
      cases hD_2
      exact hJ _ _ _ hW (lv_sub hl [0, 1] rfl)
theorem w_crustOf (l : Launch) {g : gG} {ad : Nat → Nat} (had : mI ad) {r : Int32} {σ : cS} {v1 : Int32}  (hf : m_crustOf σ v1 = some r) : MM l yX3_crustOf cX3_crustOf 3 (some .int) 3 62 g ad σ σ [.ref (ad 999), .int v1] (some (.int r)) :=
  MC.of (by decide) mIds_nd had (Nat.le_of_ble_eq_true rfl) (fun p e s m below meth c A ls X hW hl => wb_crustOf X had hW hl hf)
theorem k_crustOf {p : Program} {l : Launch} {e : Env} {R : Room} {s : State} {m : MethodId} {args : Array Value} {below : List Frame} {meth : Method} {c : Code} {H : Heap} {locs : List Loc} {Q : State → Prop} {cc : ByteArray} {nL : Nat} {ret : Option FieldType} {g : gG} {A : Nat → Prop} {ad : Nat → Nat} {pc : Nat} {ls : Array Slot} {rest : List Value} {lv : List (Nat × Value)} {r : Int32} {σ : cS} {v1 : Int32} (X : MX p s m args meth c cc nL RX3 ret g A) (hW : WB g A s.heap mIds ad (mE g ad σ) H locs) (had : mI ad)  (hf : m_crustOf σ v1 = some r) (hR : 4 ≤ R.frames ∧ 84 ≤ R.locals) (hl : lv_has ls nL lv) (hcat : (rest.map fun v => v.category).sum ≤ 8) (hdg : decode cc pc = .ok (.invokevirtual 413, 3)) (kk : ∀ (H1 : Heap) (l1 : List Loc), WB g A s.heap mIds ad (mE g ad σ) H1 l1 → W p l e R s m args below meth c H1 l1 0 0 Q (F0 m (pc + 3) ls (.int r :: rest))) : W p l e R s m args below meth c H locs 0 0 Q (F0 m pc ls (.int v1 :: .ref (ad 999) :: rest)) :=
  r_callV X hW Sub.all (w_crustOf l had hf) (lw_V q1623 q1625 qs92 q126 q1626) ⟨rfl, by decide, by decide, by decide +kernel⟩ m_999 mE_o rfl (n := 1) hR hl rfl rfl hcat ⟨Nat.zero_le _, Nat.zero_le _⟩ hdg kk
-- truth
noncomputable def m_truth (v0 : Int32) : Option (Int64) :=
  if v0 = 0 then (some 0) else (some 1)
set_option maxHeartbeats 4000000 in
theorem wb_truth {p : Program} {l : Launch} {e : Env} {s : State} {m : MethodId} {args : Array Value} {below : List Frame} {meth : Method} {c : Code} {g : gG} {A : Nat → Prop} (X : MX p s m args meth c cX3_truth 1 RX3 (some .long) g A)  {r : Int64} {v0 : Int32}  {H : Heap} {locs : List Loc} {ls : Array Slot} (hW : WB g A s.heap [] ad0 E0 H locs) (hl : lv_has ls 1 [(0, .int v0)]) (hf : m_truth v0 = some r) : W p l e (rm_ 1 20) s m args below meth c H locs 0 0 (Qm below g [] ad0 E0 (some (.long r)) A args s) (F0 m 0 ls []) := by
  have hx := X.1.1
  have hb := X.1.2.1
  unfold m_truth at hf
  refine lv_iload_n hx hb dX3_truth_0 rfl (lv_at hl 0 rfl) ?_
  refine lv_if_eq (tgt := 8) hx hb dX3_truth_1 (by decide) (fun c_1 => ?_) (fun c_1 => ?_)
  · replace hf := ip hf c_1
    refine lv_lconst (v := 0) hx hb dX3_truth_8 (by decide) ?_
    exact p_lret X hW hf dX3_truth_9
  · replace hf := ine hf c_1
    refine lv_lconst (v := 1) hx hb dX3_truth_4 (by decide) ?_
    refine lv_goto (tgt := 9) hx hb dX3_truth_5 (by decide) ?_
    exact p_lret X hW hf dX3_truth_9
theorem w_truth (l : Launch) {g : gG} {r : Int64} {v0 : Int32}  (hf : m_truth v0 = some r) : MS l yX3_truth cX3_truth 1 (some .long) 1 20 g [.int v0] (some (.long r)) :=
  MC.of (by decide) List.nodup_nil wI_nil (Nat.le_of_ble_eq_true rfl) (fun p e s m below meth c A ls X hW hl => wb_truth X hW hl hf)
theorem k_truth {p : Program} {l : Launch} {e : Env} {R : Room} {s : State} {m : MethodId} {args : Array Value} {below : List Frame} {meth : Method} {c : Code} {H : Heap} {locs : List Loc} {Q : State → Prop} {cc : ByteArray} {nL : Nat} {ret : Option FieldType} {g : gG} {A : Nat → Prop} {ad : Nat → Nat} {ids : List Nat} {E : Nat → va_E} {pc : Nat} {ls : Array Slot} {rest : List Value} {lv : List (Nat × Value)} {r : Int64} {v0 : Int32} (X : MX p s m args meth c cc nL RX3 ret g A) (hW : WB g A s.heap ids ad E H locs)  (hf : m_truth v0 = some r) (hR : 2 ≤ R.frames ∧ 40 ≤ R.locals) (hl : lv_has ls nL lv) (hcat : (rest.map fun v => v.category).sum ≤ 8) (hdg : decode cc pc = .ok (.invokestatic 386, 3)) (kk : ∀ (H1 : Heap) (l1 : List Loc), WB g A s.heap ids ad E H1 l1 → W p l e R s m args below meth c H1 l1 0 0 Q (F0 m (pc + 3) ls (.long r :: rest))) : W p l e R s m args below meth c H locs 0 0 Q (F0 m pc ls (.int v0 :: rest)) :=
  r_callS X hW Sub.nil (w_truth l hf) (lw_S q1638 q1639 q126 q1640) ⟨by decide, by decide, by decide +kernel⟩ (n := 1) hR hl rfl rfl hcat ⟨Nat.zero_le _, Nat.zero_le _⟩ hdg kk
-- both
noncomputable def m_both (v0 : Int32) (v1 : Int64) (v3 : Int64) : Option (Int64) :=
  if v0 = 2 then (some (v1 + v3)) else (if v0 = 3 then (some (v1 - v3)) else (if v0 = 4 then (if 0 ≤ (lg_cmp v1 v3) then (((m_truth 0).bind fun r_6 => some r_6)) else (((m_truth 1).bind fun r_8 => some r_8))) else (if v0 = 5 then (if 0 < (lg_cmp v1 v3) then (((m_truth 0).bind fun r_12 => some r_12)) else (((m_truth 1).bind fun r_14 => some r_14))) else (if v0 = 6 then (if (lg_cmp v1 v3) = 0 then (((m_truth 1).bind fun r_20 => some r_20)) else (((m_truth 0).bind fun r_18 => some r_18))) else (if v0 = 7 then (if (lg_cmp v1 v3) < 0 then (((m_truth 0).bind fun r_24 => some r_24)) else (((m_truth 1).bind fun r_26 => some r_26))) else (if v0 = 8 then (if (lg_cmp v1 v3) ≤ 0 then (((m_truth 0).bind fun r_30 => some r_30)) else (((m_truth 1).bind fun r_32 => some r_32))) else (if v0 = 9 then (some (v1 ||| v3)) else (if v0 = 10 then (some (v1 &&& v3)) else (if v0 = 11 then (some (v1 ||| v3)) else (if v0 = 12 then (some (v1 ||| v3)) else (if v0 = 13 then (some (v1 * v3)) else (if v0 = 14 then (if (lg_cmp v3 0) = 0 then (some 0) else (gd (nzL v3) (some (v1 / v3)))) else (if v0 = 15 then (if (lg_cmp v3 0) = 0 then (some 0) else (gd (nzL v3) (some (v1 - v1 / v3 * v3)))) else (some (v1 ||| v3)))))))))))))))
set_option maxHeartbeats 4000000 in
theorem wb_both {p : Program} {l : Launch} {e : Env} {s : State} {m : MethodId} {args : Array Value} {below : List Frame} {meth : Method} {c : Code} {g : gG} {A : Nat → Prop} (X : MX p s m args meth c cX3_both 5 RX3 (some .long) g A)  {r : Int64} {v0 : Int32} {v1 : Int64} {v3 : Int64}  {H : Heap} {locs : List Loc} {ls : Array Slot} (hW : WB g A s.heap [] ad0 E0 H locs) (hl : lv_has ls 5 [(0, .int v0), (1, .long v1), (3, .long v3)]) (hf : m_both v0 v1 v3 = some r) : W p l e (rm_ 2 40) s m args below meth c H locs 0 0 (Qm below g [] ad0 E0 (some (.long r)) A args s) (F0 m 0 ls []) := by
  have hx := X.1.1
  have hb := X.1.2.1
  unfold m_both at hf
  refine lv_iload_n hx hb dX3_both_0 rfl (lv_at hl 0 rfl) ?_
  by_cases c_1 : v0 = 2
  · replace hf := ip hf c_1
    refine r_tabIn (tgt := 72) (off := 71) (k := 2) hx hb c_1 dX3_both_1 (by decide) (by decide) rfl (by decide) ?_
    refine lv_lload_n hx hb dX3_both_72 rfl (lv_at hl 1 rfl) ?_
    refine lv_lload_n hx hb dX3_both_73 rfl (lv_at hl 2 rfl) ?_
    refine lv_ladd hx hb dX3_both_74 ?_
    exact p_lret X hW hf dX3_both_75
  · replace hf := ine hf c_1
    by_cases c_2 : v0 = 3
    · replace hf := ip hf c_2
      refine r_tabIn (tgt := 76) (off := 75) (k := 3) hx hb c_2 dX3_both_1 (by decide) (by decide) rfl (by decide) ?_
      refine lv_lload_n hx hb dX3_both_76 rfl (lv_at hl 1 rfl) ?_
      refine lv_lload_n hx hb dX3_both_77 rfl (lv_at hl 2 rfl) ?_
      refine lv_lsub hx hb dX3_both_78 ?_
      exact p_lret X hW hf dX3_both_79
    · replace hf := ine hf c_2
      by_cases c_3 : v0 = 4
      · replace hf := ip hf c_3
        refine r_tabIn (tgt := 112) (off := 111) (k := 4) hx hb c_3 dX3_both_1 (by decide) (by decide) rfl (by decide) ?_
        refine lv_lload_n hx hb dX3_both_112 rfl (lv_at hl 1 rfl) ?_
        refine lv_lload_n hx hb dX3_both_113 rfl (lv_at hl 2 rfl) ?_
        refine W.lcmp hx hb dX3_both_114 ?_
        refine lv_if_ge (tgt := 122) hx hb dX3_both_115 (by decide) (fun c_4 => ?_) (fun c_4 => ?_)
        · replace hf := ip hf c_4
          refine lv_iconst (v := 0) hx hb dX3_both_122 (by decide) ?_
          obtain ⟨r_6, h_5, hf⟩ := bd_e hf
          refine k_truth X hW h_5 (by decide) hl (Nat.le_of_ble_eq_true rfl) dX3_both_123 (fun H locs hW => ?_)
          exact p_lret X hW hf dX3_both_126
        · replace hf := ine hf c_4
          refine lv_iconst (v := 1) hx hb dX3_both_118 (by decide) ?_
          refine lv_goto (tgt := 123) hx hb dX3_both_119 (by decide) ?_
          obtain ⟨r_8, h_7, hf⟩ := bd_e hf
          refine k_truth X hW h_7 (by decide) hl (Nat.le_of_ble_eq_true rfl) dX3_both_123 (fun H locs hW => ?_)
          exact p_lret X hW hf dX3_both_126
      · replace hf := ine hf c_3
        by_cases c_9 : v0 = 5
        · replace hf := ip hf c_9
          refine r_tabIn (tgt := 127) (off := 126) (k := 5) hx hb c_9 dX3_both_1 (by decide) (by decide) rfl (by decide) ?_
          refine lv_lload_n hx hb dX3_both_127 rfl (lv_at hl 1 rfl) ?_
          refine lv_lload_n hx hb dX3_both_128 rfl (lv_at hl 2 rfl) ?_
          refine W.lcmp hx hb dX3_both_129 ?_
          refine lv_if_gt (tgt := 137) hx hb dX3_both_130 (by decide) (fun c_10 => ?_) (fun c_10 => ?_)
          · replace hf := ip hf c_10
            refine lv_iconst (v := 0) hx hb dX3_both_137 (by decide) ?_
            obtain ⟨r_12, h_11, hf⟩ := bd_e hf
            refine k_truth X hW h_11 (by decide) hl (Nat.le_of_ble_eq_true rfl) dX3_both_138 (fun H locs hW => ?_)
            exact p_lret X hW hf dX3_both_141
          · replace hf := ine hf c_10
            refine lv_iconst (v := 1) hx hb dX3_both_133 (by decide) ?_
            refine lv_goto (tgt := 138) hx hb dX3_both_134 (by decide) ?_
            obtain ⟨r_14, h_13, hf⟩ := bd_e hf
            refine k_truth X hW h_13 (by decide) hl (Nat.le_of_ble_eq_true rfl) dX3_both_138 (fun H locs hW => ?_)
            exact p_lret X hW hf dX3_both_141
        · replace hf := ine hf c_9
          by_cases c_15 : v0 = 6
          · replace hf := ip hf c_15
            refine r_tabIn (tgt := 142) (off := 141) (k := 6) hx hb c_15 dX3_both_1 (by decide) (by decide) rfl (by decide) ?_
            refine lv_lload_n hx hb dX3_both_142 rfl (lv_at hl 1 rfl) ?_
            refine lv_lload_n hx hb dX3_both_143 rfl (lv_at hl 2 rfl) ?_
            refine W.lcmp hx hb dX3_both_144 ?_
            refine lv_if_ne (tgt := 152) hx hb dX3_both_145 (by decide) (fun c_16 => ?_) (fun c_16 => ?_)
            · replace hf := ine hf c_16
              refine lv_iconst (v := 0) hx hb dX3_both_152 (by decide) ?_
              obtain ⟨r_18, h_17, hf⟩ := bd_e hf
              refine k_truth X hW h_17 (by decide) hl (Nat.le_of_ble_eq_true rfl) dX3_both_153 (fun H locs hW => ?_)
              exact p_lret X hW hf dX3_both_156
            · replace hf := ip hf c_16
              refine lv_iconst (v := 1) hx hb dX3_both_148 (by decide) ?_
              refine lv_goto (tgt := 153) hx hb dX3_both_149 (by decide) ?_
              obtain ⟨r_20, h_19, hf⟩ := bd_e hf
              refine k_truth X hW h_19 (by decide) hl (Nat.le_of_ble_eq_true rfl) dX3_both_153 (fun H locs hW => ?_)
              exact p_lret X hW hf dX3_both_156
          · replace hf := ine hf c_15
            by_cases c_21 : v0 = 7
            · replace hf := ip hf c_21
              refine r_tabIn (tgt := 157) (off := 156) (k := 7) hx hb c_21 dX3_both_1 (by decide) (by decide) rfl (by decide) ?_
              refine lv_lload_n hx hb dX3_both_157 rfl (lv_at hl 1 rfl) ?_
              refine lv_lload_n hx hb dX3_both_158 rfl (lv_at hl 2 rfl) ?_
              refine W.lcmp hx hb dX3_both_159 ?_
              refine lv_if_lt (tgt := 167) hx hb dX3_both_160 (by decide) (fun c_22 => ?_) (fun c_22 => ?_)
              · replace hf := ip hf c_22
                refine lv_iconst (v := 0) hx hb dX3_both_167 (by decide) ?_
                obtain ⟨r_24, h_23, hf⟩ := bd_e hf
                refine k_truth X hW h_23 (by decide) hl (Nat.le_of_ble_eq_true rfl) dX3_both_168 (fun H locs hW => ?_)
                exact p_lret X hW hf dX3_both_171
              · replace hf := ine hf c_22
                refine lv_iconst (v := 1) hx hb dX3_both_163 (by decide) ?_
                refine lv_goto (tgt := 168) hx hb dX3_both_164 (by decide) ?_
                obtain ⟨r_26, h_25, hf⟩ := bd_e hf
                refine k_truth X hW h_25 (by decide) hl (Nat.le_of_ble_eq_true rfl) dX3_both_168 (fun H locs hW => ?_)
                exact p_lret X hW hf dX3_both_171
            · replace hf := ine hf c_21
              by_cases c_27 : v0 = 8
              · replace hf := ip hf c_27
                refine r_tabIn (tgt := 172) (off := 171) (k := 8) hx hb c_27 dX3_both_1 (by decide) (by decide) rfl (by decide) ?_
                refine lv_lload_n hx hb dX3_both_172 rfl (lv_at hl 1 rfl) ?_
                refine lv_lload_n hx hb dX3_both_173 rfl (lv_at hl 2 rfl) ?_
                refine W.lcmp hx hb dX3_both_174 ?_
                refine lv_if_le (tgt := 182) hx hb dX3_both_175 (by decide) (fun c_28 => ?_) (fun c_28 => ?_)
                · replace hf := ip hf c_28
                  refine lv_iconst (v := 0) hx hb dX3_both_182 (by decide) ?_
                  obtain ⟨r_30, h_29, hf⟩ := bd_e hf
                  refine k_truth X hW h_29 (by decide) hl (Nat.le_of_ble_eq_true rfl) dX3_both_183 (fun H locs hW => ?_)
                  exact p_lret X hW hf dX3_both_186
                · replace hf := ine hf c_28
                  refine lv_iconst (v := 1) hx hb dX3_both_178 (by decide) ?_
                  refine lv_goto (tgt := 183) hx hb dX3_both_179 (by decide) ?_
                  obtain ⟨r_32, h_31, hf⟩ := bd_e hf
                  refine k_truth X hW h_31 (by decide) hl (Nat.le_of_ble_eq_true rfl) dX3_both_183 (fun H locs hW => ?_)
                  exact p_lret X hW hf dX3_both_186
              · replace hf := ine hf c_27
                by_cases c_33 : v0 = 9
                · replace hf := ip hf c_33
                  refine r_tabIn (tgt := 191) (off := 190) (k := 9) hx hb c_33 dX3_both_1 (by decide) (by decide) rfl (by decide) ?_
                  refine lv_lload_n hx hb dX3_both_191 rfl (lv_at hl 1 rfl) ?_
                  refine lv_lload_n hx hb dX3_both_192 rfl (lv_at hl 2 rfl) ?_
                  refine lv_lor hx hb dX3_both_193 ?_
                  exact p_lret X hW hf dX3_both_194
                · replace hf := ine hf c_33
                  by_cases c_34 : v0 = 10
                  · replace hf := ip hf c_34
                    refine r_tabIn (tgt := 187) (off := 186) (k := 10) hx hb c_34 dX3_both_1 (by decide) (by decide) rfl (by decide) ?_
                    refine lv_lload_n hx hb dX3_both_187 rfl (lv_at hl 1 rfl) ?_
                    refine lv_lload_n hx hb dX3_both_188 rfl (lv_at hl 2 rfl) ?_
                    refine lv_land hx hb dX3_both_189 ?_
                    exact p_lret X hW hf dX3_both_190
                  · replace hf := ine hf c_34
                    by_cases c_35 : v0 = 11
                    · replace hf := ip hf c_35
                      refine r_tabIn (tgt := 191) (off := 190) (k := 11) hx hb c_35 dX3_both_1 (by decide) (by decide) rfl (by decide) ?_
                      refine lv_lload_n hx hb dX3_both_191 rfl (lv_at hl 1 rfl) ?_
                      refine lv_lload_n hx hb dX3_both_192 rfl (lv_at hl 2 rfl) ?_
                      refine lv_lor hx hb dX3_both_193 ?_
                      exact p_lret X hW hf dX3_both_194
                    · replace hf := ine hf c_35
                      by_cases c_36 : v0 = 12
                      · replace hf := ip hf c_36
                        refine r_tabIn (tgt := 191) (off := 190) (k := 12) hx hb c_36 dX3_both_1 (by decide) (by decide) rfl (by decide) ?_
                        refine lv_lload_n hx hb dX3_both_191 rfl (lv_at hl 1 rfl) ?_
                        refine lv_lload_n hx hb dX3_both_192 rfl (lv_at hl 2 rfl) ?_
                        refine lv_lor hx hb dX3_both_193 ?_
                        exact p_lret X hW hf dX3_both_194
                      · replace hf := ine hf c_36
                        by_cases c_37 : v0 = 13
                        · replace hf := ip hf c_37
                          refine r_tabIn (tgt := 80) (off := 79) (k := 13) hx hb c_37 dX3_both_1 (by decide) (by decide) rfl (by decide) ?_
                          refine lv_lload_n hx hb dX3_both_80 rfl (lv_at hl 1 rfl) ?_
                          refine lv_lload_n hx hb dX3_both_81 rfl (lv_at hl 2 rfl) ?_
                          refine lv_lmul hx hb dX3_both_82 ?_
                          exact p_lret X hW hf dX3_both_83
                        · replace hf := ine hf c_37
                          by_cases c_38 : v0 = 14
                          · replace hf := ip hf c_38
                            refine r_tabIn (tgt := 84) (off := 83) (k := 14) hx hb c_38 dX3_both_1 (by decide) (by decide) rfl (by decide) ?_
                            refine lv_lload_n hx hb dX3_both_84 rfl (lv_at hl 2 rfl) ?_
                            refine lv_lconst (v := 0) hx hb dX3_both_85 (by decide) ?_
                            refine W.lcmp hx hb dX3_both_86 ?_
                            refine lv_if_ne (tgt := 94) hx hb dX3_both_87 (by decide) (fun c_39 => ?_) (fun c_39 => ?_)
                            · replace hf := ine hf c_39
                              refine lv_lload_n hx hb dX3_both_94 rfl (lv_at hl 1 rfl) ?_
                              refine lv_lload_n hx hb dX3_both_95 rfl (lv_at hl 2 rfl) ?_
                              obtain ⟨z_40, hf⟩ := gd_e hf
                              refine lv_ldiv hx hb dX3_both_96 (nzL_e z_40) ?_
                              exact p_lret X hW hf dX3_both_97
                            · replace hf := ip hf c_39
                              refine lv_lconst (v := 0) hx hb dX3_both_90 (by decide) ?_
                              refine lv_goto (tgt := 97) hx hb dX3_both_91 (by decide) ?_
                              exact p_lret X hW hf dX3_both_97
                          · replace hf := ine hf c_38
                            by_cases c_41 : v0 = 15
                            · replace hf := ip hf c_41
                              refine r_tabIn (tgt := 98) (off := 97) (k := 15) hx hb c_41 dX3_both_1 (by decide) (by decide) rfl (by decide) ?_
                              refine lv_lload_n hx hb dX3_both_98 rfl (lv_at hl 2 rfl) ?_
                              refine lv_lconst (v := 0) hx hb dX3_both_99 (by decide) ?_
                              refine W.lcmp hx hb dX3_both_100 ?_
                              refine lv_if_ne (tgt := 108) hx hb dX3_both_101 (by decide) (fun c_42 => ?_) (fun c_42 => ?_)
                              · replace hf := ine hf c_42
                                refine lv_lload_n hx hb dX3_both_108 rfl (lv_at hl 1 rfl) ?_
                                refine lv_lload_n hx hb dX3_both_109 rfl (lv_at hl 2 rfl) ?_
                                obtain ⟨z_43, hf⟩ := gd_e hf
                                refine lv_lrem hx hb dX3_both_110 (nzL_e z_43) ?_
                                exact p_lret X hW hf dX3_both_111
                              · replace hf := ip hf c_42
                                refine lv_lconst (v := 0) hx hb dX3_both_104 (by decide) ?_
                                refine lv_goto (tgt := 111) hx hb dX3_both_105 (by decide) ?_
                                exact p_lret X hW hf dX3_both_111
                            · replace hf := ine hf c_41
                              refine lv_tableOut (tgt := 191) hx hb dX3_both_1 (by have := lv_neT c_1 (a := 2) rfl; have := lv_neT c_2 (a := 3) rfl; have := lv_neT c_3 (a := 4) rfl; have := lv_neT c_9 (a := 5) rfl; have := lv_neT c_15 (a := 6) rfl; have := lv_neT c_21 (a := 7) rfl; have := lv_neT c_27 (a := 8) rfl; have := lv_neT c_33 (a := 9) rfl; have := lv_neT c_34 (a := 10) rfl; have := lv_neT c_35 (a := 11) rfl; have := lv_neT c_36 (a := 12) rfl; have := lv_neT c_37 (a := 13) rfl; have := lv_neT c_38 (a := 14) rfl; have := lv_neT c_41 (a := 15) rfl; omega) (by decide) ?_
                              refine lv_lload_n hx hb dX3_both_191 rfl (lv_at hl 1 rfl) ?_
                              refine lv_lload_n hx hb dX3_both_192 rfl (lv_at hl 2 rfl) ?_
                              refine lv_lor hx hb dX3_both_193 ?_
                              exact p_lret X hW hf dX3_both_194
theorem w_both (l : Launch) {g : gG} {r : Int64} {v0 : Int32} {v1 : Int64} {v3 : Int64}  (hf : m_both v0 v1 v3 = some r) : MS l yX3_both cX3_both 5 (some .long) 2 40 g [.int v0, .long v1, .long v3] (some (.long r)) :=
  MC.of (by decide) List.nodup_nil wI_nil (Nat.le_of_ble_eq_true rfl) (fun p e s m below meth c A ls X hW hl => wb_both X hW hl hf)
theorem k_both {p : Program} {l : Launch} {e : Env} {R : Room} {s : State} {m : MethodId} {args : Array Value} {below : List Frame} {meth : Method} {c : Code} {H : Heap} {locs : List Loc} {Q : State → Prop} {cc : ByteArray} {nL : Nat} {ret : Option FieldType} {g : gG} {A : Nat → Prop} {ad : Nat → Nat} {ids : List Nat} {E : Nat → va_E} {pc : Nat} {ls : Array Slot} {rest : List Value} {lv : List (Nat × Value)} {r : Int64} {v0 : Int32} {v1 : Int64} {v3 : Int64} (X : MX p s m args meth c cc nL RX3 ret g A) (hW : WB g A s.heap ids ad E H locs)  (hf : m_both v0 v1 v3 = some r) (hR : 3 ≤ R.frames ∧ 64 ≤ R.locals) (hl : lv_has ls nL lv) (hcat : (rest.map fun v => v.category).sum ≤ 8) (hdg : decode cc pc = .ok (.invokestatic 390, 3)) (kk : ∀ (H1 : Heap) (l1 : List Loc), WB g A s.heap ids ad E H1 l1 → W p l e R s m args below meth c H1 l1 0 0 Q (F0 m (pc + 3) ls (.long r :: rest))) : W p l e R s m args below meth c H locs 0 0 Q (F0 m pc ls (.long v3 :: .long v1 :: .int v0 :: rest)) :=
  r_callS X hW Sub.nil (w_both l hf) (lw_S q1635 q1636 q126 q1637) ⟨by decide, by decide, by decide +kernel⟩ (n := 3) hR hl rfl rfl hcat ⟨Nat.zero_le _, Nat.zero_le _⟩ hdg kk
-- answer
noncomputable def m_answer_6 {ρ : Type} (v1 : Int32) (v3 : Int32) (K : cS → Option ρ) : Nat → cS → Int32 → Int32 → Option ρ
  | 0, _, _, _ => none
  | n + 1, σ, v4, v5 => if v3 ≤ v5 then (K σ) else (gd (inb ((300 * v1) + v5) 1800) (if (σ.1 38 (ix ((300 * v1) + v5))) = 0 then (((if (σ.1 38 (ix ((300 * v1) + v5))) = 0 then (some ((σ.1 39 (ix ((300 * v1) + v5))).toInt64)) else (gd (inb (σ.1 39 (ix ((300 * v1) + v5))) 12) (some ((σ.2 45 (ix (σ.1 39 (ix ((300 * v1) + v5)))))))) : Option (Int64)).bind fun t_4 => (gd (inb v4 300) (m_answer_6 v1 v3 K n (sL σ 46 (ix v4) t_4) (v4 + 1) (v5 + 1))))) else (if (σ.1 38 (ix ((300 * v1) + v5))) = 1 then (((if (σ.1 38 (ix ((300 * v1) + v5))) = 0 then (some ((σ.1 39 (ix ((300 * v1) + v5))).toInt64)) else (gd (inb (σ.1 39 (ix ((300 * v1) + v5))) 12) (some ((σ.2 45 (ix (σ.1 39 (ix ((300 * v1) + v5)))))))) : Option (Int64)).bind fun t_16 => (gd (inb v4 300) (m_answer_6 v1 v3 K n (sL σ 46 (ix v4) t_16) (v4 + 1) (v5 + 1))))) else (if (σ.1 38 (ix ((300 * v1) + v5))) = 9 then (gd (inb (v4 - 1) 300) (m_answer_6 v1 v3 K n (sL σ 46 (ix (v4 - 1)) (1 - (σ.2 46 (ix (v4 - 1))))) v4 (v5 + 1))) else (gd (inb ((v4 + (-1)) - 1) 300) (gd (inb (v4 + (-1)) 300) (((m_both (σ.1 38 (ix ((300 * v1) + v5))) (σ.2 46 (ix ((v4 + (-1)) - 1))) (σ.2 46 (ix (v4 + (-1))))).bind fun r_14 => m_answer_6 v1 v3 K n (sL σ 46 (ix ((v4 + (-1)) - 1)) r_14) (v4 + (-1)) (v5 + 1)))))))))
set_option maxHeartbeats 4000000 in
theorem wm_answer_6 {p : Program} {l : Launch} {e : Env} {s : State} {m : MethodId} {args : Array Value} {below : List Frame} {meth : Method} {c : Code} {g : gG} {A : Nat → Prop} {ad : Nat → Nat} (X : MX p s m args meth c cX3_answer 8 RX3 (some .long) g A) (had : mI ad) {ρ : Type} {res : ρ} {Q : State → Prop} {v1 : Int32} {v3 : Int32}  {K : cS → Option ρ}
    (hK : ∀ (σ : cS) (H : Heap) (locs : List Loc) (ls : Array Slot), WB g A s.heap mIds ad (mE g ad σ) H locs → lv_has ls 8 [(0, .ref (ad 999))] → K σ = some res → W p l e (rm_ 3 64) s m args below meth c H locs 0 0 Q (F0 m 153 ls [])) :
    ∀ (n : Nat) (σ : cS) (v4 : Int32) (v5 : Int32) (H : Heap) (locs : List Loc) (ls : Array Slot), WB g A s.heap mIds ad (mE g ad σ) H locs → lv_has ls 8 [(0, .ref (ad 999)), (1, .int v1), (3, .int v3), (4, .int v4), (5, .int v5)] → m_answer_6 v1 v3 K n σ v4 v5 = some res → W p l e (rm_ 3 64) s m args below meth c H locs 0 0 Q (F0 m 6 ls []) := by
  have hx := X.1.1
  have hb := X.1.2.1
  intro n
  induction n with
  | zero =>
    intro σ v4 v5 H locs ls hW hl hf
    rw [m_answer_6] at hf
    cases hf
  | succ n ih =>
    intro σ v4 v5 H locs ls hW hl hf
    rw [m_answer_6] at hf
    refine lv_iload hx hb dX3_answer_6 (lv_at hl 4 rfl) ?_
    refine lv_iload_n hx hb dX3_answer_8 rfl (lv_at hl 2 rfl) ?_
    refine lv_icmp_ge (tgt := 153) hx hb dX3_answer_9 (by decide) (fun c_1 => ?_) (fun c_1 => ?_)
    · replace hf := ip hf c_1
      exact hK _ _ _ _ hW (lv_sub hl [0] rfl) hf
    · replace hf := ine hf c_1
      refine lv_aload_n hx hb dX3_answer_12 rfl (lv_at hl 0 rfl) ?_
      refine mg_38 X hW dX3_answer_13 ?_
      refine lv_sipush (v := 300) hx hb dX3_answer_16 (by decide) ?_
      refine lv_iload_n hx hb dX3_answer_19 rfl (lv_at hl 1 rfl) ?_
      refine lv_imul hx hb dX3_answer_20 ?_
      refine lv_iload hx hb dX3_answer_21 (lv_at hl 4 rfl) ?_
      refine lv_iadd hx hb dX3_answer_23 ?_
      obtain ⟨h_2, hf⟩ := gd_e hf
      refine ml_38 X hW h_2 dX3_answer_24 ?_
      refine lv_istore (lv' := [(6, .int (σ.1 38 (ix ((300 * v1) + v5)))), (0, .ref (ad 999)), (1, .int v1), (3, .int v3), (4, .int v4), (5, .int v5)]) hx hb dX3_answer_25 hl (by decide) rfl (fun ls hl => ?_)
      refine lv_aload_n hx hb dX3_answer_27 rfl (lv_at hl 1 rfl) ?_
      refine mg_39 X hW dX3_answer_28 ?_
      refine lv_sipush (v := 300) hx hb dX3_answer_31 (by decide) ?_
      refine lv_iload_n hx hb dX3_answer_34 rfl (lv_at hl 2 rfl) ?_
      refine lv_imul hx hb dX3_answer_35 ?_
      refine lv_iload hx hb dX3_answer_36 (lv_at hl 5 rfl) ?_
      refine lv_iadd hx hb dX3_answer_38 ?_
      refine ml_39 X hW h_2 dX3_answer_39 ?_
      refine lv_istore (lv' := [(7, .int (σ.1 39 (ix ((300 * v1) + v5)))), (6, .int (σ.1 38 (ix ((300 * v1) + v5)))), (0, .ref (ad 999)), (1, .int v1), (3, .int v3), (4, .int v4), (5, .int v5)]) hx hb dX3_answer_40 hl (by decide) rfl (fun ls hl => ?_)
      refine lv_iload hx hb dX3_answer_42 (lv_at hl 1 rfl) ?_
      refine lv_if_eq (tgt := 53) hx hb dX3_answer_44 (by decide) (fun c_3 => ?_) (fun c_3 => ?_)
      · replace hf := ip hf c_3
        refine lv_aload_n hx hb dX3_answer_53 rfl (lv_at hl 2 rfl) ?_
        refine mg_46 X hW dX3_answer_54 ?_
        refine lv_iload hx hb dX3_answer_57 (lv_at hl 5 rfl) ?_
        refine lv_iload hx hb dX3_answer_59 (lv_at hl 1 rfl) ?_
        obtain ⟨t_4, hD_5, hf⟩ := bd_e hf
        have hJ : ∀ (H : Heap) (locs : List Loc) (ls : Array Slot), WB g A s.heap mIds ad (mE g ad σ) H locs → lv_has ls 8 [(0, .ref (ad 999)), (1, .int v1), (3, .int v3), (4, .int v4), (5, .int v5)] → W p l e (rm_ 3 64) s m args below meth c H locs 0 0 Q (F0 m 77 ls [.long t_4, .int v4, .ref (ad 46)]) := by
          intro H locs ls hW hl
          obtain ⟨h_6, hf⟩ := gd_e hf
          refine ms_46 X hW h_6 dX3_answer_77 (fun H locs hW => ?_)
          refine lv_iinc (v := (v4 + 1)) (lv' := [(4, .int (v4 + 1)), (0, .ref (ad 999)), (1, .int v1), (3, .int v3), (5, .int v5)]) hx hb dX3_answer_78 hl (k := 3) rfl (ii_v _ _ _ (by decide)) (by decide) rfl (fun ls hl => ?_)
          refine lv_goto (tgt := 147) hx hb dX3_answer_81 (by decide) ?_
          refine lv_iinc (v := (v5 + 1)) (lv' := [(5, .int (v5 + 1)), (4, .int (v4 + 1)), (0, .ref (ad 999)), (1, .int v1), (3, .int v3)]) hx hb dX3_answer_147 hl (k := 4) rfl (ii_v _ _ _ (by decide)) (by decide) rfl (fun ls hl => ?_)
          refine lv_goto (tgt := 6) hx hb dX3_answer_150 (by decide) ?_
          exact ih _ _ _ _ _ _ hW (lv_sub hl [2, 3, 4, 1, 0] rfl) hf
        clear hf
        refine lv_if_ne (tgt := 70) hx hb dX3_answer_61 (by decide) (fun c_7 => ?_) (fun c_7 => ?_)
        · replace hD_5 := ine hD_5 c_7
          refine lv_aload_n hx hb dX3_answer_70 rfl (lv_at hl 2 rfl) ?_
          refine mg_45 X hW dX3_answer_71 ?_
          refine lv_iload hx hb dX3_answer_74 (lv_at hl 0 rfl) ?_
          obtain ⟨h_8, hD_5⟩ := gd_e hD_5
          refine ml_45 X hW h_8 dX3_answer_76 ?_
          cases hD_5
          exact hJ _ _ _ hW (lv_sub hl [2, 3, 4, 5, 6] rfl)
        · replace hD_5 := ip hD_5 c_7
          refine lv_iload hx hb dX3_answer_64 (lv_at hl 0 rfl) ?_
          refine lv_i2l (v := (σ.1 39 (ix ((300 * v1) + v5))).toInt64) hx hb dX3_answer_66 rfl ?_
          refine lv_goto (tgt := 77) hx hb dX3_answer_67 (by decide) ?_
          cases hD_5
          exact hJ _ _ _ hW (lv_sub hl [2, 3, 4, 5, 6] rfl)
      · replace hf := ine hf c_3
        refine lv_iload hx hb dX3_answer_47 (lv_at hl 1 rfl) ?_
        refine lv_iconst (v := 1) hx hb dX3_answer_49 (by decide) ?_
        refine lv_icmp_ne (tgt := 84) hx hb dX3_answer_50 (by decide) (fun c_9 => ?_) (fun c_9 => ?_)
        · replace hf := ine hf c_9
          refine lv_iload hx hb dX3_answer_84 (lv_at hl 1 rfl) ?_
          refine lv_bipush (v := 9) hx hb dX3_answer_86 (by decide) ?_
          refine lv_icmp_ne (tgt := 114) hx hb dX3_answer_88 (by decide) (fun c_10 => ?_) (fun c_10 => ?_)
          · replace hf := ine hf c_10
            refine lv_iinc (v := (v4 + (-1))) (lv' := [(4, .int (v4 + (-1))), (7, .int (σ.1 39 (ix ((300 * v1) + v5)))), (6, .int (σ.1 38 (ix ((300 * v1) + v5)))), (0, .ref (ad 999)), (1, .int v1), (3, .int v3), (5, .int v5)]) hx hb dX3_answer_114 hl (k := 5) rfl (ii_v _ _ _ (by decide)) (by decide) rfl (fun ls hl => ?_)
            refine lv_aload_n hx hb dX3_answer_117 rfl (lv_at hl 3 rfl) ?_
            refine mg_46 X hW dX3_answer_118 ?_
            refine lv_iload hx hb dX3_answer_121 (lv_at hl 0 rfl) ?_
            refine lv_iconst (v := 1) hx hb dX3_answer_123 (by decide) ?_
            refine lv_isub hx hb dX3_answer_124 ?_
            refine lv_iload hx hb dX3_answer_125 (lv_at hl 2 rfl) ?_
            refine lv_aload_n hx hb dX3_answer_127 rfl (lv_at hl 3 rfl) ?_
            refine mg_46 X hW dX3_answer_128 ?_
            refine lv_iload hx hb dX3_answer_131 (lv_at hl 0 rfl) ?_
            refine lv_iconst (v := 1) hx hb dX3_answer_133 (by decide) ?_
            refine lv_isub hx hb dX3_answer_134 ?_
            obtain ⟨h_11, hf⟩ := gd_e hf
            refine ml_46 X hW h_11 dX3_answer_135 ?_
            refine lv_aload_n hx hb dX3_answer_136 rfl (lv_at hl 3 rfl) ?_
            refine mg_46 X hW dX3_answer_137 ?_
            refine lv_iload hx hb dX3_answer_140 (lv_at hl 0 rfl) ?_
            obtain ⟨h_12, hf⟩ := gd_e hf
            refine ml_46 X hW h_12 dX3_answer_142 ?_
            obtain ⟨r_14, h_13, hf⟩ := bd_e hf
            refine k_both X hW h_13 (by decide) hl (Nat.le_of_ble_eq_true rfl) dX3_answer_143 (fun H locs hW => ?_)
            refine ms_46 X hW h_11 dX3_answer_146 (fun H locs hW => ?_)
            refine lv_iinc (v := (v5 + 1)) (lv' := [(5, .int (v5 + 1)), (4, .int (v4 + (-1))), (7, .int (σ.1 39 (ix ((300 * v1) + v5)))), (6, .int (σ.1 38 (ix ((300 * v1) + v5)))), (0, .ref (ad 999)), (1, .int v1), (3, .int v3)]) hx hb dX3_answer_147 hl (k := 6) rfl (ii_v _ _ _ (by decide)) (by decide) rfl (fun ls hl => ?_)
            refine lv_goto (tgt := 6) hx hb dX3_answer_150 (by decide) ?_
            exact ih _ _ _ _ _ _ hW (lv_sub hl [4, 5, 6, 1, 0] rfl) hf
          · replace hf := ip hf c_10
            refine lv_aload_n hx hb dX3_answer_91 rfl (lv_at hl 2 rfl) ?_
            refine mg_46 X hW dX3_answer_92 ?_
            refine lv_iload hx hb dX3_answer_95 (lv_at hl 5 rfl) ?_
            refine lv_iconst (v := 1) hx hb dX3_answer_97 (by decide) ?_
            refine lv_isub hx hb dX3_answer_98 ?_
            refine lv_lconst (v := 1) hx hb dX3_answer_99 (by decide) ?_
            refine lv_aload_n hx hb dX3_answer_100 rfl (lv_at hl 2 rfl) ?_
            refine mg_46 X hW dX3_answer_101 ?_
            refine lv_iload hx hb dX3_answer_104 (lv_at hl 5 rfl) ?_
            refine lv_iconst (v := 1) hx hb dX3_answer_106 (by decide) ?_
            refine lv_isub hx hb dX3_answer_107 ?_
            obtain ⟨h_15, hf⟩ := gd_e hf
            refine ml_46 X hW h_15 dX3_answer_108 ?_
            refine lv_lsub hx hb dX3_answer_109 ?_
            refine ms_46 X hW h_15 dX3_answer_110 (fun H locs hW => ?_)
            refine lv_goto (tgt := 147) hx hb dX3_answer_111 (by decide) ?_
            refine lv_iinc (v := (v5 + 1)) (lv' := [(5, .int (v5 + 1)), (7, .int (σ.1 39 (ix ((300 * v1) + v5)))), (6, .int (σ.1 38 (ix ((300 * v1) + v5)))), (0, .ref (ad 999)), (1, .int v1), (3, .int v3), (4, .int v4)]) hx hb dX3_answer_147 hl (k := 6) rfl (ii_v _ _ _ (by decide)) (by decide) rfl (fun ls hl => ?_)
            refine lv_goto (tgt := 6) hx hb dX3_answer_150 (by decide) ?_
            exact ih _ _ _ _ _ _ hW (lv_sub hl [3, 4, 5, 6, 0] rfl) hf
        · replace hf := ip hf c_9
          refine lv_aload_n hx hb dX3_answer_53 rfl (lv_at hl 2 rfl) ?_
          refine mg_46 X hW dX3_answer_54 ?_
          refine lv_iload hx hb dX3_answer_57 (lv_at hl 5 rfl) ?_
          refine lv_iload hx hb dX3_answer_59 (lv_at hl 1 rfl) ?_
          obtain ⟨t_16, hD_17, hf⟩ := bd_e hf
          have hJ : ∀ (H : Heap) (locs : List Loc) (ls : Array Slot), WB g A s.heap mIds ad (mE g ad σ) H locs → lv_has ls 8 [(0, .ref (ad 999)), (1, .int v1), (3, .int v3), (4, .int v4), (5, .int v5)] → W p l e (rm_ 3 64) s m args below meth c H locs 0 0 Q (F0 m 77 ls [.long t_16, .int v4, .ref (ad 46)]) := by
            intro H locs ls hW hl
            obtain ⟨h_18, hf⟩ := gd_e hf
            refine ms_46 X hW h_18 dX3_answer_77 (fun H locs hW => ?_)
            refine lv_iinc (v := (v4 + 1)) (lv' := [(4, .int (v4 + 1)), (0, .ref (ad 999)), (1, .int v1), (3, .int v3), (5, .int v5)]) hx hb dX3_answer_78 hl (k := 3) rfl (ii_v _ _ _ (by decide)) (by decide) rfl (fun ls hl => ?_)
            refine lv_goto (tgt := 147) hx hb dX3_answer_81 (by decide) ?_
            refine lv_iinc (v := (v5 + 1)) (lv' := [(5, .int (v5 + 1)), (4, .int (v4 + 1)), (0, .ref (ad 999)), (1, .int v1), (3, .int v3)]) hx hb dX3_answer_147 hl (k := 4) rfl (ii_v _ _ _ (by decide)) (by decide) rfl (fun ls hl => ?_)
            refine lv_goto (tgt := 6) hx hb dX3_answer_150 (by decide) ?_
            exact ih _ _ _ _ _ _ hW (lv_sub hl [2, 3, 4, 1, 0] rfl) hf
          clear hf
          refine lv_if_ne (tgt := 70) hx hb dX3_answer_61 (by decide) (fun c_19 => ?_) (fun c_19 => ?_)
          · replace hD_17 := ine hD_17 c_19
            refine lv_aload_n hx hb dX3_answer_70 rfl (lv_at hl 2 rfl) ?_
            refine mg_45 X hW dX3_answer_71 ?_
            refine lv_iload hx hb dX3_answer_74 (lv_at hl 0 rfl) ?_
            obtain ⟨h_20, hD_17⟩ := gd_e hD_17
            refine ml_45 X hW h_20 dX3_answer_76 ?_
            cases hD_17
            exact hJ _ _ _ hW (lv_sub hl [2, 3, 4, 5, 6] rfl)
          · replace hD_17 := ip hD_17 c_19
            refine lv_iload hx hb dX3_answer_64 (lv_at hl 0 rfl) ?_
            refine lv_i2l (v := (σ.1 39 (ix ((300 * v1) + v5))).toInt64) hx hb dX3_answer_66 rfl ?_
            refine lv_goto (tgt := 77) hx hb dX3_answer_67 (by decide) ?_
            cases hD_17
            exact hJ _ _ _ hW (lv_sub hl [2, 3, 4, 5, 6] rfl)
noncomputable def m_answer (σ : cS) (v1 : Int32) (v2 : Int32) (v3 : Int32) : Option (cS × Int64) :=
  m_answer_6 v1 v3 (fun σ_21 => (some (σ_21, (σ_21.2 46 (ix 0))))) FU σ 0 v2
set_option maxHeartbeats 4000000 in
theorem wb_answer {p : Program} {l : Launch} {e : Env} {s : State} {m : MethodId} {args : Array Value} {below : List Frame} {meth : Method} {c : Code} {g : gG} {A : Nat → Prop} {ad : Nat → Nat} (X : MX p s m args meth c cX3_answer 8 RX3 (some .long) g A) (had : mI ad) {σr : cS} {r : Int64} {σ : cS} {v1 : Int32} {v2 : Int32} {v3 : Int32}  {H : Heap} {locs : List Loc} {ls : Array Slot} (hW : WB g A s.heap mIds ad (mE g ad σ) H locs) (hl : lv_has ls 8 [(0, .ref (ad 999)), (1, .int v1), (2, .int v2), (3, .int v3)]) (hf : m_answer σ v1 v2 v3 = some (σr, r)) : W p l e (rm_ 3 64) s m args below meth c H locs 0 0 (Qm below g mIds ad (mE g ad σr) (some (.long r)) A args s) (F0 m 0 ls []) := by
  have hx := X.1.1
  have hb := X.1.2.1
  unfold m_answer at hf
  refine lv_iconst (v := 0) hx hb dX3_answer_0 (by decide) ?_
  refine lv_istore (lv' := [(4, .int 0), (0, .ref (ad 999)), (1, .int v1), (2, .int v2), (3, .int v3)]) hx hb dX3_answer_1 hl (by decide) rfl (fun ls hl => ?_)
  refine lv_iload_n hx hb dX3_answer_3 rfl (lv_at hl 3 rfl) ?_
  refine lv_istore (lv' := [(5, .int v2), (4, .int 0), (0, .ref (ad 999)), (1, .int v1), (2, .int v2), (3, .int v3)]) hx hb dX3_answer_4 hl (by decide) rfl (fun ls hl => ?_)
  refine wm_answer_6 X had (fun σ_21 H locs ls hW hl hf => ?_) _ _ _ _ _ _ _ hW (lv_sub hl [2, 3, 5, 1, 0] rfl) hf
  refine lv_aload_n hx hb dX3_answer_153 rfl (lv_at hl 0 rfl) ?_
  refine mg_46 X hW dX3_answer_154 ?_
  refine lv_iconst (v := 0) hx hb dX3_answer_157 (by decide) ?_
  refine ml_46 X hW (by decide) dX3_answer_158 ?_
  exact m_lret X hW hf dX3_answer_159
theorem w_answer (l : Launch) {g : gG} {ad : Nat → Nat} (had : mI ad) {σr : cS} {r : Int64} {σ : cS} {v1 : Int32} {v2 : Int32} {v3 : Int32}  (hf : m_answer σ v1 v2 v3 = some (σr, r)) : MM l yX3_answer cX3_answer 8 (some .long) 3 64 g ad σ σr [.ref (ad 999), .int v1, .int v2, .int v3] (some (.long r)) :=
  MC.of (by decide) mIds_nd had (Nat.le_of_ble_eq_true rfl) (fun p e s m below meth c A ls X hW hl => wb_answer X had hW hl hf)
theorem k_answer {p : Program} {l : Launch} {e : Env} {R : Room} {s : State} {m : MethodId} {args : Array Value} {below : List Frame} {meth : Method} {c : Code} {H : Heap} {locs : List Loc} {Q : State → Prop} {cc : ByteArray} {nL : Nat} {ret : Option FieldType} {g : gG} {A : Nat → Prop} {ad : Nat → Nat} {pc : Nat} {ls : Array Slot} {rest : List Value} {lv : List (Nat × Value)} {σr : cS} {r : Int64} {σ : cS} {v1 : Int32} {v2 : Int32} {v3 : Int32} (X : MX p s m args meth c cc nL RX3 ret g A) (hW : WB g A s.heap mIds ad (mE g ad σ) H locs) (had : mI ad)  (hf : m_answer σ v1 v2 v3 = some (σr, r)) (hR : 4 ≤ R.frames ∧ 91 ≤ R.locals) (hl : lv_has ls nL lv) (hcat : (rest.map fun v => v.category).sum ≤ 8) (hdg : decode cc pc = .ok (.invokevirtual 382, 3)) (kk : ∀ (H1 : Heap) (l1 : List Loc), WB g A s.heap mIds ad (mE g ad σr) H1 l1 → W p l e R s m args below meth c H1 l1 0 0 Q (F0 m (pc + 3) ls (.long r :: rest))) : W p l e R s m args below meth c H locs 0 0 Q (F0 m pc ls (.int v3 :: .int v2 :: .int v1 :: .ref (ad 999) :: rest)) :=
  r_callV X hW Sub.all (w_answer l had hf) (lw_V q1631 q1633 qs94 q126 q1634) ⟨rfl, by decide, by decide, by decide +kernel⟩ m_999 mE_o rfl (n := 3) hR hl rfl rfl hcat ⟨Nat.zero_le _, Nat.zero_le _⟩ hdg kk
-- crept
noncomputable def m_crept_13 (v1 : Int32) (K : cS → Int32 → Option (cS × Int64)) : Nat → cS → Int32 → Option (cS × Int64)
  | 0, _, _ => none
  | n + 1, σ, v2 => gd (inb v1 6) (if ((12 * v1) + (σ.1 40 (ix v1))) ≤ v2 then (some (σ, 0)) else (gd (inb v2 72) (if (σ.1 42 (ix v2)) = (σ.1 43 (ix v2)) then (K σ v2) else (((m_answer σ v1 (σ.1 42 (ix v2)) (σ.1 43 (ix v2))).bind fun (σ_7, r_6) => if (lg_cmp r_6 1) = 0 then (K σ_7 v2) else (m_crept_13 v1 K n σ_7 (v2 + 1)))))))
set_option maxHeartbeats 4000000 in
theorem wm_crept_13 {p : Program} {l : Launch} {e : Env} {s : State} {m : MethodId} {args : Array Value} {below : List Frame} {meth : Method} {c : Code} {g : gG} {A : Nat → Prop} {ad : Nat → Nat} (X : MX p s m args meth c cX3_crept 3 RX3 (some .long) g A) (had : mI ad) {σr : cS} {r : Int64} {v1 : Int32}  {K : cS → Int32 → Option (cS × Int64)}
    (hK : ∀ (σ : cS) (k2 : Int32) (H : Heap) (locs : List Loc) (ls : Array Slot), WB g A s.heap mIds ad (mE g ad σ) H locs → lv_has ls 3 [(0, .ref (ad 999)), (1, .int v1), (2, .int k2)] → K σ k2 = some (σr, r) → W p l e (rm_ 4 91) s m args below meth c H locs 0 0 (Qm below g mIds ad (mE g ad σr) (some (.long r)) A args s) (F0 m 65 ls [])) :
    ∀ (n : Nat) (σ : cS) (v2 : Int32) (H : Heap) (locs : List Loc) (ls : Array Slot), WB g A s.heap mIds ad (mE g ad σ) H locs → lv_has ls 3 [(0, .ref (ad 999)), (1, .int v1), (2, .int v2)] → m_crept_13 v1 K n σ v2 = some (σr, r) → W p l e (rm_ 4 91) s m args below meth c H locs 0 0 (Qm below g mIds ad (mE g ad σr) (some (.long r)) A args s) (F0 m 13 ls []) := by
  have hx := X.1.1
  have hb := X.1.2.1
  intro n
  induction n with
  | zero =>
    intro σ v2 H locs ls hW hl hf
    rw [m_crept_13] at hf
    cases hf
  | succ n ih =>
    intro σ v2 H locs ls hW hl hf
    rw [m_crept_13] at hf
    refine lv_iload_n hx hb dX3_crept_13 rfl (lv_at hl 2 rfl) ?_
    refine lv_bipush (v := 12) hx hb dX3_crept_14 (by decide) ?_
    refine lv_iload_n hx hb dX3_crept_16 rfl (lv_at hl 1 rfl) ?_
    refine lv_imul hx hb dX3_crept_17 ?_
    refine lv_aload_n hx hb dX3_crept_18 rfl (lv_at hl 0 rfl) ?_
    refine mg_40 X hW dX3_crept_19 ?_
    refine lv_iload_n hx hb dX3_crept_22 rfl (lv_at hl 1 rfl) ?_
    obtain ⟨h_1, hf⟩ := gd_e hf
    refine ml_40 X hW h_1 dX3_crept_23 ?_
    refine lv_iadd hx hb dX3_crept_24 ?_
    refine lv_icmp_ge (tgt := 89) hx hb dX3_crept_25 (by decide) (fun c_2 => ?_) (fun c_2 => ?_)
    · replace hf := ip hf c_2
      refine lv_lconst (v := 0) hx hb dX3_crept_89 (by decide) ?_
      exact m_lret X hW hf dX3_crept_90
    · replace hf := ine hf c_2
      refine lv_aload_n hx hb dX3_crept_28 rfl (lv_at hl 0 rfl) ?_
      refine mg_42 X hW dX3_crept_29 ?_
      refine lv_iload_n hx hb dX3_crept_32 rfl (lv_at hl 2 rfl) ?_
      obtain ⟨h_3, hf⟩ := gd_e hf
      refine ml_42 X hW h_3 dX3_crept_33 ?_
      refine lv_aload_n hx hb dX3_crept_34 rfl (lv_at hl 0 rfl) ?_
      refine mg_43 X hW dX3_crept_35 ?_
      refine lv_iload_n hx hb dX3_crept_38 rfl (lv_at hl 2 rfl) ?_
      refine ml_43 X hW h_3 dX3_crept_39 ?_
      refine lv_icmp_eq (tgt := 65) hx hb dX3_crept_40 (by decide) (fun c_4 => ?_) (fun c_4 => ?_)
      · replace hf := ip hf c_4
        exact hK _ _ _ _ _ hW (lv_sub hl [0, 1, 2] rfl) hf
      · replace hf := ine hf c_4
        refine lv_aload_n hx hb dX3_crept_43 rfl (lv_at hl 0 rfl) ?_
        refine lv_iload_n hx hb dX3_crept_44 rfl (lv_at hl 1 rfl) ?_
        refine lv_aload_n hx hb dX3_crept_45 rfl (lv_at hl 0 rfl) ?_
        refine mg_42 X hW dX3_crept_46 ?_
        refine lv_iload_n hx hb dX3_crept_49 rfl (lv_at hl 2 rfl) ?_
        refine ml_42 X hW h_3 dX3_crept_50 ?_
        refine lv_aload_n hx hb dX3_crept_51 rfl (lv_at hl 0 rfl) ?_
        refine mg_43 X hW dX3_crept_52 ?_
        refine lv_iload_n hx hb dX3_crept_55 rfl (lv_at hl 2 rfl) ?_
        refine ml_43 X hW h_3 dX3_crept_56 ?_
        obtain ⟨⟨σ_7, r_6⟩, h_5, hf⟩ := bd_e hf
        refine k_answer X hW had h_5 (by decide) hl (Nat.le_of_ble_eq_true rfl) dX3_crept_57 (fun H locs hW => ?_)
        refine lv_lconst (v := 1) hx hb dX3_crept_60 (by decide) ?_
        refine W.lcmp hx hb dX3_crept_61 ?_
        refine lv_if_ne (tgt := 83) hx hb dX3_crept_62 (by decide) (fun c_8 => ?_) (fun c_8 => ?_)
        · replace hf := ine hf c_8
          refine lv_iinc (v := (v2 + 1)) (lv' := [(2, .int (v2 + 1)), (0, .ref (ad 999)), (1, .int v1)]) hx hb dX3_crept_83 hl (k := 2) rfl (ii_v _ _ _ (by decide)) (by decide) rfl (fun ls hl => ?_)
          refine lv_goto (tgt := 13) hx hb dX3_crept_86 (by decide) ?_
          exact ih _ _ _ _ _ hW (lv_sub hl [1, 2, 0] rfl) hf
        · replace hf := ip hf c_8
          exact hK _ _ _ _ _ hW (lv_sub hl [0, 1, 2] rfl) hf
noncomputable def m_crept (σ : cS) : Option (cS × Int64) :=
  m_crept_13 (σ.1 1 (ix 8)) (fun σ_9 v_10 => (gd (inb v_10 72) (((m_answer σ_9 (σ.1 1 (ix 8)) (σ_9.1 41 (ix v_10)) (σ_9.1 42 (ix v_10))).bind fun (σ_14, r_13) => some (σ_14, r_13))))) FU σ (12 * (σ.1 1 (ix 8)))
set_option maxHeartbeats 4000000 in
theorem wb_crept {p : Program} {l : Launch} {e : Env} {s : State} {m : MethodId} {args : Array Value} {below : List Frame} {meth : Method} {c : Code} {g : gG} {A : Nat → Prop} {ad : Nat → Nat} (X : MX p s m args meth c cX3_crept 3 RX3 (some .long) g A) (had : mI ad) {σr : cS} {r : Int64} {σ : cS}  {H : Heap} {locs : List Loc} {ls : Array Slot} (hW : WB g A s.heap mIds ad (mE g ad σ) H locs) (hl : lv_has ls 3 [(0, .ref (ad 999))]) (hf : m_crept σ = some (σr, r)) : W p l e (rm_ 4 91) s m args below meth c H locs 0 0 (Qm below g mIds ad (mE g ad σr) (some (.long r)) A args s) (F0 m 0 ls []) := by
  have hx := X.1.1
  have hb := X.1.2.1
  unfold m_crept at hf
  refine lv_aload_n hx hb dX3_crept_0 rfl (lv_at hl 0 rfl) ?_
  refine mg_1 X hW dX3_crept_1 ?_
  refine lv_bipush (v := 8) hx hb dX3_crept_4 (by decide) ?_
  refine ml_1 X hW (by decide) dX3_crept_6 ?_
  refine lv_istore_n (lv' := [(1, .int (σ.1 1 (ix 8))), (0, .ref (ad 999))]) hx hb dX3_crept_7 rfl hl (by decide) rfl (fun ls hl => ?_)
  refine lv_bipush (v := 12) hx hb dX3_crept_8 (by decide) ?_
  refine lv_iload_n hx hb dX3_crept_10 rfl (lv_at hl 0 rfl) ?_
  refine lv_imul hx hb dX3_crept_11 ?_
  refine lv_istore_n (lv' := [(2, .int (12 * (σ.1 1 (ix 8)))), (1, .int (σ.1 1 (ix 8))), (0, .ref (ad 999))]) hx hb dX3_crept_12 rfl hl (by decide) rfl (fun ls hl => ?_)
  refine wm_crept_13 X had (fun σ_9 v_10 H locs ls hW hl hf => ?_) _ _ _ _ _ _ hW (lv_sub hl [2, 1, 0] rfl) hf
  refine lv_aload_n hx hb dX3_crept_65 rfl (lv_at hl 0 rfl) ?_
  refine lv_iload_n hx hb dX3_crept_66 rfl (lv_at hl 1 rfl) ?_
  refine lv_aload_n hx hb dX3_crept_67 rfl (lv_at hl 0 rfl) ?_
  refine mg_41 X hW dX3_crept_68 ?_
  refine lv_iload_n hx hb dX3_crept_71 rfl (lv_at hl 2 rfl) ?_
  obtain ⟨h_11, hf⟩ := gd_e hf
  refine ml_41 X hW h_11 dX3_crept_72 ?_
  refine lv_aload_n hx hb dX3_crept_73 rfl (lv_at hl 0 rfl) ?_
  refine mg_42 X hW dX3_crept_74 ?_
  refine lv_iload_n hx hb dX3_crept_77 rfl (lv_at hl 2 rfl) ?_
  refine ml_42 X hW h_11 dX3_crept_78 ?_
  obtain ⟨⟨σ_14, r_13⟩, h_12, hf⟩ := bd_e hf
  refine k_answer X hW had h_12 (by decide) hl (Nat.le_of_ble_eq_true rfl) dX3_crept_79 (fun H locs hW => ?_)
  exact m_lret X hW hf dX3_crept_82
theorem w_crept (l : Launch) {g : gG} {ad : Nat → Nat} (had : mI ad) {σr : cS} {r : Int64} {σ : cS}  (hf : m_crept σ = some (σr, r)) : MM l yX3_crept cX3_crept 3 (some .long) 4 91 g ad σ σr [.ref (ad 999)] (some (.long r)) :=
  MC.of (by decide) mIds_nd had (Nat.le_of_ble_eq_true rfl) (fun p e s m below meth c A ls X hW hl => wb_crept X had hW hl hf)
theorem k_crept {p : Program} {l : Launch} {e : Env} {R : Room} {s : State} {m : MethodId} {args : Array Value} {below : List Frame} {meth : Method} {c : Code} {H : Heap} {locs : List Loc} {Q : State → Prop} {cc : ByteArray} {nL : Nat} {ret : Option FieldType} {g : gG} {A : Nat → Prop} {ad : Nat → Nat} {pc : Nat} {ls : Array Slot} {rest : List Value} {lv : List (Nat × Value)} {σr : cS} {r : Int64} {σ : cS} (X : MX p s m args meth c cc nL RX3 ret g A) (hW : WB g A s.heap mIds ad (mE g ad σ) H locs) (had : mI ad)  (hf : m_crept σ = some (σr, r)) (hR : 5 ≤ R.frames ∧ 113 ≤ R.locals) (hl : lv_has ls nL lv) (hcat : (rest.map fun v => v.category).sum ≤ 8) (hdg : decode cc pc = .ok (.invokevirtual 416, 3)) (kk : ∀ (H1 : Heap) (l1 : List Loc), WB g A s.heap mIds ad (mE g ad σr) H1 l1 → W p l e R s m args below meth c H1 l1 0 0 Q (F0 m (pc + 3) ls (.long r :: rest))) : W p l e R s m args below meth c H locs 0 0 Q (F0 m pc ls (.ref (ad 999) :: rest)) :=
  r_callV X hW Sub.all (w_crept l had hf) (lw_V q1627 q1629 qs93 q126 q1630) ⟨rfl, by decide, by decide, by decide +kernel⟩ m_999 mE_o rfl (n := 0) hR hl rfl rfl hcat ⟨Nat.zero_le _, Nat.zero_le _⟩ hdg kk
-- creepOf
noncomputable def m_creepOf (σ : cS) (v1 : Int32) (v2 : Int32) : Option (cS × Int32) :=
  if (σ.1 1 (ix 8)) = (-1) then (gd (inb v1 10) (((m_held (((((σ.1 3 (ix v1)) / 20) + (σ.1 1 (ix 1))) - (σ.1 4 (ix v1))).toInt64) 3).bind fun r_46 => some (σ, r_46)))) else (gd (inb v1 10) (nmb (sL σ 45 (ix 0) v1.toInt64) fun σ_3 => (nmb (sL σ_3 45 (ix 1) (((sL σ 45 (ix 0) v1.toInt64).1 2 (ix v1)).toInt64)) fun σ_5 => (nmb (sL σ_5 45 (ix 2) (((sL σ_3 45 (ix 1) (((sL σ 45 (ix 0) v1.toInt64).1 2 (ix v1)).toInt64)).1 3 (ix v1)).toInt64)) fun σ_7 => (nmb (sL σ_7 45 (ix 3) (((sL σ_5 45 (ix 2) (((sL σ_3 45 (ix 1) (((sL σ 45 (ix 0) v1.toInt64).1 2 (ix v1)).toInt64)).1 3 (ix v1)).toInt64)).1 4 (ix v1)).toInt64)) fun σ_9 => (nmb (sL σ_9 45 (ix 4) (((sL σ_7 45 (ix 3) (((sL σ_5 45 (ix 2) (((sL σ_3 45 (ix 1) (((sL σ 45 (ix 0) v1.toInt64).1 2 (ix v1)).toInt64)).1 3 (ix v1)).toInt64)).1 4 (ix v1)).toInt64)).1 1 (ix 1)).toInt64)) fun σ_11 => (nmb (sL σ_11 45 (ix 5) v2.toInt64) fun σ_13 => (((if v1 ≤ 0 then (some (v1)) else (some ((v1 - 1))) : Option (Int32)).bind fun t_15 => (gd (inb t_15 10) (nmb (sL σ_13 45 (ix 6) (((sL σ_11 45 (ix 5) v2.toInt64).1 1 (ix 5)).toInt64)) fun σ_18 => (((if ((sL σ_18 45 (ix 7) (((sL σ_13 45 (ix 6) (((sL σ_11 45 (ix 5) v2.toInt64).1 1 (ix 5)).toInt64)).1 2 (ix t_15)).toInt64)).1 1 (ix 0)) ≤ (v1 + 1) then (some (v1)) else (some ((v1 + 1))) : Option (Int32)).bind fun t_20 => (gd (inb t_20 10) (nmb (sL σ_18 45 (ix 7) (((sL σ_13 45 (ix 6) (((sL σ_11 45 (ix 5) v2.toInt64).1 1 (ix 5)).toInt64)).1 2 (ix t_15)).toInt64)) fun σ_23 => (((m_villagesIn (sL σ_23 45 (ix 8) (((sL σ_18 45 (ix 7) (((sL σ_13 45 (ix 6) (((sL σ_11 45 (ix 5) v2.toInt64).1 1 (ix 5)).toInt64)).1 2 (ix t_15)).toInt64)).1 2 (ix t_20)).toInt64)) v1 0).bind fun r_26 => nmb (sL σ_23 45 (ix 8) (((sL σ_18 45 (ix 7) (((sL σ_13 45 (ix 6) (((sL σ_11 45 (ix 5) v2.toInt64).1 1 (ix 5)).toInt64)).1 2 (ix t_15)).toInt64)).1 2 (ix t_20)).toInt64)) fun σ_27 => (((m_villagesIn (sL σ_27 45 (ix 9) r_26.toInt64) v1 1).bind fun r_30 => nmb (sL σ_27 45 (ix 9) r_26.toInt64) fun σ_31 => (((m_crustOf (sL σ_31 45 (ix 10) r_30.toInt64) v1).bind fun r_34 => nmb (sL σ_31 45 (ix 10) r_30.toInt64) fun σ_35 => (((m_crept (sL σ_35 45 (ix 11) r_34.toInt64)).bind fun (σ_39, r_38) => ((m_held r_38 3).bind fun r_41 => some (σ_39, r_41)))))))))))))))))))))))))
set_option maxHeartbeats 4000000 in
theorem wb_creepOf {p : Program} {l : Launch} {e : Env} {s : State} {m : MethodId} {args : Array Value} {below : List Frame} {meth : Method} {c : Code} {g : gG} {A : Nat → Prop} {ad : Nat → Nat} (X : MX p s m args meth c cX3_creepOf 3 RX3 (some .int) g A) (had : mI ad) {σr : cS} {r : Int32} {σ : cS} {v1 : Int32} {v2 : Int32}  {H : Heap} {locs : List Loc} {ls : Array Slot} (hW : WB g A s.heap mIds ad (mE g ad σ) H locs) (hl : lv_has ls 3 [(0, .ref (ad 999)), (1, .int v1), (2, .int v2)]) (hf : m_creepOf σ v1 v2 = some (σr, r)) : W p l e (rm_ 5 113) s m args below meth c H locs 0 0 (Qm below g mIds ad (mE g ad σr) (some (.int r)) A args s) (F0 m 0 ls []) := by
  have hx := X.1.1
  have hb := X.1.2.1
  unfold m_creepOf at hf
  refine lv_aload_n hx hb dX3_creepOf_0 rfl (lv_at hl 0 rfl) ?_
  refine mg_1 X hW dX3_creepOf_1 ?_
  refine lv_bipush (v := 8) hx hb dX3_creepOf_4 (by decide) ?_
  refine ml_1 X hW (by decide) dX3_creepOf_6 ?_
  refine lv_iconst (v := (-1)) hx hb dX3_creepOf_7 (by decide) ?_
  refine lv_icmp_ne (tgt := 40) hx hb dX3_creepOf_8 (by decide) (fun c_1 => ?_) (fun c_1 => ?_)
  · replace hf := ine hf c_1
    refine lv_aload_n hx hb dX3_creepOf_40 rfl (lv_at hl 0 rfl) ?_
    refine mg_45 X hW dX3_creepOf_41 ?_
    refine lv_iconst (v := 0) hx hb dX3_creepOf_44 (by decide) ?_
    refine lv_iload_n hx hb dX3_creepOf_45 rfl (lv_at hl 1 rfl) ?_
    refine lv_i2l (v := v1.toInt64) hx hb dX3_creepOf_46 rfl ?_
    refine ms_45 X hW (by decide) dX3_creepOf_47 (fun H locs hW => ?_)
    refine lv_aload_n hx hb dX3_creepOf_48 rfl (lv_at hl 0 rfl) ?_
    refine mg_45 X hW dX3_creepOf_49 ?_
    refine lv_iconst (v := 1) hx hb dX3_creepOf_52 (by decide) ?_
    refine lv_aload_n hx hb dX3_creepOf_53 rfl (lv_at hl 0 rfl) ?_
    refine mg_2 X hW dX3_creepOf_54 ?_
    refine lv_iload_n hx hb dX3_creepOf_57 rfl (lv_at hl 1 rfl) ?_
    obtain ⟨h_2, hf⟩ := gd_e hf
    refine ml_2 X hW h_2 dX3_creepOf_58 ?_
    refine lv_i2l (v := ((sL σ 45 (ix 0) v1.toInt64).1 2 (ix v1)).toInt64) hx hb dX3_creepOf_59 rfl ?_
    obtain ⟨σ_3, e_4, hf⟩ := nmb_e hf
    rw [← e_4] at hW
    clear e_4
    refine ms_45 X hW (by decide) dX3_creepOf_60 (fun H locs hW => ?_)
    refine lv_aload_n hx hb dX3_creepOf_61 rfl (lv_at hl 0 rfl) ?_
    refine mg_45 X hW dX3_creepOf_62 ?_
    refine lv_iconst (v := 2) hx hb dX3_creepOf_65 (by decide) ?_
    refine lv_aload_n hx hb dX3_creepOf_66 rfl (lv_at hl 0 rfl) ?_
    refine mg_3 X hW dX3_creepOf_67 ?_
    refine lv_iload_n hx hb dX3_creepOf_70 rfl (lv_at hl 1 rfl) ?_
    refine ml_3 X hW h_2 dX3_creepOf_71 ?_
    refine lv_i2l (v := ((sL σ_3 45 (ix 1) (((sL σ 45 (ix 0) v1.toInt64).1 2 (ix v1)).toInt64)).1 3 (ix v1)).toInt64) hx hb dX3_creepOf_72 rfl ?_
    obtain ⟨σ_5, e_6, hf⟩ := nmb_e hf
    rw [← e_6] at hW
    clear e_6
    refine ms_45 X hW (by decide) dX3_creepOf_73 (fun H locs hW => ?_)
    refine lv_aload_n hx hb dX3_creepOf_74 rfl (lv_at hl 0 rfl) ?_
    refine mg_45 X hW dX3_creepOf_75 ?_
    refine lv_iconst (v := 3) hx hb dX3_creepOf_78 (by decide) ?_
    refine lv_aload_n hx hb dX3_creepOf_79 rfl (lv_at hl 0 rfl) ?_
    refine mg_4 X hW dX3_creepOf_80 ?_
    refine lv_iload_n hx hb dX3_creepOf_83 rfl (lv_at hl 1 rfl) ?_
    refine ml_4 X hW h_2 dX3_creepOf_84 ?_
    refine lv_i2l (v := ((sL σ_5 45 (ix 2) (((sL σ_3 45 (ix 1) (((sL σ 45 (ix 0) v1.toInt64).1 2 (ix v1)).toInt64)).1 3 (ix v1)).toInt64)).1 4 (ix v1)).toInt64) hx hb dX3_creepOf_85 rfl ?_
    obtain ⟨σ_7, e_8, hf⟩ := nmb_e hf
    rw [← e_8] at hW
    clear e_8
    refine ms_45 X hW (by decide) dX3_creepOf_86 (fun H locs hW => ?_)
    refine lv_aload_n hx hb dX3_creepOf_87 rfl (lv_at hl 0 rfl) ?_
    refine mg_45 X hW dX3_creepOf_88 ?_
    refine lv_iconst (v := 4) hx hb dX3_creepOf_91 (by decide) ?_
    refine lv_aload_n hx hb dX3_creepOf_92 rfl (lv_at hl 0 rfl) ?_
    refine mg_1 X hW dX3_creepOf_93 ?_
    refine lv_iconst (v := 1) hx hb dX3_creepOf_96 (by decide) ?_
    refine ml_1 X hW (by decide) dX3_creepOf_97 ?_
    refine lv_i2l (v := ((sL σ_7 45 (ix 3) (((sL σ_5 45 (ix 2) (((sL σ_3 45 (ix 1) (((sL σ 45 (ix 0) v1.toInt64).1 2 (ix v1)).toInt64)).1 3 (ix v1)).toInt64)).1 4 (ix v1)).toInt64)).1 1 (ix 1)).toInt64) hx hb dX3_creepOf_98 rfl ?_
    obtain ⟨σ_9, e_10, hf⟩ := nmb_e hf
    rw [← e_10] at hW
    clear e_10
    refine ms_45 X hW (by decide) dX3_creepOf_99 (fun H locs hW => ?_)
    refine lv_aload_n hx hb dX3_creepOf_100 rfl (lv_at hl 0 rfl) ?_
    refine mg_45 X hW dX3_creepOf_101 ?_
    refine lv_iconst (v := 5) hx hb dX3_creepOf_104 (by decide) ?_
    refine lv_iload_n hx hb dX3_creepOf_105 rfl (lv_at hl 2 rfl) ?_
    refine lv_i2l (v := v2.toInt64) hx hb dX3_creepOf_106 rfl ?_
    obtain ⟨σ_11, e_12, hf⟩ := nmb_e hf
    rw [← e_12] at hW
    clear e_12
    refine ms_45 X hW (by decide) dX3_creepOf_107 (fun H locs hW => ?_)
    refine lv_aload_n hx hb dX3_creepOf_108 rfl (lv_at hl 0 rfl) ?_
    refine mg_45 X hW dX3_creepOf_109 ?_
    refine lv_bipush (v := 6) hx hb dX3_creepOf_112 (by decide) ?_
    refine lv_aload_n hx hb dX3_creepOf_114 rfl (lv_at hl 0 rfl) ?_
    refine mg_1 X hW dX3_creepOf_115 ?_
    refine lv_iconst (v := 5) hx hb dX3_creepOf_118 (by decide) ?_
    refine ml_1 X hW (by decide) dX3_creepOf_119 ?_
    refine lv_i2l (v := ((sL σ_11 45 (ix 5) v2.toInt64).1 1 (ix 5)).toInt64) hx hb dX3_creepOf_120 rfl ?_
    obtain ⟨σ_13, e_14, hf⟩ := nmb_e hf
    rw [← e_14] at hW
    clear e_14
    refine ms_45 X hW (by decide) dX3_creepOf_121 (fun H locs hW => ?_)
    refine lv_aload_n hx hb dX3_creepOf_122 rfl (lv_at hl 0 rfl) ?_
    refine mg_45 X hW dX3_creepOf_123 ?_
    refine lv_bipush (v := 7) hx hb dX3_creepOf_126 (by decide) ?_
    refine lv_aload_n hx hb dX3_creepOf_128 rfl (lv_at hl 0 rfl) ?_
    refine mg_2 X hW dX3_creepOf_129 ?_
    refine lv_iload_n hx hb dX3_creepOf_132 rfl (lv_at hl 1 rfl) ?_
    obtain ⟨t_15, hD_16, hf⟩ := bd_e hf
    have hJ : ∀ (H : Heap) (locs : List Loc) (ls : Array Slot), WB g A s.heap mIds ad (mE g ad (sL σ_13 45 (ix 6) (((sL σ_11 45 (ix 5) v2.toInt64).1 1 (ix 5)).toInt64))) H locs → lv_has ls 3 [(0, .ref (ad 999)), (1, .int v1)] → W p l e (rm_ 5 113) s m args below meth c H locs 0 0 (Qm below g mIds ad (mE g ad σr) (some (.int r)) A args s) (F0 m 143 ls [.int t_15, .ref (ad 2), .int 7, .ref (ad 45)]) := by
      intro H locs ls hW hl
      obtain ⟨h_17, hf⟩ := gd_e hf
      refine ml_2 X hW h_17 dX3_creepOf_143 ?_
      refine lv_i2l (v := ((sL σ_13 45 (ix 6) (((sL σ_11 45 (ix 5) v2.toInt64).1 1 (ix 5)).toInt64)).1 2 (ix t_15)).toInt64) hx hb dX3_creepOf_144 rfl ?_
      obtain ⟨σ_18, e_19, hf⟩ := nmb_e hf
      rw [← e_19] at hW
      clear e_19
      refine ms_45 X hW (by decide) dX3_creepOf_145 (fun H locs hW => ?_)
      refine lv_aload_n hx hb dX3_creepOf_146 rfl (lv_at hl 0 rfl) ?_
      refine mg_45 X hW dX3_creepOf_147 ?_
      refine lv_bipush (v := 8) hx hb dX3_creepOf_150 (by decide) ?_
      refine lv_aload_n hx hb dX3_creepOf_152 rfl (lv_at hl 0 rfl) ?_
      refine mg_2 X hW dX3_creepOf_153 ?_
      refine lv_iload_n hx hb dX3_creepOf_156 rfl (lv_at hl 1 rfl) ?_
      refine lv_iconst (v := 1) hx hb dX3_creepOf_157 (by decide) ?_
      refine lv_iadd hx hb dX3_creepOf_158 ?_
      refine lv_aload_n hx hb dX3_creepOf_159 rfl (lv_at hl 0 rfl) ?_
      refine mg_1 X hW dX3_creepOf_160 ?_
      refine lv_iconst (v := 0) hx hb dX3_creepOf_163 (by decide) ?_
      refine ml_1 X hW (by decide) dX3_creepOf_164 ?_
      obtain ⟨t_20, hD_21, hf⟩ := bd_e hf
      have hJ : ∀ (H : Heap) (locs : List Loc) (ls : Array Slot), WB g A s.heap mIds ad (mE g ad (sL σ_18 45 (ix 7) (((sL σ_13 45 (ix 6) (((sL σ_11 45 (ix 5) v2.toInt64).1 1 (ix 5)).toInt64)).1 2 (ix t_15)).toInt64))) H locs → lv_has ls 3 [(0, .ref (ad 999)), (1, .int v1)] → W p l e (rm_ 5 113) s m args below meth c H locs 0 0 (Qm below g mIds ad (mE g ad σr) (some (.int r)) A args s) (F0 m 175 ls [.int t_20, .ref (ad 2), .int 8, .ref (ad 45)]) := by
        intro H locs ls hW hl
        obtain ⟨h_22, hf⟩ := gd_e hf
        refine ml_2 X hW h_22 dX3_creepOf_175 ?_
        refine lv_i2l (v := ((sL σ_18 45 (ix 7) (((sL σ_13 45 (ix 6) (((sL σ_11 45 (ix 5) v2.toInt64).1 1 (ix 5)).toInt64)).1 2 (ix t_15)).toInt64)).1 2 (ix t_20)).toInt64) hx hb dX3_creepOf_176 rfl ?_
        obtain ⟨σ_23, e_24, hf⟩ := nmb_e hf
        rw [← e_24] at hW
        clear e_24
        refine ms_45 X hW (by decide) dX3_creepOf_177 (fun H locs hW => ?_)
        refine lv_aload_n hx hb dX3_creepOf_178 rfl (lv_at hl 0 rfl) ?_
        refine mg_45 X hW dX3_creepOf_179 ?_
        refine lv_bipush (v := 9) hx hb dX3_creepOf_182 (by decide) ?_
        refine lv_aload_n hx hb dX3_creepOf_184 rfl (lv_at hl 0 rfl) ?_
        refine lv_iload_n hx hb dX3_creepOf_185 rfl (lv_at hl 1 rfl) ?_
        refine lv_iconst (v := 0) hx hb dX3_creepOf_186 (by decide) ?_
        obtain ⟨r_26, h_25, hf⟩ := bd_e hf
        refine k_villagesIn X hW had h_25 (by decide) hl (Nat.le_of_ble_eq_true rfl) dX3_creepOf_187 (fun H locs hW => ?_)
        refine lv_i2l (v := r_26.toInt64) hx hb dX3_creepOf_190 rfl ?_
        obtain ⟨σ_27, e_28, hf⟩ := nmb_e hf
        rw [← e_28] at hW
        clear e_28
        refine ms_45 X hW (by decide) dX3_creepOf_191 (fun H locs hW => ?_)
        refine lv_aload_n hx hb dX3_creepOf_192 rfl (lv_at hl 0 rfl) ?_
        refine mg_45 X hW dX3_creepOf_193 ?_
        refine lv_bipush (v := 10) hx hb dX3_creepOf_196 (by decide) ?_
        refine lv_aload_n hx hb dX3_creepOf_198 rfl (lv_at hl 0 rfl) ?_
        refine lv_iload_n hx hb dX3_creepOf_199 rfl (lv_at hl 1 rfl) ?_
        refine lv_iconst (v := 1) hx hb dX3_creepOf_200 (by decide) ?_
        obtain ⟨r_30, h_29, hf⟩ := bd_e hf
        refine k_villagesIn X hW had h_29 (by decide) hl (Nat.le_of_ble_eq_true rfl) dX3_creepOf_201 (fun H locs hW => ?_)
        refine lv_i2l (v := r_30.toInt64) hx hb dX3_creepOf_204 rfl ?_
        obtain ⟨σ_31, e_32, hf⟩ := nmb_e hf
        rw [← e_32] at hW
        clear e_32
        refine ms_45 X hW (by decide) dX3_creepOf_205 (fun H locs hW => ?_)
        refine lv_aload_n hx hb dX3_creepOf_206 rfl (lv_at hl 0 rfl) ?_
        refine mg_45 X hW dX3_creepOf_207 ?_
        refine lv_bipush (v := 11) hx hb dX3_creepOf_210 (by decide) ?_
        refine lv_aload_n hx hb dX3_creepOf_212 rfl (lv_at hl 0 rfl) ?_
        refine lv_iload_n hx hb dX3_creepOf_213 rfl (lv_at hl 1 rfl) ?_
        obtain ⟨r_34, h_33, hf⟩ := bd_e hf
        refine k_crustOf X hW had h_33 (by decide) hl (Nat.le_of_ble_eq_true rfl) dX3_creepOf_214 (fun H locs hW => ?_)
        refine lv_i2l (v := r_34.toInt64) hx hb dX3_creepOf_217 rfl ?_
        obtain ⟨σ_35, e_36, hf⟩ := nmb_e hf
        rw [← e_36] at hW
        clear e_36
        refine ms_45 X hW (by decide) dX3_creepOf_218 (fun H locs hW => ?_)
        refine lv_aload_n hx hb dX3_creepOf_219 rfl (lv_at hl 0 rfl) ?_
        obtain ⟨⟨σ_39, r_38⟩, h_37, hf⟩ := bd_e hf
        refine k_crept X hW had h_37 (by decide) hl (Nat.le_of_ble_eq_true rfl) dX3_creepOf_220 (fun H locs hW => ?_)
        refine lv_iconst (v := 3) hx hb dX3_creepOf_223 (by decide) ?_
        obtain ⟨r_41, h_40, hf⟩ := bd_e hf
        refine k_held X hW h_40 (by decide) hl (Nat.le_of_ble_eq_true rfl) dX3_creepOf_224 (fun H locs hW => ?_)
        exact m_iret X hW hf dX3_creepOf_227
      clear hf
      refine lv_icmp_ge (tgt := 174) hx hb dX3_creepOf_165 (by decide) (fun c_42 => ?_) (fun c_42 => ?_)
      · replace hD_21 := ip hD_21 c_42
        refine lv_iload_n hx hb dX3_creepOf_174 rfl (lv_at hl 1 rfl) ?_
        cases hD_21
        exact hJ _ _ _ hW (lv_sub hl [0, 1] rfl)
      · replace hD_21 := ine hD_21 c_42
        refine lv_iload_n hx hb dX3_creepOf_168 rfl (lv_at hl 1 rfl) ?_
        refine lv_iconst (v := 1) hx hb dX3_creepOf_169 (by decide) ?_
        refine lv_iadd hx hb dX3_creepOf_170 ?_
        refine lv_goto (tgt := 175) hx hb dX3_creepOf_171 (by decide) ?_
        cases hD_21
        exact hJ _ _ _ hW (lv_sub hl [0, 1] rfl)
    clear hf
    refine lv_if_le (tgt := 142) hx hb dX3_creepOf_133 (by decide) (fun c_43 => ?_) (fun c_43 => ?_)
    · replace hD_16 := ip hD_16 c_43
      refine lv_iload_n hx hb dX3_creepOf_142 rfl (lv_at hl 1 rfl) ?_
      cases hD_16
      exact hJ _ _ _ hW (lv_sub hl [0, 1] rfl)
    · replace hD_16 := ine hD_16 c_43
      refine lv_iload_n hx hb dX3_creepOf_136 rfl (lv_at hl 1 rfl) ?_
      refine lv_iconst (v := 1) hx hb dX3_creepOf_137 (by decide) ?_
      refine lv_isub hx hb dX3_creepOf_138 ?_
      refine lv_goto (tgt := 143) hx hb dX3_creepOf_139 (by decide) ?_
      cases hD_16
      exact hJ _ _ _ hW (lv_sub hl [0, 1] rfl)
  · replace hf := ip hf c_1
    refine lv_aload_n hx hb dX3_creepOf_11 rfl (lv_at hl 0 rfl) ?_
    refine mg_3 X hW dX3_creepOf_12 ?_
    refine lv_iload_n hx hb dX3_creepOf_15 rfl (lv_at hl 1 rfl) ?_
    obtain ⟨h_44, hf⟩ := gd_e hf
    refine ml_3 X hW h_44 dX3_creepOf_16 ?_
    refine lv_bipush (v := 20) hx hb dX3_creepOf_17 (by decide) ?_
    refine lv_idiv hx hb dX3_creepOf_19 (by decide) ?_
    refine lv_aload_n hx hb dX3_creepOf_20 rfl (lv_at hl 0 rfl) ?_
    refine mg_1 X hW dX3_creepOf_21 ?_
    refine lv_iconst (v := 1) hx hb dX3_creepOf_24 (by decide) ?_
    refine ml_1 X hW (by decide) dX3_creepOf_25 ?_
    refine lv_iadd hx hb dX3_creepOf_26 ?_
    refine lv_aload_n hx hb dX3_creepOf_27 rfl (lv_at hl 0 rfl) ?_
    refine mg_4 X hW dX3_creepOf_28 ?_
    refine lv_iload_n hx hb dX3_creepOf_31 rfl (lv_at hl 1 rfl) ?_
    refine ml_4 X hW h_44 dX3_creepOf_32 ?_
    refine lv_isub hx hb dX3_creepOf_33 ?_
    refine lv_i2l (v := ((((σ.1 3 (ix v1)) / 20) + (σ.1 1 (ix 1))) - (σ.1 4 (ix v1))).toInt64) hx hb dX3_creepOf_34 rfl ?_
    refine lv_iconst (v := 3) hx hb dX3_creepOf_35 (by decide) ?_
    obtain ⟨r_46, h_45, hf⟩ := bd_e hf
    refine k_held X hW h_45 (by decide) hl (Nat.le_of_ble_eq_true rfl) dX3_creepOf_36 (fun H locs hW => ?_)
    exact m_iret X hW hf dX3_creepOf_39
theorem w_creepOf (l : Launch) {g : gG} {ad : Nat → Nat} (had : mI ad) {σr : cS} {r : Int32} {σ : cS} {v1 : Int32} {v2 : Int32}  (hf : m_creepOf σ v1 v2 = some (σr, r)) : MM l yX3_creepOf cX3_creepOf 3 (some .int) 5 113 g ad σ σr [.ref (ad 999), .int v1, .int v2] (some (.int r)) :=
  MC.of (by decide) mIds_nd had (Nat.le_of_ble_eq_true rfl) (fun p e s m below meth c A ls X hW hl => wb_creepOf X had hW hl hf)
theorem k_creepOf {p : Program} {l : Launch} {e : Env} {R : Room} {s : State} {m : MethodId} {args : Array Value} {below : List Frame} {meth : Method} {c : Code} {H : Heap} {locs : List Loc} {Q : State → Prop} {cc : ByteArray} {nL : Nat} {ret : Option FieldType} {g : gG} {A : Nat → Prop} {ad : Nat → Nat} {pc : Nat} {ls : Array Slot} {rest : List Value} {lv : List (Nat × Value)} {σr : cS} {r : Int32} {σ : cS} {v1 : Int32} {v2 : Int32} (X : MX p s m args meth c cc nL RX3 ret g A) (hW : WB g A s.heap mIds ad (mE g ad σ) H locs) (had : mI ad)  (hf : m_creepOf σ v1 v2 = some (σr, r)) (hR : 6 ≤ R.frames ∧ 135 ≤ R.locals) (hl : lv_has ls nL lv) (hcat : (rest.map fun v => v.category).sum ≤ 8) (hdg : decode cc pc = .ok (.invokevirtual 427, 3)) (kk : ∀ (H1 : Heap) (l1 : List Loc), WB g A s.heap mIds ad (mE g ad σr) H1 l1 → W p l e R s m args below meth c H1 l1 0 0 Q (F0 m (pc + 3) ls (.int r :: rest))) : W p l e R s m args below meth c H locs 0 0 Q (F0 m pc ls (.int v2 :: .int v1 :: .ref (ad 999) :: rest)) :=
  r_callV X hW Sub.all (w_creepOf l had hf) (lw_V q1612 q1614 qs90 q126 q1615) ⟨rfl, by decide, by decide, by decide +kernel⟩ m_999 mE_o rfl (n := 2) hR hl rfl rfl hcat ⟨Nat.zero_le _, Nat.zero_le _⟩ hdg kk
-- sags
noncomputable def m_sags (σ : cS) (v1 : Int32) : Option (cS) :=
  gd (inb v1 10) (gd (inb (v1 + 1) 10) (((m_in (((σ.1 2 (ix v1)) - (σ.1 2 (ix (v1 + 1)))).toInt64) (-4) 4).bind fun r_4 => if r_4 = 0 then (((if ((σ.1 2 (ix v1)) - (σ.1 2 (ix (v1 + 1)))) ≤ 0 then (some ((-1))) else (some (1)) : Option (Int32)).bind fun t_6 => (((m_isBaked σ v1).bind fun r_9 => ((if r_9 = 0 then (some (t_6)) else (some (0)) : Option (Int32)).bind fun t_10 => (((m_isBaked (si σ 2 (ix v1) ((σ.1 2 (ix v1)) - t_10)) (v1 + 1)).bind fun r_13 => if r_13 = 0 then (nmb (si σ 2 (ix v1) ((σ.1 2 (ix v1)) - t_10)) fun σ_15 => (some (si σ_15 2 (ix (v1 + 1)) (((si σ 2 (ix v1) ((σ.1 2 (ix v1)) - t_10)).1 2 (ix (v1 + 1))) + t_6)))) else (nmb (si σ 2 (ix v1) ((σ.1 2 (ix v1)) - t_10)) fun σ_17 => (some (si σ_17 2 (ix (v1 + 1)) (((si σ 2 (ix v1) ((σ.1 2 (ix v1)) - t_10)).1 2 (ix (v1 + 1))) + 0))))))))))) else (some σ))))
set_option maxHeartbeats 4000000 in
theorem wb_sags {p : Program} {l : Launch} {e : Env} {s : State} {m : MethodId} {args : Array Value} {below : List Frame} {meth : Method} {c : Code} {g : gG} {A : Nat → Prop} {ad : Nat → Nat} (X : MX p s m args meth c cX3_sags 4 RX3 none g A) (had : mI ad) {σr : cS}  {σ : cS} {v1 : Int32}  {H : Heap} {locs : List Loc} {ls : Array Slot} (hW : WB g A s.heap mIds ad (mE g ad σ) H locs) (hl : lv_has ls 4 [(0, .ref (ad 999)), (1, .int v1)]) (hf : m_sags σ v1 = some σr) : W p l e (rm_ 3 62) s m args below meth c H locs 0 0 (Qm below g mIds ad (mE g ad σr) none A args s) (F0 m 0 ls []) := by
  have hx := X.1.1
  have hb := X.1.2.1
  unfold m_sags at hf
  refine lv_aload_n hx hb dX3_sags_0 rfl (lv_at hl 0 rfl) ?_
  refine mg_2 X hW dX3_sags_1 ?_
  refine lv_iload_n hx hb dX3_sags_4 rfl (lv_at hl 1 rfl) ?_
  obtain ⟨h_1, hf⟩ := gd_e hf
  refine ml_2 X hW h_1 dX3_sags_5 ?_
  refine lv_aload_n hx hb dX3_sags_6 rfl (lv_at hl 0 rfl) ?_
  refine mg_2 X hW dX3_sags_7 ?_
  refine lv_iload_n hx hb dX3_sags_10 rfl (lv_at hl 1 rfl) ?_
  refine lv_iconst (v := 1) hx hb dX3_sags_11 (by decide) ?_
  refine lv_iadd hx hb dX3_sags_12 ?_
  obtain ⟨h_2, hf⟩ := gd_e hf
  refine ml_2 X hW h_2 dX3_sags_13 ?_
  refine lv_isub hx hb dX3_sags_14 ?_
  refine lv_istore_n (lv' := [(2, .int ((σ.1 2 (ix v1)) - (σ.1 2 (ix (v1 + 1))))), (0, .ref (ad 999)), (1, .int v1)]) hx hb dX3_sags_15 rfl hl (by decide) rfl (fun ls hl => ?_)
  refine lv_iload_n hx hb dX3_sags_16 rfl (lv_at hl 0 rfl) ?_
  refine lv_i2l (v := ((σ.1 2 (ix v1)) - (σ.1 2 (ix (v1 + 1)))).toInt64) hx hb dX3_sags_17 rfl ?_
  refine lv_ldc2 (v := (-4)) hx hb X.1.2.2.2.1 (X.1.2.2.2.2 _ q1645) dX3_sags_18 ?_
  refine lv_ldc2 (v := 4) hx hb X.1.2.2.2.1 (X.1.2.2.2.2 _ q1646) dX3_sags_21 ?_
  obtain ⟨r_4, h_3, hf⟩ := bd_e hf
  refine k_in X hW h_3 (by decide) hl (Nat.le_of_ble_eq_true rfl) dX3_sags_24 (fun H locs hW => ?_)
  refine lv_if_eq (tgt := 31) hx hb dX3_sags_27 (by decide) (fun c_5 => ?_) (fun c_5 => ?_)
  · replace hf := ip hf c_5
    refine lv_iload_n hx hb dX3_sags_31 rfl (lv_at hl 0 rfl) ?_
    obtain ⟨t_6, hD_7, hf⟩ := bd_e hf
    have hJ : ∀ (H : Heap) (locs : List Loc) (ls : Array Slot), WB g A s.heap mIds ad (mE g ad σ) H locs → lv_has ls 4 [(0, .ref (ad 999)), (1, .int v1)] → W p l e (rm_ 3 62) s m args below meth c H locs 0 0 (Qm below g mIds ad (mE g ad σr) none A args s) (F0 m 40 ls [.int t_6]) := by
      intro H locs ls hW hl
      refine lv_istore_n (lv' := [(3, .int t_6), (0, .ref (ad 999)), (1, .int v1)]) hx hb dX3_sags_40 rfl hl (by decide) rfl (fun ls hl => ?_)
      refine lv_aload_n hx hb dX3_sags_41 rfl (lv_at hl 1 rfl) ?_
      refine mg_2 X hW dX3_sags_42 ?_
      refine lv_iload_n hx hb dX3_sags_45 rfl (lv_at hl 2 rfl) ?_
      refine lv_dup2_11 hx hb dX3_sags_46 rfl rfl ?_
      refine ml_2 X hW h_1 dX3_sags_47 ?_
      refine lv_aload_n hx hb dX3_sags_48 rfl (lv_at hl 1 rfl) ?_
      refine lv_iload_n hx hb dX3_sags_49 rfl (lv_at hl 2 rfl) ?_
      obtain ⟨r_9, h_8, hf⟩ := bd_e hf
      refine k_isBaked X hW had h_8 (by decide) hl (Nat.le_of_ble_eq_true rfl) dX3_sags_50 (fun H locs hW => ?_)
      obtain ⟨t_10, hD_11, hf⟩ := bd_e hf
      have hJ : ∀ (H : Heap) (locs : List Loc) (ls : Array Slot), WB g A s.heap mIds ad (mE g ad σ) H locs → lv_has ls 4 [(0, .ref (ad 999)), (1, .int v1), (3, .int t_6)] → W p l e (rm_ 3 62) s m args below meth c H locs 0 0 (Qm below g mIds ad (mE g ad σr) none A args s) (F0 m 61 ls [.int t_10, .int (σ.1 2 (ix v1)), .int v1, .ref (ad 2)]) := by
        intro H locs ls hW hl
        refine lv_isub hx hb dX3_sags_61 ?_
        refine ms_2 X hW h_1 dX3_sags_62 (fun H locs hW => ?_)
        refine lv_aload_n hx hb dX3_sags_63 rfl (lv_at hl 0 rfl) ?_
        refine mg_2 X hW dX3_sags_64 ?_
        refine lv_iload_n hx hb dX3_sags_67 rfl (lv_at hl 1 rfl) ?_
        refine lv_iconst (v := 1) hx hb dX3_sags_68 (by decide) ?_
        refine lv_iadd hx hb dX3_sags_69 ?_
        refine lv_dup2_11 hx hb dX3_sags_70 rfl rfl ?_
        refine ml_2 X hW h_2 dX3_sags_71 ?_
        refine lv_aload_n hx hb dX3_sags_72 rfl (lv_at hl 0 rfl) ?_
        refine lv_iload_n hx hb dX3_sags_73 rfl (lv_at hl 1 rfl) ?_
        refine lv_iconst (v := 1) hx hb dX3_sags_74 (by decide) ?_
        refine lv_iadd hx hb dX3_sags_75 ?_
        obtain ⟨r_13, h_12, hf⟩ := bd_e hf
        refine k_isBaked X hW had h_12 (by decide) hl (Nat.le_of_ble_eq_true rfl) dX3_sags_76 (fun H locs hW => ?_)
        refine lv_if_eq (tgt := 86) hx hb dX3_sags_79 (by decide) (fun c_14 => ?_) (fun c_14 => ?_)
        · replace hf := ip hf c_14
          refine lv_iload_n hx hb dX3_sags_86 rfl (lv_at hl 2 rfl) ?_
          refine lv_iadd hx hb dX3_sags_87 ?_
          obtain ⟨σ_15, e_16, hf⟩ := nmb_e hf
          rw [← e_16] at hW
          clear e_16
          refine ms_2 X hW h_2 dX3_sags_88 (fun H locs hW => ?_)
          exact m_vret X hW hf dX3_sags_89
        · replace hf := ine hf c_14
          refine lv_iconst (v := 0) hx hb dX3_sags_82 (by decide) ?_
          refine lv_goto (tgt := 87) hx hb dX3_sags_83 (by decide) ?_
          refine lv_iadd hx hb dX3_sags_87 ?_
          obtain ⟨σ_17, e_18, hf⟩ := nmb_e hf
          rw [← e_18] at hW
          clear e_18
          refine ms_2 X hW h_2 dX3_sags_88 (fun H locs hW => ?_)
          exact m_vret X hW hf dX3_sags_89
      clear hf
      refine lv_if_eq (tgt := 60) hx hb dX3_sags_53 (by decide) (fun c_19 => ?_) (fun c_19 => ?_)
      · replace hD_11 := ip hD_11 c_19
        refine lv_iload_n hx hb dX3_sags_60 rfl (lv_at hl 0 rfl) ?_
        cases hD_11
        exact hJ _ _ _ hW (lv_sub hl [1, 2, 0] rfl)
      · replace hD_11 := ine hD_11 c_19
        refine lv_iconst (v := 0) hx hb dX3_sags_56 (by decide) ?_
        refine lv_goto (tgt := 61) hx hb dX3_sags_57 (by decide) ?_
        cases hD_11
        exact hJ _ _ _ hW (lv_sub hl [1, 2, 0] rfl)
    clear hf
    refine lv_if_le (tgt := 39) hx hb dX3_sags_32 (by decide) (fun c_20 => ?_) (fun c_20 => ?_)
    · replace hD_7 := ip hD_7 c_20
      refine lv_iconst (v := (-1)) hx hb dX3_sags_39 (by decide) ?_
      cases hD_7
      exact hJ _ _ _ hW (lv_sub hl [1, 2] rfl)
    · replace hD_7 := ine hD_7 c_20
      refine lv_iconst (v := 1) hx hb dX3_sags_35 (by decide) ?_
      refine lv_goto (tgt := 40) hx hb dX3_sags_36 (by decide) ?_
      cases hD_7
      exact hJ _ _ _ hW (lv_sub hl [1, 2] rfl)
  · replace hf := ine hf c_5
    exact m_vret X hW hf dX3_sags_30
theorem w_sags (l : Launch) {g : gG} {ad : Nat → Nat} (had : mI ad) {σr : cS}  {σ : cS} {v1 : Int32}  (hf : m_sags σ v1 = some σr) : MM l yX3_sags cX3_sags 4 none 3 62 g ad σ σr [.ref (ad 999), .int v1] none :=
  MC.of (by decide) mIds_nd had (Nat.le_of_ble_eq_true rfl) (fun p e s m below meth c A ls X hW hl => wb_sags X had hW hl hf)
theorem k_sags {p : Program} {l : Launch} {e : Env} {R : Room} {s : State} {m : MethodId} {args : Array Value} {below : List Frame} {meth : Method} {c : Code} {H : Heap} {locs : List Loc} {Q : State → Prop} {cc : ByteArray} {nL : Nat} {ret : Option FieldType} {g : gG} {A : Nat → Prop} {ad : Nat → Nat} {pc : Nat} {ls : Array Slot} {rest : List Value} {lv : List (Nat × Value)} {σr : cS}  {σ : cS} {v1 : Int32} (X : MX p s m args meth c cc nL RX3 ret g A) (hW : WB g A s.heap mIds ad (mE g ad σ) H locs) (had : mI ad)  (hf : m_sags σ v1 = some σr) (hR : 4 ≤ R.frames ∧ 85 ≤ R.locals) (hl : lv_has ls nL lv) (hcat : (rest.map fun v => v.category).sum ≤ 8) (hdg : decode cc pc = .ok (.invokevirtual 430, 3)) (kk : ∀ (H1 : Heap) (l1 : List Loc), WB g A s.heap mIds ad (mE g ad σr) H1 l1 → W p l e R s m args below meth c H1 l1 0 0 Q (F0 m (pc + 3) ls (rest))) : W p l e R s m args below meth c H locs 0 0 Q (F0 m pc ls (.int v1 :: .ref (ad 999) :: rest)) :=
  r_callV X hW Sub.all (w_sags l had hf) (lw_V q1641 q1643 qs95 q126 q1644) ⟨rfl, by decide, by decide, by decide +kernel⟩ m_999 mE_o rfl (n := 1) hR hl rfl rfl hcat ⟨Nat.zero_le _, Nat.zero_le _⟩ hdg kk
-- crossing
noncomputable def m_crossing_4 {ρ : Type}  (K : cS → Int32 → Option ρ) : Nat → cS → Int32 → Int32 → Option ρ
  | 0, _, _, _ => none
  | n + 1, σ, v1, v2 => if (σ.1 1 (ix 2)) ≤ v2 then (K σ v1) else (((m_sideOf σ v2).bind fun r_3 => gd (inb v2 8) (if r_3 = (σ.1 48 (ix v2)) then (m_crossing_4 K n σ v1 (v2 + 1)) else (m_crossing_4 K n (si σ 9 (ix v2) ((σ.1 9 (ix v2)) + 1)) (v1 + 1) (v2 + 1)))))
set_option maxHeartbeats 4000000 in
theorem wm_crossing_4 {p : Program} {l : Launch} {e : Env} {s : State} {m : MethodId} {args : Array Value} {below : List Frame} {meth : Method} {c : Code} {g : gG} {A : Nat → Prop} {ad : Nat → Nat} (X : MX p s m args meth c cX3_crossing 3 RX3 (some .int) g A) (had : mI ad) {ρ : Type} {res : ρ} {Q : State → Prop}   {K : cS → Int32 → Option ρ}
    (hK : ∀ (σ : cS) (k1 : Int32) (H : Heap) (locs : List Loc) (ls : Array Slot), WB g A s.heap mIds ad (mE g ad σ) H locs → lv_has ls 3 [(1, .int k1)] → K σ k1 = some res → W p l e (rm_ 2 42) s m args below meth c H locs 0 0 Q (F0 m 47 ls [])) :
    ∀ (n : Nat) (σ : cS) (v1 : Int32) (v2 : Int32) (H : Heap) (locs : List Loc) (ls : Array Slot), WB g A s.heap mIds ad (mE g ad σ) H locs → lv_has ls 3 [(0, .ref (ad 999)), (1, .int v1), (2, .int v2)] → m_crossing_4 K n σ v1 v2 = some res → W p l e (rm_ 2 42) s m args below meth c H locs 0 0 Q (F0 m 4 ls []) := by
  have hx := X.1.1
  have hb := X.1.2.1
  intro n
  induction n with
  | zero =>
    intro σ v1 v2 H locs ls hW hl hf
    rw [m_crossing_4] at hf
    cases hf
  | succ n ih =>
    intro σ v1 v2 H locs ls hW hl hf
    rw [m_crossing_4] at hf
    refine lv_iload_n hx hb dX3_crossing_4 rfl (lv_at hl 2 rfl) ?_
    refine lv_aload_n hx hb dX3_crossing_5 rfl (lv_at hl 0 rfl) ?_
    refine mg_1 X hW dX3_crossing_6 ?_
    refine lv_iconst (v := 2) hx hb dX3_crossing_9 (by decide) ?_
    refine ml_1 X hW (by decide) dX3_crossing_10 ?_
    refine lv_icmp_ge (tgt := 47) hx hb dX3_crossing_11 (by decide) (fun c_1 => ?_) (fun c_1 => ?_)
    · replace hf := ip hf c_1
      exact hK _ _ _ _ _ hW (lv_sub hl [1] rfl) hf
    · replace hf := ine hf c_1
      refine lv_aload_n hx hb dX3_crossing_14 rfl (lv_at hl 0 rfl) ?_
      refine lv_iload_n hx hb dX3_crossing_15 rfl (lv_at hl 2 rfl) ?_
      obtain ⟨r_3, h_2, hf⟩ := bd_e hf
      refine k_sideOf X hW had h_2 (by decide) hl (Nat.le_of_ble_eq_true rfl) dX3_crossing_16 (fun H locs hW => ?_)
      refine lv_aload_n hx hb dX3_crossing_19 rfl (lv_at hl 0 rfl) ?_
      refine mg_48 X hW dX3_crossing_20 ?_
      refine lv_iload_n hx hb dX3_crossing_23 rfl (lv_at hl 2 rfl) ?_
      obtain ⟨h_4, hf⟩ := gd_e hf
      refine ml_48 X hW h_4 dX3_crossing_24 ?_
      refine lv_icmp_eq (tgt := 41) hx hb dX3_crossing_25 (by decide) (fun c_5 => ?_) (fun c_5 => ?_)
      · replace hf := ip hf c_5
        refine lv_iinc (v := (v2 + 1)) (lv' := [(2, .int (v2 + 1)), (0, .ref (ad 999)), (1, .int v1)]) hx hb dX3_crossing_41 hl (k := 2) rfl (ii_v _ _ _ (by decide)) (by decide) rfl (fun ls hl => ?_)
        refine lv_goto (tgt := 4) hx hb dX3_crossing_44 (by decide) ?_
        exact ih _ _ _ _ _ _ hW (lv_sub hl [1, 2, 0] rfl) hf
      · replace hf := ine hf c_5
        refine lv_aload_n hx hb dX3_crossing_28 rfl (lv_at hl 0 rfl) ?_
        refine mg_9 X hW dX3_crossing_29 ?_
        refine lv_iload_n hx hb dX3_crossing_32 rfl (lv_at hl 2 rfl) ?_
        refine lv_dup2_11 hx hb dX3_crossing_33 rfl rfl ?_
        refine ml_9 X hW h_4 dX3_crossing_34 ?_
        refine lv_iconst (v := 1) hx hb dX3_crossing_35 (by decide) ?_
        refine lv_iadd hx hb dX3_crossing_36 ?_
        refine ms_9 X hW h_4 dX3_crossing_37 (fun H locs hW => ?_)
        refine lv_iinc (v := (v1 + 1)) (lv' := [(1, .int (v1 + 1)), (0, .ref (ad 999)), (2, .int v2)]) hx hb dX3_crossing_38 hl (k := 1) rfl (ii_v _ _ _ (by decide)) (by decide) rfl (fun ls hl => ?_)
        refine lv_iinc (v := (v2 + 1)) (lv' := [(2, .int (v2 + 1)), (1, .int (v1 + 1)), (0, .ref (ad 999))]) hx hb dX3_crossing_41 hl (k := 2) rfl (ii_v _ _ _ (by decide)) (by decide) rfl (fun ls hl => ?_)
        refine lv_goto (tgt := 4) hx hb dX3_crossing_44 (by decide) ?_
        exact ih _ _ _ _ _ _ hW (lv_sub hl [2, 1, 0] rfl) hf
noncomputable def m_crossing (σ : cS) : Option (cS × Int32) :=
  m_crossing_4  (fun σ_6 v_7 => (some (σ_6, v_7))) FU σ 0 0
set_option maxHeartbeats 4000000 in
theorem wb_crossing {p : Program} {l : Launch} {e : Env} {s : State} {m : MethodId} {args : Array Value} {below : List Frame} {meth : Method} {c : Code} {g : gG} {A : Nat → Prop} {ad : Nat → Nat} (X : MX p s m args meth c cX3_crossing 3 RX3 (some .int) g A) (had : mI ad) {σr : cS} {r : Int32} {σ : cS}  {H : Heap} {locs : List Loc} {ls : Array Slot} (hW : WB g A s.heap mIds ad (mE g ad σ) H locs) (hl : lv_has ls 3 [(0, .ref (ad 999))]) (hf : m_crossing σ = some (σr, r)) : W p l e (rm_ 2 42) s m args below meth c H locs 0 0 (Qm below g mIds ad (mE g ad σr) (some (.int r)) A args s) (F0 m 0 ls []) := by
  have hx := X.1.1
  have hb := X.1.2.1
  unfold m_crossing at hf
  refine lv_iconst (v := 0) hx hb dX3_crossing_0 (by decide) ?_
  refine lv_istore_n (lv' := [(1, .int 0), (0, .ref (ad 999))]) hx hb dX3_crossing_1 rfl hl (by decide) rfl (fun ls hl => ?_)
  refine lv_iconst (v := 0) hx hb dX3_crossing_2 (by decide) ?_
  refine lv_istore_n (lv' := [(2, .int 0), (1, .int 0), (0, .ref (ad 999))]) hx hb dX3_crossing_3 rfl hl (by decide) rfl (fun ls hl => ?_)
  refine wm_crossing_4 X had (fun σ_6 v_7 H locs ls hW hl hf => ?_) _ _ _ _ _ _ _ hW (lv_sub hl [2, 1, 0] rfl) hf
  refine lv_iload_n hx hb dX3_crossing_47 rfl (lv_at hl 0 rfl) ?_
  exact m_iret X hW hf dX3_crossing_48
theorem w_crossing (l : Launch) {g : gG} {ad : Nat → Nat} (had : mI ad) {σr : cS} {r : Int32} {σ : cS}  (hf : m_crossing σ = some (σr, r)) : MM l yX3_crossing cX3_crossing 3 (some .int) 2 42 g ad σ σr [.ref (ad 999)] (some (.int r)) :=
  MC.of (by decide) mIds_nd had (Nat.le_of_ble_eq_true rfl) (fun p e s m below meth c A ls X hW hl => wb_crossing X had hW hl hf)
theorem k_crossing {p : Program} {l : Launch} {e : Env} {R : Room} {s : State} {m : MethodId} {args : Array Value} {below : List Frame} {meth : Method} {c : Code} {H : Heap} {locs : List Loc} {Q : State → Prop} {cc : ByteArray} {nL : Nat} {ret : Option FieldType} {g : gG} {A : Nat → Prop} {ad : Nat → Nat} {pc : Nat} {ls : Array Slot} {rest : List Value} {lv : List (Nat × Value)} {σr : cS} {r : Int32} {σ : cS} (X : MX p s m args meth c cc nL RX3 ret g A) (hW : WB g A s.heap mIds ad (mE g ad σ) H locs) (had : mI ad)  (hf : m_crossing σ = some (σr, r)) (hR : 3 ≤ R.frames ∧ 64 ≤ R.locals) (hl : lv_has ls nL lv) (hcat : (rest.map fun v => v.category).sum ≤ 8) (hdg : decode cc pc = .ok (.invokevirtual 433, 3)) (kk : ∀ (H1 : Heap) (l1 : List Loc), WB g A s.heap mIds ad (mE g ad σr) H1 l1 → W p l e R s m args below meth c H1 l1 0 0 Q (F0 m (pc + 3) ls (.int r :: rest))) : W p l e R s m args below meth c H locs 0 0 Q (F0 m pc ls (.ref (ad 999) :: rest)) :=
  r_callV X hW Sub.all (w_crossing l had hf) (lw_V q1647 q1649 qs96 q126 q1650) ⟨rfl, by decide, by decide, by decide +kernel⟩ m_999 mE_o rfl (n := 0) hR hl rfl rfl hcat ⟨Nat.zero_le _, Nat.zero_le _⟩ hdg kk
-- nightOf
noncomputable def m_nightOf_6 {ρ : Type} (v1 : Int32) (K : cS → Option ρ) : Nat → cS → Int32 → Option ρ
  | 0, _, _ => none
  | n + 1, σ, v2 => if (σ.1 1 (ix 0)) ≤ v2 then (K σ) else (((m_isBaked σ v2).bind fun r_5 => if r_5 = 0 then (gd (inb v2 10) (if ((σ.1 3 (ix v2)) + v1) ≤ 99 then (m_nightOf_6 v1 K n (si σ 3 (ix v2) ((σ.1 3 (ix v2)) + v1)) (v2 + 1)) else (m_nightOf_6 v1 K n (si σ 3 (ix v2) 99) (v2 + 1)))) else (m_nightOf_6 v1 K n σ (v2 + 1))))
set_option maxHeartbeats 4000000 in
theorem wm_nightOf_6 {p : Program} {l : Launch} {e : Env} {s : State} {m : MethodId} {args : Array Value} {below : List Frame} {meth : Method} {c : Code} {g : gG} {A : Nat → Prop} {ad : Nat → Nat} (X : MX p s m args meth c cX3_nightOf 3 RX3 (some .int) g A) (had : mI ad) {ρ : Type} {res : ρ} {Q : State → Prop} {v1 : Int32}  {K : cS → Option ρ}
    (hK : ∀ (σ : cS) (H : Heap) (locs : List Loc) (ls : Array Slot), WB g A s.heap mIds ad (mE g ad σ) H locs → lv_has ls 3 [(0, .ref (ad 999)), (1, .int v1)] → K σ = some res → W p l e (rm_ 6 135) s m args below meth c H locs 0 0 Q (F0 m 62 ls [])) :
    ∀ (n : Nat) (σ : cS) (v2 : Int32) (H : Heap) (locs : List Loc) (ls : Array Slot), WB g A s.heap mIds ad (mE g ad σ) H locs → lv_has ls 3 [(0, .ref (ad 999)), (1, .int v1), (2, .int v2)] → m_nightOf_6 v1 K n σ v2 = some res → W p l e (rm_ 6 135) s m args below meth c H locs 0 0 Q (F0 m 6 ls []) := by
  have hx := X.1.1
  have hb := X.1.2.1
  intro n
  induction n with
  | zero =>
    intro σ v2 H locs ls hW hl hf
    rw [m_nightOf_6] at hf
    cases hf
  | succ n ih =>
    intro σ v2 H locs ls hW hl hf
    rw [m_nightOf_6] at hf
    refine lv_iload_n hx hb dX3_nightOf_6 rfl (lv_at hl 2 rfl) ?_
    refine lv_aload_n hx hb dX3_nightOf_7 rfl (lv_at hl 0 rfl) ?_
    refine mg_1 X hW dX3_nightOf_8 ?_
    refine lv_iconst (v := 0) hx hb dX3_nightOf_11 (by decide) ?_
    refine ml_1 X hW (by decide) dX3_nightOf_12 ?_
    refine lv_icmp_ge (tgt := 62) hx hb dX3_nightOf_13 (by decide) (fun c_3 => ?_) (fun c_3 => ?_)
    · replace hf := ip hf c_3
      exact hK _ _ _ _ hW (lv_sub hl [0, 1] rfl) hf
    · replace hf := ine hf c_3
      refine lv_aload_n hx hb dX3_nightOf_16 rfl (lv_at hl 0 rfl) ?_
      refine lv_iload_n hx hb dX3_nightOf_17 rfl (lv_at hl 2 rfl) ?_
      obtain ⟨r_5, h_4, hf⟩ := bd_e hf
      refine k_isBaked X hW had h_4 (by decide) hl (Nat.le_of_ble_eq_true rfl) dX3_nightOf_18 (fun H locs hW => ?_)
      refine lv_if_ne (tgt := 56) hx hb dX3_nightOf_21 (by decide) (fun c_6 => ?_) (fun c_6 => ?_)
      · replace hf := ine hf c_6
        refine lv_iinc (v := (v2 + 1)) (lv' := [(2, .int (v2 + 1)), (0, .ref (ad 999)), (1, .int v1)]) hx hb dX3_nightOf_56 hl (k := 2) rfl (ii_v _ _ _ (by decide)) (by decide) rfl (fun ls hl => ?_)
        refine lv_goto (tgt := 6) hx hb dX3_nightOf_59 (by decide) ?_
        exact ih _ _ _ _ _ hW (lv_sub hl [1, 2, 0] rfl) hf
      · replace hf := ip hf c_6
        refine lv_aload_n hx hb dX3_nightOf_24 rfl (lv_at hl 0 rfl) ?_
        refine mg_3 X hW dX3_nightOf_25 ?_
        refine lv_iload_n hx hb dX3_nightOf_28 rfl (lv_at hl 2 rfl) ?_
        refine lv_aload_n hx hb dX3_nightOf_29 rfl (lv_at hl 0 rfl) ?_
        refine mg_3 X hW dX3_nightOf_30 ?_
        refine lv_iload_n hx hb dX3_nightOf_33 rfl (lv_at hl 2 rfl) ?_
        obtain ⟨h_7, hf⟩ := gd_e hf
        refine ml_3 X hW h_7 dX3_nightOf_34 ?_
        refine lv_iload_n hx hb dX3_nightOf_35 rfl (lv_at hl 1 rfl) ?_
        refine lv_iadd hx hb dX3_nightOf_36 ?_
        refine lv_bipush (v := 99) hx hb dX3_nightOf_37 (by decide) ?_
        refine lv_icmp_le (tgt := 47) hx hb dX3_nightOf_39 (by decide) (fun c_8 => ?_) (fun c_8 => ?_)
        · replace hf := ip hf c_8
          refine lv_aload_n hx hb dX3_nightOf_47 rfl (lv_at hl 0 rfl) ?_
          refine mg_3 X hW dX3_nightOf_48 ?_
          refine lv_iload_n hx hb dX3_nightOf_51 rfl (lv_at hl 2 rfl) ?_
          refine ml_3 X hW h_7 dX3_nightOf_52 ?_
          refine lv_iload_n hx hb dX3_nightOf_53 rfl (lv_at hl 1 rfl) ?_
          refine lv_iadd hx hb dX3_nightOf_54 ?_
          refine ms_3 X hW h_7 dX3_nightOf_55 (fun H locs hW => ?_)
          refine lv_iinc (v := (v2 + 1)) (lv' := [(2, .int (v2 + 1)), (0, .ref (ad 999)), (1, .int v1)]) hx hb dX3_nightOf_56 hl (k := 2) rfl (ii_v _ _ _ (by decide)) (by decide) rfl (fun ls hl => ?_)
          refine lv_goto (tgt := 6) hx hb dX3_nightOf_59 (by decide) ?_
          exact ih _ _ _ _ _ hW (lv_sub hl [1, 2, 0] rfl) hf
        · replace hf := ine hf c_8
          refine lv_bipush (v := 99) hx hb dX3_nightOf_42 (by decide) ?_
          refine lv_goto (tgt := 55) hx hb dX3_nightOf_44 (by decide) ?_
          refine ms_3 X hW h_7 dX3_nightOf_55 (fun H locs hW => ?_)
          refine lv_iinc (v := (v2 + 1)) (lv' := [(2, .int (v2 + 1)), (0, .ref (ad 999)), (1, .int v1)]) hx hb dX3_nightOf_56 hl (k := 2) rfl (ii_v _ _ _ (by decide)) (by decide) rfl (fun ls hl => ?_)
          refine lv_goto (tgt := 6) hx hb dX3_nightOf_59 (by decide) ?_
          exact ih _ _ _ _ _ hW (lv_sub hl [1, 2, 0] rfl) hf
noncomputable def m_nightOf_64 {ρ : Type} (v1 : Int32) (K : cS → Option ρ) : Nat → cS → Int32 → Option ρ
  | 0, _, _ => none
  | n + 1, σ, v2 => if (σ.1 1 (ix 0)) ≤ v2 then (K σ) else (((m_isBaked σ v2).bind fun r_12 => if r_12 = 0 then (((m_creepOf σ v2 v1).bind fun (σ_16, r_15) => gd (inb v2 10) (m_nightOf_64 v1 K n (si σ_16 47 (ix v2) r_15) (v2 + 1)))) else (gd (inb v2 10) (m_nightOf_64 v1 K n (si σ 47 (ix v2) 0) (v2 + 1)))))
set_option maxHeartbeats 4000000 in
theorem wm_nightOf_64 {p : Program} {l : Launch} {e : Env} {s : State} {m : MethodId} {args : Array Value} {below : List Frame} {meth : Method} {c : Code} {g : gG} {A : Nat → Prop} {ad : Nat → Nat} (X : MX p s m args meth c cX3_nightOf 3 RX3 (some .int) g A) (had : mI ad) {ρ : Type} {res : ρ} {Q : State → Prop} {v1 : Int32}  {K : cS → Option ρ}
    (hK : ∀ (σ : cS) (H : Heap) (locs : List Loc) (ls : Array Slot), WB g A s.heap mIds ad (mE g ad σ) H locs → lv_has ls 3 [(0, .ref (ad 999))] → K σ = some res → W p l e (rm_ 6 135) s m args below meth c H locs 0 0 Q (F0 m 104 ls [])) :
    ∀ (n : Nat) (σ : cS) (v2 : Int32) (H : Heap) (locs : List Loc) (ls : Array Slot), WB g A s.heap mIds ad (mE g ad σ) H locs → lv_has ls 3 [(0, .ref (ad 999)), (1, .int v1), (2, .int v2)] → m_nightOf_64 v1 K n σ v2 = some res → W p l e (rm_ 6 135) s m args below meth c H locs 0 0 Q (F0 m 64 ls []) := by
  have hx := X.1.1
  have hb := X.1.2.1
  intro n
  induction n with
  | zero =>
    intro σ v2 H locs ls hW hl hf
    rw [m_nightOf_64] at hf
    cases hf
  | succ n ih =>
    intro σ v2 H locs ls hW hl hf
    rw [m_nightOf_64] at hf
    refine lv_iload_n hx hb dX3_nightOf_64 rfl (lv_at hl 2 rfl) ?_
    refine lv_aload_n hx hb dX3_nightOf_65 rfl (lv_at hl 0 rfl) ?_
    refine mg_1 X hW dX3_nightOf_66 ?_
    refine lv_iconst (v := 0) hx hb dX3_nightOf_69 (by decide) ?_
    refine ml_1 X hW (by decide) dX3_nightOf_70 ?_
    refine lv_icmp_ge (tgt := 104) hx hb dX3_nightOf_71 (by decide) (fun c_10 => ?_) (fun c_10 => ?_)
    · replace hf := ip hf c_10
      exact hK _ _ _ _ hW (lv_sub hl [0] rfl) hf
    · replace hf := ine hf c_10
      refine lv_aload_n hx hb dX3_nightOf_74 rfl (lv_at hl 0 rfl) ?_
      refine mg_47 X hW dX3_nightOf_75 ?_
      refine lv_iload_n hx hb dX3_nightOf_78 rfl (lv_at hl 2 rfl) ?_
      refine lv_aload_n hx hb dX3_nightOf_79 rfl (lv_at hl 0 rfl) ?_
      refine lv_iload_n hx hb dX3_nightOf_80 rfl (lv_at hl 2 rfl) ?_
      obtain ⟨r_12, h_11, hf⟩ := bd_e hf
      refine k_isBaked X hW had h_11 (by decide) hl (Nat.le_of_ble_eq_true rfl) dX3_nightOf_81 (fun H locs hW => ?_)
      refine lv_if_eq (tgt := 91) hx hb dX3_nightOf_84 (by decide) (fun c_13 => ?_) (fun c_13 => ?_)
      · replace hf := ip hf c_13
        refine lv_aload_n hx hb dX3_nightOf_91 rfl (lv_at hl 0 rfl) ?_
        refine lv_iload_n hx hb dX3_nightOf_92 rfl (lv_at hl 2 rfl) ?_
        refine lv_iload_n hx hb dX3_nightOf_93 rfl (lv_at hl 1 rfl) ?_
        obtain ⟨⟨σ_16, r_15⟩, h_14, hf⟩ := bd_e hf
        refine k_creepOf X hW had h_14 (by decide) hl (Nat.le_of_ble_eq_true rfl) dX3_nightOf_94 (fun H locs hW => ?_)
        obtain ⟨h_17, hf⟩ := gd_e hf
        refine ms_47 X hW h_17 dX3_nightOf_97 (fun H locs hW => ?_)
        refine lv_iinc (v := (v2 + 1)) (lv' := [(2, .int (v2 + 1)), (0, .ref (ad 999)), (1, .int v1)]) hx hb dX3_nightOf_98 hl (k := 2) rfl (ii_v _ _ _ (by decide)) (by decide) rfl (fun ls hl => ?_)
        refine lv_goto (tgt := 64) hx hb dX3_nightOf_101 (by decide) ?_
        exact ih _ _ _ _ _ hW (lv_sub hl [1, 2, 0] rfl) hf
      · replace hf := ine hf c_13
        refine lv_iconst (v := 0) hx hb dX3_nightOf_87 (by decide) ?_
        refine lv_goto (tgt := 97) hx hb dX3_nightOf_88 (by decide) ?_
        obtain ⟨h_18, hf⟩ := gd_e hf
        refine ms_47 X hW h_18 dX3_nightOf_97 (fun H locs hW => ?_)
        refine lv_iinc (v := (v2 + 1)) (lv' := [(2, .int (v2 + 1)), (0, .ref (ad 999)), (1, .int v1)]) hx hb dX3_nightOf_98 hl (k := 2) rfl (ii_v _ _ _ (by decide)) (by decide) rfl (fun ls hl => ?_)
        refine lv_goto (tgt := 64) hx hb dX3_nightOf_101 (by decide) ?_
        exact ih _ _ _ _ _ hW (lv_sub hl [1, 2, 0] rfl) hf
noncomputable def m_nightOf_106 {ρ : Type}  (K : cS → Option ρ) : Nat → cS → Int32 → Option ρ
  | 0, _, _ => none
  | n + 1, σ, v2 => if (σ.1 1 (ix 0)) ≤ v2 then (K σ) else (gd (inb v2 10) (((m_held (((σ.1 2 (ix v2)) + (σ.1 47 (ix v2))).toInt64) 20).bind fun r_23 => m_nightOf_106 K n (si σ 2 (ix v2) r_23) (v2 + 1))))
set_option maxHeartbeats 4000000 in
theorem wm_nightOf_106 {p : Program} {l : Launch} {e : Env} {s : State} {m : MethodId} {args : Array Value} {below : List Frame} {meth : Method} {c : Code} {g : gG} {A : Nat → Prop} {ad : Nat → Nat} (X : MX p s m args meth c cX3_nightOf 3 RX3 (some .int) g A) (had : mI ad) {ρ : Type} {res : ρ} {Q : State → Prop}   {K : cS → Option ρ}
    (hK : ∀ (σ : cS) (H : Heap) (locs : List Loc) (ls : Array Slot), WB g A s.heap mIds ad (mE g ad σ) H locs → lv_has ls 3 [(0, .ref (ad 999))] → K σ = some res → W p l e (rm_ 6 135) s m args below meth c H locs 0 0 Q (F0 m 147 ls [])) :
    ∀ (n : Nat) (σ : cS) (v2 : Int32) (H : Heap) (locs : List Loc) (ls : Array Slot), WB g A s.heap mIds ad (mE g ad σ) H locs → lv_has ls 3 [(0, .ref (ad 999)), (2, .int v2)] → m_nightOf_106 K n σ v2 = some res → W p l e (rm_ 6 135) s m args below meth c H locs 0 0 Q (F0 m 106 ls []) := by
  have hx := X.1.1
  have hb := X.1.2.1
  intro n
  induction n with
  | zero =>
    intro σ v2 H locs ls hW hl hf
    rw [m_nightOf_106] at hf
    cases hf
  | succ n ih =>
    intro σ v2 H locs ls hW hl hf
    rw [m_nightOf_106] at hf
    refine lv_iload_n hx hb dX3_nightOf_106 rfl (lv_at hl 1 rfl) ?_
    refine lv_aload_n hx hb dX3_nightOf_107 rfl (lv_at hl 0 rfl) ?_
    refine mg_1 X hW dX3_nightOf_108 ?_
    refine lv_iconst (v := 0) hx hb dX3_nightOf_111 (by decide) ?_
    refine ml_1 X hW (by decide) dX3_nightOf_112 ?_
    refine lv_icmp_ge (tgt := 147) hx hb dX3_nightOf_113 (by decide) (fun c_20 => ?_) (fun c_20 => ?_)
    · replace hf := ip hf c_20
      exact hK _ _ _ _ hW (lv_sub hl [0] rfl) hf
    · replace hf := ine hf c_20
      refine lv_aload_n hx hb dX3_nightOf_116 rfl (lv_at hl 0 rfl) ?_
      refine mg_2 X hW dX3_nightOf_117 ?_
      refine lv_iload_n hx hb dX3_nightOf_120 rfl (lv_at hl 1 rfl) ?_
      refine lv_aload_n hx hb dX3_nightOf_121 rfl (lv_at hl 0 rfl) ?_
      refine mg_2 X hW dX3_nightOf_122 ?_
      refine lv_iload_n hx hb dX3_nightOf_125 rfl (lv_at hl 1 rfl) ?_
      obtain ⟨h_21, hf⟩ := gd_e hf
      refine ml_2 X hW h_21 dX3_nightOf_126 ?_
      refine lv_aload_n hx hb dX3_nightOf_127 rfl (lv_at hl 0 rfl) ?_
      refine mg_47 X hW dX3_nightOf_128 ?_
      refine lv_iload_n hx hb dX3_nightOf_131 rfl (lv_at hl 1 rfl) ?_
      refine ml_47 X hW h_21 dX3_nightOf_132 ?_
      refine lv_iadd hx hb dX3_nightOf_133 ?_
      refine lv_i2l (v := ((σ.1 2 (ix v2)) + (σ.1 47 (ix v2))).toInt64) hx hb dX3_nightOf_134 rfl ?_
      refine lv_bipush (v := 20) hx hb dX3_nightOf_135 (by decide) ?_
      obtain ⟨r_23, h_22, hf⟩ := bd_e hf
      refine k_held X hW h_22 (by decide) hl (Nat.le_of_ble_eq_true rfl) dX3_nightOf_137 (fun H locs hW => ?_)
      refine ms_2 X hW h_21 dX3_nightOf_140 (fun H locs hW => ?_)
      refine lv_iinc (v := (v2 + 1)) (lv' := [(2, .int (v2 + 1)), (0, .ref (ad 999))]) hx hb dX3_nightOf_141 hl (k := 1) rfl (ii_v _ _ _ (by decide)) (by decide) rfl (fun ls hl => ?_)
      refine lv_goto (tgt := 106) hx hb dX3_nightOf_144 (by decide) ?_
      exact ih _ _ _ _ _ hW (lv_sub hl [1, 0] rfl) hf
noncomputable def m_nightOf_149 {ρ : Type}  (K : cS → Option ρ) : Nat → cS → Int32 → Option ρ
  | 0, _, _ => none
  | n + 1, σ, v2 => if (σ.1 1 (ix 0)) ≤ (v2 + 1) then (K σ) else (((m_sags σ v2).bind fun σ_27 => m_nightOf_149 K n σ_27 (v2 + 1)))
set_option maxHeartbeats 4000000 in
theorem wm_nightOf_149 {p : Program} {l : Launch} {e : Env} {s : State} {m : MethodId} {args : Array Value} {below : List Frame} {meth : Method} {c : Code} {g : gG} {A : Nat → Prop} {ad : Nat → Nat} (X : MX p s m args meth c cX3_nightOf 3 RX3 (some .int) g A) (had : mI ad) {ρ : Type} {res : ρ} {Q : State → Prop}   {K : cS → Option ρ}
    (hK : ∀ (σ : cS) (H : Heap) (locs : List Loc) (ls : Array Slot), WB g A s.heap mIds ad (mE g ad σ) H locs → lv_has ls 3 [(0, .ref (ad 999))] → K σ = some res → W p l e (rm_ 6 135) s m args below meth c H locs 0 0 Q (F0 m 172 ls [])) :
    ∀ (n : Nat) (σ : cS) (v2 : Int32) (H : Heap) (locs : List Loc) (ls : Array Slot), WB g A s.heap mIds ad (mE g ad σ) H locs → lv_has ls 3 [(0, .ref (ad 999)), (2, .int v2)] → m_nightOf_149 K n σ v2 = some res → W p l e (rm_ 6 135) s m args below meth c H locs 0 0 Q (F0 m 149 ls []) := by
  have hx := X.1.1
  have hb := X.1.2.1
  intro n
  induction n with
  | zero =>
    intro σ v2 H locs ls hW hl hf
    rw [m_nightOf_149] at hf
    cases hf
  | succ n ih =>
    intro σ v2 H locs ls hW hl hf
    rw [m_nightOf_149] at hf
    refine lv_iload_n hx hb dX3_nightOf_149 rfl (lv_at hl 1 rfl) ?_
    refine lv_iconst (v := 1) hx hb dX3_nightOf_150 (by decide) ?_
    refine lv_iadd hx hb dX3_nightOf_151 ?_
    refine lv_aload_n hx hb dX3_nightOf_152 rfl (lv_at hl 0 rfl) ?_
    refine mg_1 X hW dX3_nightOf_153 ?_
    refine lv_iconst (v := 0) hx hb dX3_nightOf_156 (by decide) ?_
    refine ml_1 X hW (by decide) dX3_nightOf_157 ?_
    refine lv_icmp_ge (tgt := 172) hx hb dX3_nightOf_158 (by decide) (fun c_25 => ?_) (fun c_25 => ?_)
    · replace hf := ip hf c_25
      exact hK _ _ _ _ hW (lv_sub hl [0] rfl) hf
    · replace hf := ine hf c_25
      refine lv_aload_n hx hb dX3_nightOf_161 rfl (lv_at hl 0 rfl) ?_
      refine lv_iload_n hx hb dX3_nightOf_162 rfl (lv_at hl 1 rfl) ?_
      obtain ⟨σ_27, h_26, hf⟩ := bd_e hf
      refine k_sags X hW had h_26 (by decide) hl (Nat.le_of_ble_eq_true rfl) dX3_nightOf_163 (fun H locs hW => ?_)
      refine lv_iinc (v := (v2 + 1)) (lv' := [(2, .int (v2 + 1)), (0, .ref (ad 999))]) hx hb dX3_nightOf_166 hl (k := 1) rfl (ii_v _ _ _ (by decide)) (by decide) rfl (fun ls hl => ?_)
      refine lv_goto (tgt := 149) hx hb dX3_nightOf_169 (by decide) ?_
      exact ih _ _ _ _ _ hW (lv_sub hl [1, 0] rfl) hf
noncomputable def m_nightOf (σ : cS) (v1 : Int32) : Option (cS × Int32) :=
  ((m_notesSides σ).bind fun σ_2 => m_nightOf_6 v1 (fun σ_9 => (m_nightOf_64 v1 (fun σ_19 => (m_nightOf_106  (fun σ_24 => (m_nightOf_149  (fun σ_28 => (((m_crossing σ_28).bind fun (σ_31, r_30) => some ((si σ_31 1 (ix 5) ((σ_31.1 1 (ix 5)) + 1)), r_30)))) FU σ_24 0)) FU σ_19 0)) FU σ_9 0)) FU σ_2 0)
set_option maxHeartbeats 4000000 in
theorem wb_nightOf {p : Program} {l : Launch} {e : Env} {s : State} {m : MethodId} {args : Array Value} {below : List Frame} {meth : Method} {c : Code} {g : gG} {A : Nat → Prop} {ad : Nat → Nat} (X : MX p s m args meth c cX3_nightOf 3 RX3 (some .int) g A) (had : mI ad) {σr : cS} {r : Int32} {σ : cS} {v1 : Int32}  {H : Heap} {locs : List Loc} {ls : Array Slot} (hW : WB g A s.heap mIds ad (mE g ad σ) H locs) (hl : lv_has ls 3 [(0, .ref (ad 999)), (1, .int v1)]) (hf : m_nightOf σ v1 = some (σr, r)) : W p l e (rm_ 6 135) s m args below meth c H locs 0 0 (Qm below g mIds ad (mE g ad σr) (some (.int r)) A args s) (F0 m 0 ls []) := by
  have hx := X.1.1
  have hb := X.1.2.1
  unfold m_nightOf at hf
  refine lv_aload_n hx hb dX3_nightOf_0 rfl (lv_at hl 0 rfl) ?_
  obtain ⟨σ_2, h_1, hf⟩ := bd_e hf
  refine k_notesSides X hW had h_1 (by decide) hl (Nat.le_of_ble_eq_true rfl) dX3_nightOf_1 (fun H locs hW => ?_)
  refine lv_iconst (v := 0) hx hb dX3_nightOf_4 (by decide) ?_
  refine lv_istore_n (lv' := [(2, .int 0), (0, .ref (ad 999)), (1, .int v1)]) hx hb dX3_nightOf_5 rfl hl (by decide) rfl (fun ls hl => ?_)
  refine wm_nightOf_6 X had (fun σ_9 H locs ls hW hl hf => ?_) _ _ _ _ _ _ hW (lv_sub hl [1, 2, 0] rfl) hf
  refine lv_iconst (v := 0) hx hb dX3_nightOf_62 (by decide) ?_
  refine lv_istore_n (lv' := [(2, .int 0), (0, .ref (ad 999)), (1, .int v1)]) hx hb dX3_nightOf_63 rfl hl (by decide) rfl (fun ls hl => ?_)
  refine wm_nightOf_64 X had (fun σ_19 H locs ls hW hl hf => ?_) _ _ _ _ _ _ hW (lv_sub hl [1, 2, 0] rfl) hf
  refine lv_iconst (v := 0) hx hb dX3_nightOf_104 (by decide) ?_
  refine lv_istore_n (lv' := [(2, .int 0), (0, .ref (ad 999))]) hx hb dX3_nightOf_105 rfl hl (by decide) rfl (fun ls hl => ?_)
  refine wm_nightOf_106 X had (fun σ_24 H locs ls hW hl hf => ?_) _ _ _ _ _ _ hW (lv_sub hl [1, 0] rfl) hf
  refine lv_iconst (v := 0) hx hb dX3_nightOf_147 (by decide) ?_
  refine lv_istore_n (lv' := [(2, .int 0), (0, .ref (ad 999))]) hx hb dX3_nightOf_148 rfl hl (by decide) rfl (fun ls hl => ?_)
  refine wm_nightOf_149 X had (fun σ_28 H locs ls hW hl hf => ?_) _ _ _ _ _ _ hW (lv_sub hl [1, 0] rfl) hf
  refine lv_aload_n hx hb dX3_nightOf_172 rfl (lv_at hl 0 rfl) ?_
  obtain ⟨⟨σ_31, r_30⟩, h_29, hf⟩ := bd_e hf
  refine k_crossing X hW had h_29 (by decide) hl (Nat.le_of_ble_eq_true rfl) dX3_nightOf_173 (fun H locs hW => ?_)
  refine lv_istore_n (lv' := [(2, .int r_30), (0, .ref (ad 999))]) hx hb dX3_nightOf_176 rfl hl (by decide) rfl (fun ls hl => ?_)
  refine lv_aload_n hx hb dX3_nightOf_177 rfl (lv_at hl 1 rfl) ?_
  refine mg_1 X hW dX3_nightOf_178 ?_
  refine lv_iconst (v := 5) hx hb dX3_nightOf_181 (by decide) ?_
  refine lv_dup2_11 hx hb dX3_nightOf_182 rfl rfl ?_
  refine ml_1 X hW (by decide) dX3_nightOf_183 ?_
  refine lv_iconst (v := 1) hx hb dX3_nightOf_184 (by decide) ?_
  refine lv_iadd hx hb dX3_nightOf_185 ?_
  refine ms_1 X hW (by decide) dX3_nightOf_186 (fun H locs hW => ?_)
  refine lv_iload_n hx hb dX3_nightOf_187 rfl (lv_at hl 0 rfl) ?_
  exact m_iret X hW hf dX3_nightOf_188
theorem w_nightOf (l : Launch) {g : gG} {ad : Nat → Nat} (had : mI ad) {σr : cS} {r : Int32} {σ : cS} {v1 : Int32}  (hf : m_nightOf σ v1 = some (σr, r)) : MM l yX3_nightOf cX3_nightOf 3 (some .int) 6 135 g ad σ σr [.ref (ad 999), .int v1] (some (.int r)) :=
  MC.of (by decide) mIds_nd had (Nat.le_of_ble_eq_true rfl) (fun p e s m below meth c A ls X hW hl => wb_nightOf X had hW hl hf)
theorem k_nightOf {p : Program} {l : Launch} {e : Env} {R : Room} {s : State} {m : MethodId} {args : Array Value} {below : List Frame} {meth : Method} {c : Code} {H : Heap} {locs : List Loc} {Q : State → Prop} {cc : ByteArray} {nL : Nat} {ret : Option FieldType} {g : gG} {A : Nat → Prop} {ad : Nat → Nat} {pc : Nat} {ls : Array Slot} {rest : List Value} {lv : List (Nat × Value)} {σr : cS} {r : Int32} {σ : cS} {v1 : Int32} (X : MX p s m args meth c cc nL RX3 ret g A) (hW : WB g A s.heap mIds ad (mE g ad σ) H locs) (had : mI ad)  (hf : m_nightOf σ v1 = some (σr, r)) (hR : 7 ≤ R.frames ∧ 157 ≤ R.locals) (hl : lv_has ls nL lv) (hcat : (rest.map fun v => v.category).sum ≤ 8) (hdg : decode cc pc = .ok (.invokevirtual 436, 3)) (kk : ∀ (H1 : Heap) (l1 : List Loc), WB g A s.heap mIds ad (mE g ad σr) H1 l1 → W p l e R s m args below meth c H1 l1 0 0 Q (F0 m (pc + 3) ls (.int r :: rest))) : W p l e R s m args below meth c H locs 0 0 Q (F0 m pc ls (.int v1 :: .ref (ad 999) :: rest)) :=
  r_callV X hW Sub.all (w_nightOf l had hf) (lw_V q1604 q1606 qs88 q126 q1607) ⟨rfl, by decide, by decide, by decide +kernel⟩ m_999 mE_o rfl (n := 1) hR hl rfl rfl hcat ⟨Nat.zero_le _, Nat.zero_le _⟩ hdg kk
-- goesNight
noncomputable def m_goesNight (σ : cS) : Option (cS × Int32) :=
  ((m_warmthOf σ (σ.1 1 (ix 5))).bind fun r_2 => ((m_nightOf σ r_2).bind fun (σ_5, r_4) => some (σ_5, r_4)))
set_option maxHeartbeats 4000000 in
theorem wb_goesNight {p : Program} {l : Launch} {e : Env} {s : State} {m : MethodId} {args : Array Value} {below : List Frame} {meth : Method} {c : Code} {g : gG} {A : Nat → Prop} {ad : Nat → Nat} (X : MX p s m args meth c cX3_goesNight 1 RX3 (some .int) g A) (had : mI ad) {σr : cS} {r : Int32} {σ : cS}  {H : Heap} {locs : List Loc} {ls : Array Slot} (hW : WB g A s.heap mIds ad (mE g ad σ) H locs) (hl : lv_has ls 1 [(0, .ref (ad 999))]) (hf : m_goesNight σ = some (σr, r)) : W p l e (rm_ 7 157) s m args below meth c H locs 0 0 (Qm below g mIds ad (mE g ad σr) (some (.int r)) A args s) (F0 m 0 ls []) := by
  have hx := X.1.1
  have hb := X.1.2.1
  unfold m_goesNight at hf
  refine lv_aload_n hx hb dX3_goesNight_0 rfl (lv_at hl 0 rfl) ?_
  refine lv_aload_n hx hb dX3_goesNight_1 rfl (lv_at hl 0 rfl) ?_
  refine lv_aload_n hx hb dX3_goesNight_2 rfl (lv_at hl 0 rfl) ?_
  refine mg_1 X hW dX3_goesNight_3 ?_
  refine lv_iconst (v := 5) hx hb dX3_goesNight_6 (by decide) ?_
  refine ml_1 X hW (by decide) dX3_goesNight_7 ?_
  obtain ⟨r_2, h_1, hf⟩ := bd_e hf
  refine k_warmthOf X hW had h_1 (by decide) hl (Nat.le_of_ble_eq_true rfl) dX3_goesNight_8 (fun H locs hW => ?_)
  obtain ⟨⟨σ_5, r_4⟩, h_3, hf⟩ := bd_e hf
  refine k_nightOf X hW had h_3 (by decide) hl (Nat.le_of_ble_eq_true rfl) dX3_goesNight_11 (fun H locs hW => ?_)
  exact m_iret X hW hf dX3_goesNight_14
theorem w_goesNight (l : Launch) {g : gG} {ad : Nat → Nat} (had : mI ad) {σr : cS} {r : Int32} {σ : cS}  (hf : m_goesNight σ = some (σr, r)) : MM l yX3_goesNight cX3_goesNight 1 (some .int) 7 157 g ad σ σr [.ref (ad 999)] (some (.int r)) :=
  MC.of (by decide) mIds_nd had (Nat.le_of_ble_eq_true rfl) (fun p e s m below meth c A ls X hW hl => wb_goesNight X had hW hl hf)
theorem k_goesNight {p : Program} {l : Launch} {e : Env} {R : Room} {s : State} {m : MethodId} {args : Array Value} {below : List Frame} {meth : Method} {c : Code} {H : Heap} {locs : List Loc} {Q : State → Prop} {cc : ByteArray} {nL : Nat} {ret : Option FieldType} {g : gG} {A : Nat → Prop} {ad : Nat → Nat} {pc : Nat} {ls : Array Slot} {rest : List Value} {lv : List (Nat × Value)} {σr : cS} {r : Int32} {σ : cS} (X : MX p s m args meth c cc nL RX3 ret g A) (hW : WB g A s.heap mIds ad (mE g ad σ) H locs) (had : mI ad)  (hf : m_goesNight σ = some (σr, r)) (hR : 8 ≤ R.frames ∧ 177 ≤ R.locals) (hl : lv_has ls nL lv) (hcat : (rest.map fun v => v.category).sum ≤ 8) (hdg : decode cc pc = .ok (.invokevirtual 439, 3)) (kk : ∀ (H1 : Heap) (l1 : List Loc), WB g A s.heap mIds ad (mE g ad σr) H1 l1 → W p l e R s m args below meth c H1 l1 0 0 Q (F0 m (pc + 3) ls (.int r :: rest))) : W p l e R s m args below meth c H locs 0 0 Q (F0 m pc ls (.ref (ad 999) :: rest)) :=
  r_callV X hW Sub.all (w_goesNight l had hf) (lw_V q1600 q1602 qs87 q126 q1603) ⟨rfl, by decide, by decide, by decide +kernel⟩ m_999 mE_o rfl (n := 0) hR hl rfl rfl hcat ⟨Nat.zero_le _, Nat.zero_le _⟩ hdg kk
