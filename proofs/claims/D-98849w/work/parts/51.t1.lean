set_option maxRecDepth 100000
-- see
noncomputable def t_see_0 {ρ : Type}  (K : cS → Option ρ) : Nat → cS → Option ρ
  | 0, _ => none
  | n + 1, σ => if (σ.1 999 10) ≤ (σ.1 997 2) then (K σ) else (gd (inb (σ.1 997 2) 400) (if (σ.1 9 (ix (σ.1 997 2))) = 32 then (t_see_0 K n (si σ 997 2 ((σ.1 997 2) + 1))) else (K σ)))
set_option maxHeartbeats 4000000 in
theorem wt_see_0 {p : Program} {l : Launch} {e : Env} {s : State} {m : MethodId} {args : Array Value} {below : List Frame} {meth : Method} {c : Code} {g : gG} {A : Nat → Prop} {ad : Nat → Nat} {q : xR} (X : MX p s m args meth c cX4_see 1 RX4 (some .int) g A) (had : tI_ ad) {ρ : Type} {res : ρ} {Q : State → Prop}   {K : cS → Option ρ}
    (hK : ∀ (σ : cS) (H : Heap) (locs : List Loc) (ls : Array Slot), WB g A s.heap tIds ad (xE g ad q σ) H locs → lv_has ls 1 [(0, .ref (ad 997))] → K σ = some res → W p l e (rm_ 2 60) s m args below meth c H locs 0 0 Q (F0 m 44 ls [])) :
    ∀ (n : Nat) (σ : cS) (H : Heap) (locs : List Loc) (ls : Array Slot), WB g A s.heap tIds ad (xE g ad q σ) H locs → lv_has ls 1 [(0, .ref (ad 997))] → t_see_0 K n σ = some res → W p l e (rm_ 2 60) s m args below meth c H locs 0 0 Q (F0 m 0 ls []) := by
  have hx := X.1.1
  have hb := X.1.2.1
  intro n
  induction n with
  | zero =>
    intro σ H locs ls hW hl hf
    rw [t_see_0] at hf
    cases hf
  | succ n ih =>
    intro σ H locs ls hW hl hf
    rw [t_see_0] at hf
    refine lv_aload_n hx hb dX4_see_0 rfl (lv_at hl 0 rfl) ?_
    refine tg_2 X hW tm_997 dX4_see_1 ?_
    refine lv_aload_n hx hb dX4_see_4 rfl (lv_at hl 0 rfl) ?_
    refine tg_6 X hW tm_997 dX4_see_5 ?_
    refine tgo_10 X hW tm_999 dX4_see_8 ?_
    refine lv_icmp_ge (tgt := 44) hx hb dX4_see_11 (by decide) (fun c_1 => ?_) (fun c_1 => ?_)
    · replace hf := ip hf c_1
      exact hK _ _ _ _ hW (lv_sub hl [0] rfl) hf
    · replace hf := ine hf c_1
      refine lv_aload_n hx hb dX4_see_14 rfl (lv_at hl 0 rfl) ?_
      refine tg_6 X hW tm_997 dX4_see_15 ?_
      refine tgo_9 X hW tm_999 dX4_see_18 ?_
      refine lv_aload_n hx hb dX4_see_21 rfl (lv_at hl 0 rfl) ?_
      refine tg_2 X hW tm_997 dX4_see_22 ?_
      obtain ⟨h_2, hf⟩ := gd_e hf
      refine xl_9 X hW tm_9 h_2 dX4_see_25 ?_
      refine lv_bipush (v := 32) hx hb dX4_see_26 (by decide) ?_
      refine lv_icmp_ne (tgt := 44) hx hb dX4_see_28 (by decide) (fun c_3 => ?_) (fun c_3 => ?_)
      · replace hf := ine hf c_3
        exact hK _ _ _ _ hW (lv_sub hl [0] rfl) hf
      · replace hf := ip hf c_3
        refine lv_aload_n hx hb dX4_see_31 rfl (lv_at hl 0 rfl) ?_
        refine lv_dup hx hb dX4_see_32 rfl ?_
        refine tg_2 X hW tm_997 dX4_see_33 ?_
        refine lv_iconst (v := 1) hx hb dX4_see_36 (by decide) ?_
        refine lv_iadd hx hb dX4_see_37 ?_
        refine tp_2 X hW tm_997 dX4_see_38 (fun H locs hW => ?_)
        refine lv_goto (tgt := 0) hx hb dX4_see_41 (by decide) ?_
        exact ih _ _ _ _ hW (lv_sub hl [0] rfl) hf
noncomputable def t_see (σ : cS) : Option (cS × Int32) :=
  t_see_0  (fun σ_4 => (if (σ_4.1 999 10) ≤ (σ_4.1 997 2) then (some (σ_4, (-1))) else (gd (inb (σ_4.1 997 2) 400) (some (σ_4, ((σ_4.1 9 (ix (σ_4.1 997 2))) &&& 255)))))) FU σ
set_option maxHeartbeats 4000000 in
theorem wb_t_see {p : Program} {l : Launch} {e : Env} {s : State} {m : MethodId} {args : Array Value} {below : List Frame} {meth : Method} {c : Code} {g : gG} {A : Nat → Prop} {ad : Nat → Nat} {q : xR} (X : MX p s m args meth c cX4_see 1 RX4 (some .int) g A) (had : tI_ ad) {σr : cS} {r : Int32} {σ : cS}  {H : Heap} {locs : List Loc} {ls : Array Slot} (hW : WB g A s.heap tIds ad (xE g ad q σ) H locs) (hl : lv_has ls 1 [(0, .ref (ad 997))]) (hf : t_see σ = some (σr, r)) : W p l e (rm_ 2 60) s m args below meth c H locs 0 0 (Qm below g tIds ad (xE g ad q σr) (some (.int r)) A args s) (F0 m 0 ls []) := by
  have hx := X.1.1
  have hb := X.1.2.1
  unfold t_see at hf
  refine wt_see_0 X had (fun σ_4 H locs ls hW hl hf => ?_) _ _ _ _ _ hW (lv_sub hl [0] rfl) hf
  refine lv_aload_n hx hb dX4_see_44 rfl (lv_at hl 0 rfl) ?_
  refine tg_2 X hW tm_997 dX4_see_45 ?_
  refine lv_aload_n hx hb dX4_see_48 rfl (lv_at hl 0 rfl) ?_
  refine tg_6 X hW tm_997 dX4_see_49 ?_
  refine tgo_10 X hW tm_999 dX4_see_52 ?_
  refine lv_icmp_ge (tgt := 77) hx hb dX4_see_55 (by decide) (fun c_5 => ?_) (fun c_5 => ?_)
  · replace hf := ip hf c_5
    refine lv_iconst (v := (-1)) hx hb dX4_see_77 (by decide) ?_
    exact x_iret X hW hf dX4_see_78
  · replace hf := ine hf c_5
    refine lv_aload_n hx hb dX4_see_58 rfl (lv_at hl 0 rfl) ?_
    refine tg_6 X hW tm_997 dX4_see_59 ?_
    refine tgo_9 X hW tm_999 dX4_see_62 ?_
    refine lv_aload_n hx hb dX4_see_65 rfl (lv_at hl 0 rfl) ?_
    refine tg_2 X hW tm_997 dX4_see_66 ?_
    obtain ⟨h_6, hf⟩ := gd_e hf
    refine xl_9 X hW tm_9 h_6 dX4_see_69 ?_
    refine lv_sipush (v := 255) hx hb dX4_see_70 (by decide) ?_
    refine lv_iand hx hb dX4_see_73 ?_
    refine lv_goto (tgt := 78) hx hb dX4_see_74 (by decide) ?_
    exact x_iret X hW hf dX4_see_78
theorem w_t_see (l : Launch) {g : gG} {ad : Nat → Nat} {q : xR} (had : tI_ ad) {σr : cS} {r : Int32} {σ : cS}  (hf : t_see σ = some (σr, r)) : MC l yX4_see cX4_see 1 (some .int) 2 60 g tIds ad (xE g ad q σ) (xE g ad q σr) [.ref (ad 997)] (some (.int r)) :=
  MC.of (by decide) tIds_nd had (Nat.le_of_ble_eq_true rfl) (fun p e s m below meth c A ls X hW hl => wb_t_see X had hW hl hf)
theorem kt_see {p : Program} {l : Launch} {e : Env} {R : Room} {s : State} {m : MethodId} {args : Array Value} {below : List Frame} {meth : Method} {c : Code} {H : Heap} {locs : List Loc} {Q : State → Prop} {cc : ByteArray} {nL : Nat} {ret : Option FieldType} {g : gG} {A : Nat → Prop} {ad : Nat → Nat} {q : xR} {pc : Nat} {ls : Array Slot} {rest : List Value} {lv : List (Nat × Value)} {σr : cS} {r : Int32} {σ : cS} (X : MX p s m args meth c cc nL RX4 ret g A) (hW : WB g A s.heap tIds ad (xE g ad q σ) H locs) (had : tI_ ad)  (hf : t_see σ = some (σr, r)) (hR : 3 ≤ R.frames ∧ 80 ≤ R.locals) (hl : lv_has ls nL lv) (hcat : (rest.map fun v => v.category).sum ≤ 8) (hdg : decode cc pc = .ok (.invokevirtual 52, 3)) (kk : ∀ (H1 : Heap) (l1 : List Loc), WB g A s.heap tIds ad (xE g ad q σr) H1 l1 → W p l e R s m args below meth c H1 l1 0 0 Q (F0 m (pc + 3) ls (.int r :: rest))) : W p l e R s m args below meth c H locs 0 0 Q (F0 m pc ls (.ref (ad 997) :: rest)) :=
  r_callV X hW Sub.all (w_t_see l had hf) (lw_V q511 q513 qs2 q127 q514) ⟨rfl, by decide, by decide, by decide +kernel⟩ tm_997 rfl rfl (n := 0) hR hl rfl rfl hcat ⟨Nat.zero_le _, Nat.zero_le _⟩ hdg kk
-- letters
noncomputable def t_letters_7 {ρ : Type} (σ : cS) (K : Int32 → Option ρ) : Nat → Int32 → Option ρ
  | 0, _ => none
  | n + 1, v1 => if (σ.1 999 10) ≤ ((σ.1 997 2) + v1) then (K v1) else (gd (inb ((σ.1 997 2) + v1) 400) (if (σ.1 9 (ix ((σ.1 997 2) + v1))) < 97 then (K v1) else (if 122 < (σ.1 9 (ix ((σ.1 997 2) + v1))) then (K v1) else (t_letters_7 σ K n (v1 + 1)))))
set_option maxHeartbeats 4000000 in
theorem wt_letters_7 {p : Program} {l : Launch} {e : Env} {s : State} {m : MethodId} {args : Array Value} {below : List Frame} {meth : Method} {c : Code} {g : gG} {A : Nat → Prop} {ad : Nat → Nat} {q : xR} (X : MX p s m args meth c cX4_letters 2 RX4 (some .int) g A) (had : tI_ ad) {ρ : Type} {res : ρ} {Q : State → Prop}  {σ : cS}  {K : Int32 → Option ρ}
    (hK : ∀ (k1 : Int32) (H : Heap) (locs : List Loc) (ls : Array Slot), WB g A s.heap tIds ad (xE g ad q σ) H locs → lv_has ls 2 [(1, .int k1)] → K k1 = some res → W p l e (rm_ 3 80) s m args below meth c H locs 0 0 Q (F0 m 67 ls [])) :
    ∀ (n : Nat) (v1 : Int32) (H : Heap) (locs : List Loc) (ls : Array Slot), WB g A s.heap tIds ad (xE g ad q σ) H locs → lv_has ls 2 [(0, .ref (ad 997)), (1, .int v1)] → t_letters_7 σ K n v1 = some res → W p l e (rm_ 3 80) s m args below meth c H locs 0 0 Q (F0 m 7 ls []) := by
  have hx := X.1.1
  have hb := X.1.2.1
  intro n
  induction n with
  | zero =>
    intro v1 H locs ls hW hl hf
    rw [t_letters_7] at hf
    cases hf
  | succ n ih =>
    intro v1 H locs ls hW hl hf
    rw [t_letters_7] at hf
    refine lv_aload_n hx hb dX4_letters_7 rfl (lv_at hl 0 rfl) ?_
    refine tg_2 X hW tm_997 dX4_letters_8 ?_
    refine lv_iload_n hx hb dX4_letters_11 rfl (lv_at hl 1 rfl) ?_
    refine lv_iadd hx hb dX4_letters_12 ?_
    refine lv_aload_n hx hb dX4_letters_13 rfl (lv_at hl 0 rfl) ?_
    refine tg_6 X hW tm_997 dX4_letters_14 ?_
    refine tgo_10 X hW tm_999 dX4_letters_17 ?_
    refine lv_icmp_ge (tgt := 67) hx hb dX4_letters_20 (by decide) (fun c_4 => ?_) (fun c_4 => ?_)
    · replace hf := ip hf c_4
      exact hK _ _ _ _ hW (lv_sub hl [1] rfl) hf
    · replace hf := ine hf c_4
      refine lv_aload_n hx hb dX4_letters_23 rfl (lv_at hl 0 rfl) ?_
      refine tg_6 X hW tm_997 dX4_letters_24 ?_
      refine tgo_9 X hW tm_999 dX4_letters_27 ?_
      refine lv_aload_n hx hb dX4_letters_30 rfl (lv_at hl 0 rfl) ?_
      refine tg_2 X hW tm_997 dX4_letters_31 ?_
      refine lv_iload_n hx hb dX4_letters_34 rfl (lv_at hl 1 rfl) ?_
      refine lv_iadd hx hb dX4_letters_35 ?_
      obtain ⟨h_5, hf⟩ := gd_e hf
      refine xl_9 X hW tm_9 h_5 dX4_letters_36 ?_
      refine lv_bipush (v := 97) hx hb dX4_letters_37 (by decide) ?_
      refine lv_icmp_lt (tgt := 67) hx hb dX4_letters_39 (by decide) (fun c_6 => ?_) (fun c_6 => ?_)
      · replace hf := ip hf c_6
        exact hK _ _ _ _ hW (lv_sub hl [1] rfl) hf
      · replace hf := ine hf c_6
        refine lv_aload_n hx hb dX4_letters_42 rfl (lv_at hl 0 rfl) ?_
        refine tg_6 X hW tm_997 dX4_letters_43 ?_
        refine tgo_9 X hW tm_999 dX4_letters_46 ?_
        refine lv_aload_n hx hb dX4_letters_49 rfl (lv_at hl 0 rfl) ?_
        refine tg_2 X hW tm_997 dX4_letters_50 ?_
        refine lv_iload_n hx hb dX4_letters_53 rfl (lv_at hl 1 rfl) ?_
        refine lv_iadd hx hb dX4_letters_54 ?_
        refine xl_9 X hW tm_9 h_5 dX4_letters_55 ?_
        refine lv_bipush (v := 122) hx hb dX4_letters_56 (by decide) ?_
        refine lv_icmp_gt (tgt := 67) hx hb dX4_letters_58 (by decide) (fun c_7 => ?_) (fun c_7 => ?_)
        · replace hf := ip hf c_7
          exact hK _ _ _ _ hW (lv_sub hl [1] rfl) hf
        · replace hf := ine hf c_7
          refine lv_iinc (v := (v1 + 1)) (lv' := [(1, .int (v1 + 1)), (0, .ref (ad 997))]) hx hb dX4_letters_61 hl (k := 1) rfl (ii_v _ _ _ (by decide)) (by decide) rfl (fun ls hl => ?_)
          refine lv_goto (tgt := 7) hx hb dX4_letters_64 (by decide) ?_
          exact ih _ _ _ _ hW (lv_sub hl [1, 0] rfl) hf
noncomputable def t_letters (σ : cS) : Option (cS × Int32) :=
  ((t_see σ).bind fun (σ_3, r_2) => t_letters_7 σ_3 (fun v_8 => (some (σ_3, v_8))) FU 0)
set_option maxHeartbeats 4000000 in
theorem wb_t_letters {p : Program} {l : Launch} {e : Env} {s : State} {m : MethodId} {args : Array Value} {below : List Frame} {meth : Method} {c : Code} {g : gG} {A : Nat → Prop} {ad : Nat → Nat} {q : xR} (X : MX p s m args meth c cX4_letters 2 RX4 (some .int) g A) (had : tI_ ad) {σr : cS} {r : Int32} {σ : cS}  {H : Heap} {locs : List Loc} {ls : Array Slot} (hW : WB g A s.heap tIds ad (xE g ad q σ) H locs) (hl : lv_has ls 2 [(0, .ref (ad 997))]) (hf : t_letters σ = some (σr, r)) : W p l e (rm_ 3 80) s m args below meth c H locs 0 0 (Qm below g tIds ad (xE g ad q σr) (some (.int r)) A args s) (F0 m 0 ls []) := by
  have hx := X.1.1
  have hb := X.1.2.1
  unfold t_letters at hf
  refine lv_aload_n hx hb dX4_letters_0 rfl (lv_at hl 0 rfl) ?_
  obtain ⟨⟨σ_3, r_2⟩, h_1, hf⟩ := bd_e hf
  refine kt_see X hW had h_1 (by decide) hl (Nat.le_of_ble_eq_true rfl) dX4_letters_1 (fun H locs hW => ?_)
  refine lv_pop hx hb dX4_letters_4 rfl ?_
  refine lv_iconst (v := 0) hx hb dX4_letters_5 (by decide) ?_
  refine lv_istore_n (lv' := [(1, .int 0), (0, .ref (ad 997))]) hx hb dX4_letters_6 rfl hl (by decide) rfl (fun ls hl => ?_)
  refine wt_letters_7 X had (fun v_8 H locs ls hW hl hf => ?_) _ _ _ _ _ hW (lv_sub hl [1, 0] rfl) hf
  refine lv_iload_n hx hb dX4_letters_67 rfl (lv_at hl 0 rfl) ?_
  exact x_iret X hW hf dX4_letters_68
theorem w_t_letters (l : Launch) {g : gG} {ad : Nat → Nat} {q : xR} (had : tI_ ad) {σr : cS} {r : Int32} {σ : cS}  (hf : t_letters σ = some (σr, r)) : MC l yX4_letters cX4_letters 2 (some .int) 3 80 g tIds ad (xE g ad q σ) (xE g ad q σr) [.ref (ad 997)] (some (.int r)) :=
  MC.of (by decide) tIds_nd had (Nat.le_of_ble_eq_true rfl) (fun p e s m below meth c A ls X hW hl => wb_t_letters X had hW hl hf)
theorem kt_letters {p : Program} {l : Launch} {e : Env} {R : Room} {s : State} {m : MethodId} {args : Array Value} {below : List Frame} {meth : Method} {c : Code} {H : Heap} {locs : List Loc} {Q : State → Prop} {cc : ByteArray} {nL : Nat} {ret : Option FieldType} {g : gG} {A : Nat → Prop} {ad : Nat → Nat} {q : xR} {pc : Nat} {ls : Array Slot} {rest : List Value} {lv : List (Nat × Value)} {σr : cS} {r : Int32} {σ : cS} (X : MX p s m args meth c cc nL RX4 ret g A) (hW : WB g A s.heap tIds ad (xE g ad q σ) H locs) (had : tI_ ad)  (hf : t_letters σ = some (σr, r)) (hR : 4 ≤ R.frames ∧ 101 ≤ R.locals) (hl : lv_has ls nL lv) (hcat : (rest.map fun v => v.category).sum ≤ 8) (hdg : decode cc pc = .ok (.invokevirtual 56, 3)) (kk : ∀ (H1 : Heap) (l1 : List Loc), WB g A s.heap tIds ad (xE g ad q σr) H1 l1 → W p l e R s m args below meth c H1 l1 0 0 Q (F0 m (pc + 3) ls (.int r :: rest))) : W p l e R s m args below meth c H locs 0 0 Q (F0 m pc ls (.ref (ad 997) :: rest)) :=
  r_callV X hW Sub.all (w_t_letters l had hf) (lw_V q523 q525 qs5 q127 q526) ⟨rfl, by decide, by decide, by decide +kernel⟩ tm_997 rfl rfl (n := 0) hR hl rfl rfl hcat ⟨Nat.zero_le _, Nat.zero_le _⟩ hdg kk
-- isWord
noncomputable def t_isWord_22 {ρ : Type} (σ : cS) (v1 : Nat) (v2 : Int32) (K : Int32 → Option ρ) : Nat → Int32 → Int32 → Option ρ
  | 0, _, _ => none
  | n + 1, v3, v4 => if v3 = 0 then (K v3) else (if v2 ≤ v4 then (K v3) else (gd (inb v4 (stC v1).length) (gd (inb ((σ.1 997 2) + v4) 400) (if ((stC v1).getD (ix v4) 0) = (σ.1 9 (ix ((σ.1 997 2) + v4))) then (t_isWord_22 σ v1 v2 K n 1 (v4 + 1)) else (t_isWord_22 σ v1 v2 K n 0 (v4 + 1))))))
set_option maxHeartbeats 4000000 in
theorem wt_isWord_22 {p : Program} {l : Launch} {e : Env} {s : State} {m : MethodId} {args : Array Value} {below : List Frame} {meth : Method} {c : Code} {g : gG} {A : Nat → Prop} {ad : Nat → Nat} {q : xR} (X : MX p s m args meth c cX4_isWord 5 RX4 (some .boolean) g A) (had : tI_ ad) {ρ : Type} {res : ρ} {Q : State → Prop} {v1 : Nat} {v2 : Int32} {σ : cS} (hs_v1 : v1 < 43) {K : Int32 → Option ρ}
    (hK : ∀ (k3 : Int32) (H : Heap) (locs : List Loc) (ls : Array Slot), WB g A s.heap tIds ad (xE g ad q σ) H locs → lv_has ls 5 [(3, .int k3)] → K k3 = some res → W p l e (rm_ 6 200) s m args below meth c H locs 0 0 Q (F0 m 68 ls [])) :
    ∀ (n : Nat) (v3 : Int32) (v4 : Int32) (H : Heap) (locs : List Loc) (ls : Array Slot), WB g A s.heap tIds ad (xE g ad q σ) H locs → lv_has ls 5 [(0, .ref (ad 997)), (1, .ref (g.2.2.1 v1)), (2, .int v2), (3, .int v3), (4, .int v4)] → t_isWord_22 σ v1 v2 K n v3 v4 = some res → W p l e (rm_ 6 200) s m args below meth c H locs 0 0 Q (F0 m 22 ls []) := by
  have hx := X.1.1
  have hb := X.1.2.1
  intro n
  induction n with
  | zero =>
    intro v3 v4 H locs ls hW hl hf
    rw [t_isWord_22] at hf
    cases hf
  | succ n ih =>
    intro v3 v4 H locs ls hW hl hf
    rw [t_isWord_22] at hf
    refine lv_iload_n hx hb dX4_isWord_22 rfl (lv_at hl 3 rfl) ?_
    refine lv_if_eq (tgt := 68) hx hb dX4_isWord_23 (by decide) (fun c_6 => ?_) (fun c_6 => ?_)
    · replace hf := ip hf c_6
      exact hK _ _ _ _ hW (lv_sub hl [3] rfl) hf
    · replace hf := ine hf c_6
      refine lv_iload hx hb dX4_isWord_26 (lv_at hl 4 rfl) ?_
      refine lv_iload_n hx hb dX4_isWord_28 rfl (lv_at hl 2 rfl) ?_
      refine lv_icmp_ge (tgt := 68) hx hb dX4_isWord_29 (by decide) (fun c_7 => ?_) (fun c_7 => ?_)
      · replace hf := ip hf c_7
        exact hK _ _ _ _ hW (lv_sub hl [3] rfl) hf
      · replace hf := ine hf c_7
        refine lv_aload_n hx hb dX4_isWord_32 rfl (lv_at hl 1 rfl) ?_
        refine lv_iload hx hb dX4_isWord_33 (lv_at hl 4 rfl) ?_
        obtain ⟨h_8, hf⟩ := gd_e hf
        refine k_schar X hW hs_v1 h_8 (by decide) hl (Nat.le_of_ble_eq_true rfl) q537 dX4_isWord_35 (fun H locs hW => ?_)
        refine lv_aload_n hx hb dX4_isWord_38 rfl (lv_at hl 0 rfl) ?_
        refine tg_6 X hW tm_997 dX4_isWord_39 ?_
        refine tgo_9 X hW tm_999 dX4_isWord_42 ?_
        refine lv_aload_n hx hb dX4_isWord_45 rfl (lv_at hl 0 rfl) ?_
        refine tg_2 X hW tm_997 dX4_isWord_46 ?_
        refine lv_iload hx hb dX4_isWord_49 (lv_at hl 4 rfl) ?_
        refine lv_iadd hx hb dX4_isWord_51 ?_
        obtain ⟨h_9, hf⟩ := gd_e hf
        refine xl_9 X hW tm_9 h_9 dX4_isWord_52 ?_
        refine lv_icmp_ne (tgt := 60) hx hb dX4_isWord_53 (by decide) (fun c_10 => ?_) (fun c_10 => ?_)
        · replace hf := ine hf c_10
          refine lv_iconst (v := 0) hx hb dX4_isWord_60 (by decide) ?_
          refine lv_istore_n (lv' := [(3, .int 0), (0, .ref (ad 997)), (1, .ref (g.2.2.1 v1)), (2, .int v2), (4, .int v4)]) hx hb dX4_isWord_61 rfl hl (by decide) rfl (fun ls hl => ?_)
          refine lv_iinc (v := (v4 + 1)) (lv' := [(4, .int (v4 + 1)), (3, .int 0), (0, .ref (ad 997)), (1, .ref (g.2.2.1 v1)), (2, .int v2)]) hx hb dX4_isWord_62 hl (k := 4) rfl (ii_v _ _ _ (by decide)) (by decide) rfl (fun ls hl => ?_)
          refine lv_goto (tgt := 22) hx hb dX4_isWord_65 (by decide) ?_
          exact ih _ _ _ _ _ hW (lv_sub hl [2, 3, 4, 1, 0] rfl) hf
        · replace hf := ip hf c_10
          refine lv_iconst (v := 1) hx hb dX4_isWord_56 (by decide) ?_
          refine lv_goto (tgt := 61) hx hb dX4_isWord_57 (by decide) ?_
          refine lv_istore_n (lv' := [(3, .int 1), (0, .ref (ad 997)), (1, .ref (g.2.2.1 v1)), (2, .int v2), (4, .int v4)]) hx hb dX4_isWord_61 rfl hl (by decide) rfl (fun ls hl => ?_)
          refine lv_iinc (v := (v4 + 1)) (lv' := [(4, .int (v4 + 1)), (3, .int 1), (0, .ref (ad 997)), (1, .ref (g.2.2.1 v1)), (2, .int v2)]) hx hb dX4_isWord_62 hl (k := 4) rfl (ii_v _ _ _ (by decide)) (by decide) rfl (fun ls hl => ?_)
          refine lv_goto (tgt := 22) hx hb dX4_isWord_65 (by decide) ?_
          exact ih _ _ _ _ _ hW (lv_sub hl [2, 3, 4, 1, 0] rfl) hf
noncomputable def t_isWord (σ : cS) (v1 : Nat) : Option (cS × Int32) :=
  ((t_letters σ).bind fun (σ_3, r_2) => ((if r_2 = (nI (stC v1).length) then (some (1)) else (some (0)) : Option (Int32)).bind fun t_4 => (t_isWord_22 σ_3 v1 r_2 (fun v_11 => (gd (zb v_11) (some (σ_3, v_11)))) FU t_4 0)))
set_option maxHeartbeats 4000000 in
theorem wb_t_isWord {p : Program} {l : Launch} {e : Env} {s : State} {m : MethodId} {args : Array Value} {below : List Frame} {meth : Method} {c : Code} {g : gG} {A : Nat → Prop} {ad : Nat → Nat} {q : xR} (X : MX p s m args meth c cX4_isWord 5 RX4 (some .boolean) g A) (had : tI_ ad) {σr : cS} {r : Int32} {σ : cS} {v1 : Nat} (hs_v1 : v1 < 43) {H : Heap} {locs : List Loc} {ls : Array Slot} (hW : WB g A s.heap tIds ad (xE g ad q σ) H locs) (hl : lv_has ls 5 [(0, .ref (ad 997)), (1, .ref (g.2.2.1 v1))]) (hf : t_isWord σ v1 = some (σr, r)) : W p l e (rm_ 6 200) s m args below meth c H locs 0 0 (Qm below g tIds ad (xE g ad q σr) (some (.int r)) A args s) (F0 m 0 ls []) := by
  have hx := X.1.1
  have hb := X.1.2.1
  unfold t_isWord at hf
  refine lv_aload_n hx hb dX4_isWord_0 rfl (lv_at hl 0 rfl) ?_
  obtain ⟨⟨σ_3, r_2⟩, h_1, hf⟩ := bd_e hf
  refine kt_letters X hW had h_1 (by decide) hl (Nat.le_of_ble_eq_true rfl) dX4_isWord_1 (fun H locs hW => ?_)
  refine lv_istore_n (lv' := [(2, .int r_2), (0, .ref (ad 997)), (1, .ref (g.2.2.1 v1))]) hx hb dX4_isWord_4 rfl hl (by decide) rfl (fun ls hl => ?_)
  refine lv_iload_n hx hb dX4_isWord_5 rfl (lv_at hl 0 rfl) ?_
  refine lv_aload_n hx hb dX4_isWord_6 rfl (lv_at hl 2 rfl) ?_
  refine k_slen X hW hs_v1 (by decide) hl (Nat.le_of_ble_eq_true rfl) q527 dX4_isWord_7 (fun H locs hW => ?_)
  obtain ⟨t_4, hD_5, hf⟩ := bd_e hf
  have hJ : ∀ (H : Heap) (locs : List Loc) (ls : Array Slot), WB g A s.heap tIds ad (xE g ad q σ_3) H locs → lv_has ls 5 [(0, .ref (ad 997)), (1, .ref (g.2.2.1 v1)), (2, .int r_2)] → W p l e (rm_ 6 200) s m args below meth c H locs 0 0 (Qm below g tIds ad (xE g ad q σr) (some (.int r)) A args s) (F0 m 18 ls [.int t_4]) := by
    intro H locs ls hW hl
    refine lv_istore_n (lv' := [(3, .int t_4), (0, .ref (ad 997)), (1, .ref (g.2.2.1 v1)), (2, .int r_2)]) hx hb dX4_isWord_18 rfl hl (by decide) rfl (fun ls hl => ?_)
    refine lv_iconst (v := 0) hx hb dX4_isWord_19 (by decide) ?_
    refine lv_istore (lv' := [(4, .int 0), (3, .int t_4), (0, .ref (ad 997)), (1, .ref (g.2.2.1 v1)), (2, .int r_2)]) hx hb dX4_isWord_20 hl (by decide) rfl (fun ls hl => ?_)
    refine wt_isWord_22 X had hs_v1 (fun v_11 H locs ls hW hl hf => ?_) _ _ _ _ _ _ hW (lv_sub hl [2, 3, 4, 1, 0] rfl) hf
    refine lv_iload_n hx hb dX4_isWord_68 rfl (lv_at hl 0 rfl) ?_
    obtain ⟨h_12, hf⟩ := gd_e hf
    exact x_zret X hW hf h_12 dX4_isWord_69
  clear hf
  refine lv_icmp_ne (tgt := 17) hx hb dX4_isWord_10 (by decide) (fun c_13 => ?_) (fun c_13 => ?_)
  · replace hD_5 := ine hD_5 c_13
    refine lv_iconst (v := 0) hx hb dX4_isWord_17 (by decide) ?_
    cases hD_5
    exact hJ _ _ _ hW (lv_sub hl [1, 2, 0] rfl)
  · replace hD_5 := ip hD_5 c_13
    refine lv_iconst (v := 1) hx hb dX4_isWord_13 (by decide) ?_
    refine lv_goto (tgt := 18) hx hb dX4_isWord_14 (by decide) ?_
    cases hD_5
    exact hJ _ _ _ hW (lv_sub hl [1, 2, 0] rfl)
theorem w_t_isWord (l : Launch) {g : gG} {ad : Nat → Nat} {q : xR} (had : tI_ ad) {σr : cS} {r : Int32} {σ : cS} {v1 : Nat} (hs_v1 : v1 < 43) (hf : t_isWord σ v1 = some (σr, r)) : MC l yX4_isWord cX4_isWord 5 (some .boolean) 6 200 g tIds ad (xE g ad q σ) (xE g ad q σr) [.ref (ad 997), .ref (g.2.2.1 v1)] (some (.int r)) :=
  MC.of (by decide) tIds_nd had (Nat.le_of_ble_eq_true rfl) (fun p e s m below meth c A ls X hW hl => wb_t_isWord X had hs_v1 hW hl hf)
theorem kt_isWord {p : Program} {l : Launch} {e : Env} {R : Room} {s : State} {m : MethodId} {args : Array Value} {below : List Frame} {meth : Method} {c : Code} {H : Heap} {locs : List Loc} {Q : State → Prop} {cc : ByteArray} {nL : Nat} {ret : Option FieldType} {g : gG} {A : Nat → Prop} {ad : Nat → Nat} {q : xR} {pc : Nat} {ls : Array Slot} {rest : List Value} {lv : List (Nat × Value)} {σr : cS} {r : Int32} {σ : cS} {v1 : Nat} (X : MX p s m args meth c cc nL RX4 ret g A) (hW : WB g A s.heap tIds ad (xE g ad q σ) H locs) (had : tI_ ad) (hs_v1 : v1 < 43) (hf : t_isWord σ v1 = some (σr, r)) (hR : 7 ≤ R.frames ∧ 224 ≤ R.locals) (hl : lv_has ls nL lv) (hcat : (rest.map fun v => v.category).sum ≤ 8) (hdg : decode cc pc = .ok (.invokevirtual 68, 3)) (kk : ∀ (H1 : Heap) (l1 : List Loc), WB g A s.heap tIds ad (xE g ad q σr) H1 l1 → W p l e R s m args below meth c H1 l1 0 0 Q (F0 m (pc + 3) ls (.int r :: rest))) : W p l e R s m args below meth c H locs 0 0 Q (F0 m pc ls (.ref (g.2.2.1 v1) :: .ref (ad 997) :: rest)) :=
  r_callV X hW Sub.all (w_t_isWord l had hs_v1 hf) (lw_V q519 q521 qs4 q127 q522) ⟨rfl, by decide, by decide, by decide +kernel⟩ tm_997 rfl rfl (n := 1) hR hl rfl rfl hcat ⟨Nat.zero_le _, Nat.zero_le _⟩ hdg kk
-- oneOf_11
noncomputable def t_oneOf_11_2  (K : cS → Option (cS × Int32)) : Nat → cS → Int32 → Option (cS × Int32)
  | 0, _, _ => none
  | n + 1, σ, v2 => if 6 ≤ v2 then (K σ) else (gd (inb v2 6) (gd (decide ((ix v2) < 43)) (((t_isWord σ (ix v2)).bind fun (σ_6, r_5) => if r_5 = 0 then (t_oneOf_11_2 K n σ_6 (v2 + 1)) else (some (σ_6, v2))))))
set_option maxHeartbeats 4000000 in
theorem wt_oneOf_11_2 {p : Program} {l : Launch} {e : Env} {s : State} {m : MethodId} {args : Array Value} {below : List Frame} {meth : Method} {c : Code} {g : gG} {A : Nat → Prop} {ad : Nat → Nat} {q : xR} (X : MX p s m args meth c cX4_oneOf 3 RX4 (some .int) g A) (had : tI_ ad) {σr : cS} {r : Int32}   {K : cS → Option (cS × Int32)}
    (hK : ∀ (σ : cS) (H : Heap) (locs : List Loc) (ls : Array Slot), WB g A s.heap tIds ad (xE g ad q σ) H locs → lv_has ls 3 [] → K σ = some (σr, r) → W p l e (rm_ 7 224) s m args below meth c H locs 0 0 (Qm below g tIds ad (xE g ad q σr) (some (.int r)) A args s) (F0 m 26 ls [])) :
    ∀ (n : Nat) (σ : cS) (v2 : Int32) (H : Heap) (locs : List Loc) (ls : Array Slot), WB g A s.heap tIds ad (xE g ad q σ) H locs → lv_has ls 3 [(0, .ref (ad 997)), (1, .ref (ad 11)), (2, .int v2)] → t_oneOf_11_2 K n σ v2 = some (σr, r) → W p l e (rm_ 7 224) s m args below meth c H locs 0 0 (Qm below g tIds ad (xE g ad q σr) (some (.int r)) A args s) (F0 m 2 ls []) := by
  have hx := X.1.1
  have hb := X.1.2.1
  intro n
  induction n with
  | zero =>
    intro σ v2 H locs ls hW hl hf
    rw [t_oneOf_11_2] at hf
    cases hf
  | succ n ih =>
    intro σ v2 H locs ls hW hl hf
    rw [t_oneOf_11_2] at hf
    refine lv_iload_n hx hb dX4_oneOf_2 rfl (lv_at hl 2 rfl) ?_
    refine lv_aload_n hx hb dX4_oneOf_3 rfl (lv_at hl 1 rfl) ?_
    refine r_alen X hW (t0 := 5) tm_11 rfl rfl dX4_oneOf_4 ?_
    rw [show nI 6 = 6 from rfl]
    refine lv_icmp_ge (tgt := 26) hx hb dX4_oneOf_5 (by decide) (fun c_1 => ?_) (fun c_1 => ?_)
    · replace hf := ip hf c_1
      exact hK _ _ _ _ hW (lv_sub hl [] rfl) hf
    · replace hf := ine hf c_1
      refine lv_aload_n hx hb dX4_oneOf_8 rfl (lv_at hl 0 rfl) ?_
      refine lv_aload_n hx hb dX4_oneOf_9 rfl (lv_at hl 1 rfl) ?_
      refine lv_iload_n hx hb dX4_oneOf_10 rfl (lv_at hl 2 rfl) ?_
      obtain ⟨h_2, hf⟩ := gd_e hf
      refine r_aald X hW (t0 := 5) tm_11 rfl rfl h_2 (v := .ref (g.2.2.1 (ix v2))) rfl dX4_oneOf_11 ?_
      obtain ⟨hs_3, hf⟩ := gd_e hf
      replace hs_3 := of_decide_eq_true hs_3
      obtain ⟨⟨σ_6, r_5⟩, h_4, hf⟩ := bd_e hf
      refine kt_isWord X hW had hs_3 h_4 (by decide) hl (Nat.le_of_ble_eq_true rfl) dX4_oneOf_12 (fun H locs hW => ?_)
      refine lv_if_eq (tgt := 20) hx hb dX4_oneOf_15 (by decide) (fun c_7 => ?_) (fun c_7 => ?_)
      · replace hf := ip hf c_7
        refine lv_iinc (v := (v2 + 1)) (lv' := [(2, .int (v2 + 1)), (0, .ref (ad 997)), (1, .ref (ad 11))]) hx hb dX4_oneOf_20 hl (k := 2) rfl (ii_v _ _ _ (by decide)) (by decide) rfl (fun ls hl => ?_)
        refine lv_goto (tgt := 2) hx hb dX4_oneOf_23 (by decide) ?_
        exact ih _ _ _ _ _ hW (lv_sub hl [1, 2, 0] rfl) hf
      · replace hf := ine hf c_7
        refine lv_iload_n hx hb dX4_oneOf_18 rfl (lv_at hl 2 rfl) ?_
        exact x_iret X hW hf dX4_oneOf_19
noncomputable def t_oneOf_11 (σ : cS) : Option (cS × Int32) :=
  t_oneOf_11_2  (fun σ_8 => (some (σ_8, (-1)))) FU σ 0
set_option maxHeartbeats 4000000 in
theorem wb_t_oneOf_11 {p : Program} {l : Launch} {e : Env} {s : State} {m : MethodId} {args : Array Value} {below : List Frame} {meth : Method} {c : Code} {g : gG} {A : Nat → Prop} {ad : Nat → Nat} {q : xR} (X : MX p s m args meth c cX4_oneOf 3 RX4 (some .int) g A) (had : tI_ ad) {σr : cS} {r : Int32} {σ : cS}  {H : Heap} {locs : List Loc} {ls : Array Slot} (hW : WB g A s.heap tIds ad (xE g ad q σ) H locs) (hl : lv_has ls 3 [(0, .ref (ad 997)), (1, .ref (ad 11))]) (hf : t_oneOf_11 σ = some (σr, r)) : W p l e (rm_ 7 224) s m args below meth c H locs 0 0 (Qm below g tIds ad (xE g ad q σr) (some (.int r)) A args s) (F0 m 0 ls []) := by
  have hx := X.1.1
  have hb := X.1.2.1
  unfold t_oneOf_11 at hf
  refine lv_iconst (v := 0) hx hb dX4_oneOf_0 (by decide) ?_
  refine lv_istore_n (lv' := [(2, .int 0), (0, .ref (ad 997)), (1, .ref (ad 11))]) hx hb dX4_oneOf_1 rfl hl (by decide) rfl (fun ls hl => ?_)
  refine wt_oneOf_11_2 X had (fun σ_8 H locs ls hW hl hf => ?_) _ _ _ _ _ _ hW (lv_sub hl [1, 2, 0] rfl) hf
  refine lv_iconst (v := (-1)) hx hb dX4_oneOf_26 (by decide) ?_
  exact x_iret X hW hf dX4_oneOf_27
theorem w_t_oneOf_11 (l : Launch) {g : gG} {ad : Nat → Nat} {q : xR} (had : tI_ ad) {σr : cS} {r : Int32} {σ : cS}  (hf : t_oneOf_11 σ = some (σr, r)) : MC l yX4_oneOf cX4_oneOf 3 (some .int) 7 224 g tIds ad (xE g ad q σ) (xE g ad q σr) [.ref (ad 997), .ref (ad 11)] (some (.int r)) :=
  MC.of (by decide) tIds_nd had (Nat.le_of_ble_eq_true rfl) (fun p e s m below meth c A ls X hW hl => wb_t_oneOf_11 X had hW hl hf)
theorem kt_oneOf_11 {p : Program} {l : Launch} {e : Env} {R : Room} {s : State} {m : MethodId} {args : Array Value} {below : List Frame} {meth : Method} {c : Code} {H : Heap} {locs : List Loc} {Q : State → Prop} {cc : ByteArray} {nL : Nat} {ret : Option FieldType} {g : gG} {A : Nat → Prop} {ad : Nat → Nat} {q : xR} {pc : Nat} {ls : Array Slot} {rest : List Value} {lv : List (Nat × Value)} {σr : cS} {r : Int32} {σ : cS} (X : MX p s m args meth c cc nL RX4 ret g A) (hW : WB g A s.heap tIds ad (xE g ad q σ) H locs) (had : tI_ ad)  (hf : t_oneOf_11 σ = some (σr, r)) (hR : 8 ≤ R.frames ∧ 246 ≤ R.locals) (hl : lv_has ls nL lv) (hcat : (rest.map fun v => v.category).sum ≤ 8) (hdg : decode cc pc = .ok (.invokevirtual 157, 3)) (kk : ∀ (H1 : Heap) (l1 : List Loc), WB g A s.heap tIds ad (xE g ad q σr) H1 l1 → W p l e R s m args below meth c H1 l1 0 0 Q (F0 m (pc + 3) ls (.int r :: rest))) : W p l e R s m args below meth c H locs 0 0 Q (F0 m pc ls (.ref (ad 11) :: .ref (ad 997) :: rest)) :=
  r_callV X hW Sub.all (w_t_oneOf_11 l had hf) (lw_V q515 q517 qs3 q127 q518) ⟨rfl, by decide, by decide, by decide +kernel⟩ tm_997 rfl rfl (n := 1) hR hl rfl rfl hcat ⟨Nat.zero_le _, Nat.zero_le _⟩ hdg kk
-- oneOf_12
noncomputable def t_oneOf_12_2  (K : cS → Option (cS × Int32)) : Nat → cS → Int32 → Option (cS × Int32)
  | 0, _, _ => none
  | n + 1, σ, v2 => if 1 ≤ v2 then (K σ) else (gd (inb v2 1) (((t_isWord σ 6).bind fun (σ_5, r_4) => if r_4 = 0 then (t_oneOf_12_2 K n σ_5 (v2 + 1)) else (some (σ_5, v2)))))
set_option maxHeartbeats 4000000 in
theorem wt_oneOf_12_2 {p : Program} {l : Launch} {e : Env} {s : State} {m : MethodId} {args : Array Value} {below : List Frame} {meth : Method} {c : Code} {g : gG} {A : Nat → Prop} {ad : Nat → Nat} {q : xR} (X : MX p s m args meth c cX4_oneOf 3 RX4 (some .int) g A) (had : tI_ ad) {σr : cS} {r : Int32}   {K : cS → Option (cS × Int32)}
    (hK : ∀ (σ : cS) (H : Heap) (locs : List Loc) (ls : Array Slot), WB g A s.heap tIds ad (xE g ad q σ) H locs → lv_has ls 3 [] → K σ = some (σr, r) → W p l e (rm_ 7 224) s m args below meth c H locs 0 0 (Qm below g tIds ad (xE g ad q σr) (some (.int r)) A args s) (F0 m 26 ls [])) :
    ∀ (n : Nat) (σ : cS) (v2 : Int32) (H : Heap) (locs : List Loc) (ls : Array Slot), WB g A s.heap tIds ad (xE g ad q σ) H locs → lv_has ls 3 [(0, .ref (ad 997)), (1, .ref (ad 12)), (2, .int v2)] → t_oneOf_12_2 K n σ v2 = some (σr, r) → W p l e (rm_ 7 224) s m args below meth c H locs 0 0 (Qm below g tIds ad (xE g ad q σr) (some (.int r)) A args s) (F0 m 2 ls []) := by
  have hx := X.1.1
  have hb := X.1.2.1
  intro n
  induction n with
  | zero =>
    intro σ v2 H locs ls hW hl hf
    rw [t_oneOf_12_2] at hf
    cases hf
  | succ n ih =>
    intro σ v2 H locs ls hW hl hf
    rw [t_oneOf_12_2] at hf
    refine lv_iload_n hx hb dX4_oneOf_2 rfl (lv_at hl 2 rfl) ?_
    refine lv_aload_n hx hb dX4_oneOf_3 rfl (lv_at hl 1 rfl) ?_
    refine r_alen X hW (t0 := 5) tm_12 rfl rfl dX4_oneOf_4 ?_
    rw [show nI 1 = 1 from rfl]
    refine lv_icmp_ge (tgt := 26) hx hb dX4_oneOf_5 (by decide) (fun c_1 => ?_) (fun c_1 => ?_)
    · replace hf := ip hf c_1
      exact hK _ _ _ _ hW (lv_sub hl [] rfl) hf
    · replace hf := ine hf c_1
      refine lv_aload_n hx hb dX4_oneOf_8 rfl (lv_at hl 0 rfl) ?_
      refine lv_aload_n hx hb dX4_oneOf_9 rfl (lv_at hl 1 rfl) ?_
      refine lv_iload_n hx hb dX4_oneOf_10 rfl (lv_at hl 2 rfl) ?_
      obtain ⟨h_2, hf⟩ := gd_e hf
      refine r_aald X hW (t0 := 5) tm_12 rfl rfl h_2 (v := .ref (g.2.2.1 6)) rfl dX4_oneOf_11 ?_
      obtain ⟨⟨σ_5, r_4⟩, h_3, hf⟩ := bd_e hf
      refine kt_isWord X hW had (by decide) h_3 (by decide) hl (Nat.le_of_ble_eq_true rfl) dX4_oneOf_12 (fun H locs hW => ?_)
      refine lv_if_eq (tgt := 20) hx hb dX4_oneOf_15 (by decide) (fun c_6 => ?_) (fun c_6 => ?_)
      · replace hf := ip hf c_6
        refine lv_iinc (v := (v2 + 1)) (lv' := [(2, .int (v2 + 1)), (0, .ref (ad 997)), (1, .ref (ad 12))]) hx hb dX4_oneOf_20 hl (k := 2) rfl (ii_v _ _ _ (by decide)) (by decide) rfl (fun ls hl => ?_)
        refine lv_goto (tgt := 2) hx hb dX4_oneOf_23 (by decide) ?_
        exact ih _ _ _ _ _ hW (lv_sub hl [1, 2, 0] rfl) hf
      · replace hf := ine hf c_6
        refine lv_iload_n hx hb dX4_oneOf_18 rfl (lv_at hl 2 rfl) ?_
        exact x_iret X hW hf dX4_oneOf_19
noncomputable def t_oneOf_12 (σ : cS) : Option (cS × Int32) :=
  t_oneOf_12_2  (fun σ_7 => (some (σ_7, (-1)))) FU σ 0
set_option maxHeartbeats 4000000 in
theorem wb_t_oneOf_12 {p : Program} {l : Launch} {e : Env} {s : State} {m : MethodId} {args : Array Value} {below : List Frame} {meth : Method} {c : Code} {g : gG} {A : Nat → Prop} {ad : Nat → Nat} {q : xR} (X : MX p s m args meth c cX4_oneOf 3 RX4 (some .int) g A) (had : tI_ ad) {σr : cS} {r : Int32} {σ : cS}  {H : Heap} {locs : List Loc} {ls : Array Slot} (hW : WB g A s.heap tIds ad (xE g ad q σ) H locs) (hl : lv_has ls 3 [(0, .ref (ad 997)), (1, .ref (ad 12))]) (hf : t_oneOf_12 σ = some (σr, r)) : W p l e (rm_ 7 224) s m args below meth c H locs 0 0 (Qm below g tIds ad (xE g ad q σr) (some (.int r)) A args s) (F0 m 0 ls []) := by
  have hx := X.1.1
  have hb := X.1.2.1
  unfold t_oneOf_12 at hf
  refine lv_iconst (v := 0) hx hb dX4_oneOf_0 (by decide) ?_
  refine lv_istore_n (lv' := [(2, .int 0), (0, .ref (ad 997)), (1, .ref (ad 12))]) hx hb dX4_oneOf_1 rfl hl (by decide) rfl (fun ls hl => ?_)
  refine wt_oneOf_12_2 X had (fun σ_7 H locs ls hW hl hf => ?_) _ _ _ _ _ _ hW (lv_sub hl [1, 2, 0] rfl) hf
  refine lv_iconst (v := (-1)) hx hb dX4_oneOf_26 (by decide) ?_
  exact x_iret X hW hf dX4_oneOf_27
theorem w_t_oneOf_12 (l : Launch) {g : gG} {ad : Nat → Nat} {q : xR} (had : tI_ ad) {σr : cS} {r : Int32} {σ : cS}  (hf : t_oneOf_12 σ = some (σr, r)) : MC l yX4_oneOf cX4_oneOf 3 (some .int) 7 224 g tIds ad (xE g ad q σ) (xE g ad q σr) [.ref (ad 997), .ref (ad 12)] (some (.int r)) :=
  MC.of (by decide) tIds_nd had (Nat.le_of_ble_eq_true rfl) (fun p e s m below meth c A ls X hW hl => wb_t_oneOf_12 X had hW hl hf)
theorem kt_oneOf_12 {p : Program} {l : Launch} {e : Env} {R : Room} {s : State} {m : MethodId} {args : Array Value} {below : List Frame} {meth : Method} {c : Code} {H : Heap} {locs : List Loc} {Q : State → Prop} {cc : ByteArray} {nL : Nat} {ret : Option FieldType} {g : gG} {A : Nat → Prop} {ad : Nat → Nat} {q : xR} {pc : Nat} {ls : Array Slot} {rest : List Value} {lv : List (Nat × Value)} {σr : cS} {r : Int32} {σ : cS} (X : MX p s m args meth c cc nL RX4 ret g A) (hW : WB g A s.heap tIds ad (xE g ad q σ) H locs) (had : tI_ ad)  (hf : t_oneOf_12 σ = some (σr, r)) (hR : 8 ≤ R.frames ∧ 246 ≤ R.locals) (hl : lv_has ls nL lv) (hcat : (rest.map fun v => v.category).sum ≤ 8) (hdg : decode cc pc = .ok (.invokevirtual 157, 3)) (kk : ∀ (H1 : Heap) (l1 : List Loc), WB g A s.heap tIds ad (xE g ad q σr) H1 l1 → W p l e R s m args below meth c H1 l1 0 0 Q (F0 m (pc + 3) ls (.int r :: rest))) : W p l e R s m args below meth c H locs 0 0 Q (F0 m pc ls (.ref (ad 12) :: .ref (ad 997) :: rest)) :=
  r_callV X hW Sub.all (w_t_oneOf_12 l had hf) (lw_V q515 q517 qs3 q127 q518) ⟨rfl, by decide, by decide, by decide +kernel⟩ tm_997 rfl rfl (n := 1) hR hl rfl rfl hcat ⟨Nat.zero_le _, Nat.zero_le _⟩ hdg kk
-- oneOf_13
noncomputable def t_oneOf_13_2  (K : cS → Option (cS × Int32)) : Nat → cS → Int32 → Option (cS × Int32)
  | 0, _, _ => none
  | n + 1, σ, v2 => if 12 ≤ v2 then (K σ) else (gd (inb v2 12) (gd (decide ((wnL.getD (ix v2) 0) < 43)) (((t_isWord σ (wnL.getD (ix v2) 0)).bind fun (σ_6, r_5) => if r_5 = 0 then (t_oneOf_13_2 K n σ_6 (v2 + 1)) else (some (σ_6, v2))))))
set_option maxHeartbeats 4000000 in
theorem wt_oneOf_13_2 {p : Program} {l : Launch} {e : Env} {s : State} {m : MethodId} {args : Array Value} {below : List Frame} {meth : Method} {c : Code} {g : gG} {A : Nat → Prop} {ad : Nat → Nat} {q : xR} (X : MX p s m args meth c cX4_oneOf 3 RX4 (some .int) g A) (had : tI_ ad) {σr : cS} {r : Int32}   {K : cS → Option (cS × Int32)}
    (hK : ∀ (σ : cS) (H : Heap) (locs : List Loc) (ls : Array Slot), WB g A s.heap tIds ad (xE g ad q σ) H locs → lv_has ls 3 [] → K σ = some (σr, r) → W p l e (rm_ 7 224) s m args below meth c H locs 0 0 (Qm below g tIds ad (xE g ad q σr) (some (.int r)) A args s) (F0 m 26 ls [])) :
    ∀ (n : Nat) (σ : cS) (v2 : Int32) (H : Heap) (locs : List Loc) (ls : Array Slot), WB g A s.heap tIds ad (xE g ad q σ) H locs → lv_has ls 3 [(0, .ref (ad 997)), (1, .ref (ad 13)), (2, .int v2)] → t_oneOf_13_2 K n σ v2 = some (σr, r) → W p l e (rm_ 7 224) s m args below meth c H locs 0 0 (Qm below g tIds ad (xE g ad q σr) (some (.int r)) A args s) (F0 m 2 ls []) := by
  have hx := X.1.1
  have hb := X.1.2.1
  intro n
  induction n with
  | zero =>
    intro σ v2 H locs ls hW hl hf
    rw [t_oneOf_13_2] at hf
    cases hf
  | succ n ih =>
    intro σ v2 H locs ls hW hl hf
    rw [t_oneOf_13_2] at hf
    refine lv_iload_n hx hb dX4_oneOf_2 rfl (lv_at hl 2 rfl) ?_
    refine lv_aload_n hx hb dX4_oneOf_3 rfl (lv_at hl 1 rfl) ?_
    refine r_alen X hW (t0 := 5) tm_13 rfl rfl dX4_oneOf_4 ?_
    rw [show nI 12 = 12 from rfl]
    refine lv_icmp_ge (tgt := 26) hx hb dX4_oneOf_5 (by decide) (fun c_1 => ?_) (fun c_1 => ?_)
    · replace hf := ip hf c_1
      exact hK _ _ _ _ hW (lv_sub hl [] rfl) hf
    · replace hf := ine hf c_1
      refine lv_aload_n hx hb dX4_oneOf_8 rfl (lv_at hl 0 rfl) ?_
      refine lv_aload_n hx hb dX4_oneOf_9 rfl (lv_at hl 1 rfl) ?_
      refine lv_iload_n hx hb dX4_oneOf_10 rfl (lv_at hl 2 rfl) ?_
      obtain ⟨h_2, hf⟩ := gd_e hf
      refine r_aald X hW (t0 := 5) tm_13 rfl rfl h_2 (v := .ref (g.2.2.1 (wnL.getD (ix v2) 0))) rfl dX4_oneOf_11 ?_
      obtain ⟨hs_3, hf⟩ := gd_e hf
      replace hs_3 := of_decide_eq_true hs_3
      obtain ⟨⟨σ_6, r_5⟩, h_4, hf⟩ := bd_e hf
      refine kt_isWord X hW had hs_3 h_4 (by decide) hl (Nat.le_of_ble_eq_true rfl) dX4_oneOf_12 (fun H locs hW => ?_)
      refine lv_if_eq (tgt := 20) hx hb dX4_oneOf_15 (by decide) (fun c_7 => ?_) (fun c_7 => ?_)
      · replace hf := ip hf c_7
        refine lv_iinc (v := (v2 + 1)) (lv' := [(2, .int (v2 + 1)), (0, .ref (ad 997)), (1, .ref (ad 13))]) hx hb dX4_oneOf_20 hl (k := 2) rfl (ii_v _ _ _ (by decide)) (by decide) rfl (fun ls hl => ?_)
        refine lv_goto (tgt := 2) hx hb dX4_oneOf_23 (by decide) ?_
        exact ih _ _ _ _ _ hW (lv_sub hl [1, 2, 0] rfl) hf
      · replace hf := ine hf c_7
        refine lv_iload_n hx hb dX4_oneOf_18 rfl (lv_at hl 2 rfl) ?_
        exact x_iret X hW hf dX4_oneOf_19
noncomputable def t_oneOf_13 (σ : cS) : Option (cS × Int32) :=
  t_oneOf_13_2  (fun σ_8 => (some (σ_8, (-1)))) FU σ 0
set_option maxHeartbeats 4000000 in
theorem wb_t_oneOf_13 {p : Program} {l : Launch} {e : Env} {s : State} {m : MethodId} {args : Array Value} {below : List Frame} {meth : Method} {c : Code} {g : gG} {A : Nat → Prop} {ad : Nat → Nat} {q : xR} (X : MX p s m args meth c cX4_oneOf 3 RX4 (some .int) g A) (had : tI_ ad) {σr : cS} {r : Int32} {σ : cS}  {H : Heap} {locs : List Loc} {ls : Array Slot} (hW : WB g A s.heap tIds ad (xE g ad q σ) H locs) (hl : lv_has ls 3 [(0, .ref (ad 997)), (1, .ref (ad 13))]) (hf : t_oneOf_13 σ = some (σr, r)) : W p l e (rm_ 7 224) s m args below meth c H locs 0 0 (Qm below g tIds ad (xE g ad q σr) (some (.int r)) A args s) (F0 m 0 ls []) := by
  have hx := X.1.1
  have hb := X.1.2.1
  unfold t_oneOf_13 at hf
  refine lv_iconst (v := 0) hx hb dX4_oneOf_0 (by decide) ?_
  refine lv_istore_n (lv' := [(2, .int 0), (0, .ref (ad 997)), (1, .ref (ad 13))]) hx hb dX4_oneOf_1 rfl hl (by decide) rfl (fun ls hl => ?_)
  refine wt_oneOf_13_2 X had (fun σ_8 H locs ls hW hl hf => ?_) _ _ _ _ _ _ hW (lv_sub hl [1, 2, 0] rfl) hf
  refine lv_iconst (v := (-1)) hx hb dX4_oneOf_26 (by decide) ?_
  exact x_iret X hW hf dX4_oneOf_27
theorem w_t_oneOf_13 (l : Launch) {g : gG} {ad : Nat → Nat} {q : xR} (had : tI_ ad) {σr : cS} {r : Int32} {σ : cS}  (hf : t_oneOf_13 σ = some (σr, r)) : MC l yX4_oneOf cX4_oneOf 3 (some .int) 7 224 g tIds ad (xE g ad q σ) (xE g ad q σr) [.ref (ad 997), .ref (ad 13)] (some (.int r)) :=
  MC.of (by decide) tIds_nd had (Nat.le_of_ble_eq_true rfl) (fun p e s m below meth c A ls X hW hl => wb_t_oneOf_13 X had hW hl hf)
theorem kt_oneOf_13 {p : Program} {l : Launch} {e : Env} {R : Room} {s : State} {m : MethodId} {args : Array Value} {below : List Frame} {meth : Method} {c : Code} {H : Heap} {locs : List Loc} {Q : State → Prop} {cc : ByteArray} {nL : Nat} {ret : Option FieldType} {g : gG} {A : Nat → Prop} {ad : Nat → Nat} {q : xR} {pc : Nat} {ls : Array Slot} {rest : List Value} {lv : List (Nat × Value)} {σr : cS} {r : Int32} {σ : cS} (X : MX p s m args meth c cc nL RX4 ret g A) (hW : WB g A s.heap tIds ad (xE g ad q σ) H locs) (had : tI_ ad)  (hf : t_oneOf_13 σ = some (σr, r)) (hR : 8 ≤ R.frames ∧ 246 ≤ R.locals) (hl : lv_has ls nL lv) (hcat : (rest.map fun v => v.category).sum ≤ 8) (hdg : decode cc pc = .ok (.invokevirtual 157, 3)) (kk : ∀ (H1 : Heap) (l1 : List Loc), WB g A s.heap tIds ad (xE g ad q σr) H1 l1 → W p l e R s m args below meth c H1 l1 0 0 Q (F0 m (pc + 3) ls (.int r :: rest))) : W p l e R s m args below meth c H locs 0 0 Q (F0 m pc ls (.ref (ad 13) :: .ref (ad 997) :: rest)) :=
  r_callV X hW Sub.all (w_t_oneOf_13 l had hf) (lw_V q515 q517 qs3 q127 q518) ⟨rfl, by decide, by decide, by decide +kernel⟩ tm_997 rfl rfl (n := 1) hR hl rfl rfl hcat ⟨Nat.zero_le _, Nat.zero_le _⟩ hdg kk
-- demand
noncomputable def t_demand (σ : cS) (v1 : Int32) (v2 : Int32) (v3 : Int32) : Option (cS × Option Unit) :=
  if v1 = 0 then (nmb (si σ 998 6 v2) fun σ_2 => (some ((si σ_2 998 7 v3), none))) else (some (σ, some ()))
set_option maxHeartbeats 4000000 in
theorem wb_t_demand {p : Program} {l : Launch} {e : Env} {s : State} {m : MethodId} {args : Array Value} {below : List Frame} {meth : Method} {c : Code} {g : gG} {A : Nat → Prop} {ad : Nat → Nat} {q : xR} (X : MX p s m args meth c cX4_demand 4 RX4 none g A) (had : tI_ ad) (hex : ∀ x ∈ c.exceptionTable.toList, False) {σr : cS} {o : Option Unit} {σ : cS} {v1 : Int32} {v2 : Int32} {v3 : Int32}  {H : Heap} {locs : List Loc} {ls : Array Slot} (hW : WB g A s.heap tIds ad (xE g ad q σ) H locs) (hl : lv_has ls 4 [(0, .ref (ad 997)), (1, .int v1), (2, .int v2), (3, .int v3)]) (hf : t_demand σ v1 v2 v3 = some (σr, o)) : W p l e (rm_ 2 60) s m args below meth c H locs 0 0 (QT below g tIds ad (xE g ad q σr) (fun _ : Unit => none) o A args s) (F0 m 0 ls []) := by
  have hx := X.1.1
  have hb := X.1.2.1
  unfold t_demand at hf
  refine lv_iload_n hx hb dX4_demand_0 rfl (lv_at hl 1 rfl) ?_
  refine lv_if_eq (tgt := 5) hx hb dX4_demand_1 (by decide) (fun c_1 => ?_) (fun c_1 => ?_)
  · replace hf := ip hf c_1
    refine lv_aload_n hx hb dX4_demand_5 rfl (lv_at hl 0 rfl) ?_
    refine tg_6 X hW tm_997 dX4_demand_6 ?_
    refine tgo_8 X hW tm_999 dX4_demand_9 ?_
    refine lv_iload_n hx hb dX4_demand_12 rfl (lv_at hl 2 rfl) ?_
    refine tpF_6 X hW tm_998 dX4_demand_13 (fun H locs hW => ?_)
    refine lv_aload_n hx hb dX4_demand_16 rfl (lv_at hl 0 rfl) ?_
    refine tg_6 X hW tm_997 dX4_demand_17 ?_
    refine tgo_8 X hW tm_999 dX4_demand_20 ?_
    refine lv_iload_n hx hb dX4_demand_23 rfl (lv_at hl 3 rfl) ?_
    obtain ⟨σ_2, e_3, hf⟩ := nmb_e hf
    rw [← e_3] at hW
    clear e_3
    refine tpF_7 X hW tm_998 dX4_demand_24 (fun H locs hW => ?_)
    refine lv_aload_n hx hb dX4_demand_27 rfl (lv_at hl 0 rfl) ?_
    refine tg_6 X hW tm_997 dX4_demand_28 ?_
    refine tgo_8 X hW tm_999 dX4_demand_31 ?_
    exact t_throw X hex hW hf dX4_demand_34
  · replace hf := ine hf c_1
    exact t_vret X hW hf dX4_demand_4
theorem w_t_demand (l : Launch) {g : gG} {ad : Nat → Nat} {q : xR} (had : tI_ ad) {σr : cS} {o : Option Unit} {σ : cS} {v1 : Int32} {v2 : Int32} {v3 : Int32}  (hf : t_demand σ v1 v2 v3 = some (σr, o)) : MT l yX4_demand cX4_demand 4 none 2 60 g tIds ad (xE g ad q σ) (xE g ad q σr) [.ref (ad 997), .int v1, .int v2, .int v3] (fun _ : Unit => none) o :=
  MT.of (by decide) tIds_nd had (Nat.le_of_ble_eq_true rfl) (fun p e s m below meth c A ls X hex hW hl => wb_t_demand X had hex hW hl hf)
theorem kt_demand {p : Program} {l : Launch} {e : Env} {R : Room} {s : State} {m : MethodId} {args : Array Value} {below : List Frame} {meth : Method} {c : Code} {H : Heap} {locs : List Loc} {Q : State → Prop} {cc : ByteArray} {nL : Nat} {ret : Option FieldType} {g : gG} {A : Nat → Prop} {ad : Nat → Nat} {q : xR} {pc : Nat} {ls : Array Slot} {rest : List Value} {lv : List (Nat × Value)} {σr : cS} {o : Option Unit} {σ : cS} {v1 : Int32} {v2 : Int32} {v3 : Int32} (X : MX p s m args meth c cc nL RX4 ret g A) (hW : WB g A s.heap tIds ad (xE g ad q σ) H locs) (had : tI_ ad)  (hf : t_demand σ v1 v2 v3 = some (σr, o)) (hR : 3 ≤ R.frames ∧ 83 ≤ R.locals) (hl : lv_has ls nL lv) (hcat : (rest.map fun v => v.category).sum ≤ 8) (hdg : decode cc pc = .ok (.invokevirtual 76, 3)) (kx : o = none → ∀ (H1 : Heap) (l1 : List Loc) (q9 : Addr) (ce : Cell), WB g A s.heap tIds ad (xE g ad q σr) H1 l1 → H1[q9]? = some ce → ce.vm = .none → s.vm.findClass RX2 = some ce.cls → vx_W p l e R s m args below meth c H1 l1 0 0 Q (F0 m pc ls rest) q9) (kk : ∀ r : Unit, o = some r → ∀ (H1 : Heap) (l1 : List Loc), WB g A s.heap tIds ad (xE g ad q σr) H1 l1 → W p l e R s m args below meth c H1 l1 0 0 Q (F0 m (pc + 3) ls (rest))) : W p l e R s m args below meth c H locs 0 0 Q (F0 m pc ls (.int v3 :: .int v2 :: .int v1 :: .ref (ad 997) :: rest)) :=
  t_callV X hW Sub.all (w_t_demand l had hf) (lw_V q575 q577 qs6 q127 q578) ⟨rfl, by decide, by decide, by decide +kernel⟩ tm_997 rfl rfl (n := 3) hR hl rfl rfl hcat hdg kx kk
-- canBe
noncomputable def t_canBe (σ : cS) (v1 : Int32) : Option (Int32) :=
  if 40 ≤ (σ.1 997 5) then (some 0) else (((if v1 = 0 then (some (1)) else (some (0)) : Option (Int32)).bind fun t_2 => (((if (σ.1 8999 0) = 0 then (some (1)) else (some (0)) : Option (Int32)).bind fun t_4 => (if t_2 = t_4 then (if v1 = 4 then (if 8 ≤ (σ.1 8999 2) then (some 0) else (some 1)) else (if v1 = 5 then (if 8 ≤ (σ.1 8999 3) then (some 0) else (some 1)) else (some 1))) else (some 0))))))
set_option maxHeartbeats 4000000 in
theorem wb_t_canBe {p : Program} {l : Launch} {e : Env} {s : State} {m : MethodId} {args : Array Value} {below : List Frame} {meth : Method} {c : Code} {g : gG} {A : Nat → Prop} {ad : Nat → Nat} {q : xR} (X : MX p s m args meth c cX4_canBe 2 RX4 (some .boolean) g A) (had : tI_ ad) {r : Int32} {σ : cS} {v1 : Int32}  {H : Heap} {locs : List Loc} {ls : Array Slot} (hW : WB g A s.heap tIds ad (xE g ad q σ) H locs) (hl : lv_has ls 2 [(0, .ref (ad 997)), (1, .int v1)]) (hf : t_canBe σ v1 = some r) : W p l e (rm_ 2 60) s m args below meth c H locs 0 0 (Qm below g tIds ad (xE g ad q σ) (some (.int r)) A args s) (F0 m 0 ls []) := by
  have hx := X.1.1
  have hb := X.1.2.1
  unfold t_canBe at hf
  refine lv_aload_n hx hb dX4_canBe_0 rfl (lv_at hl 0 rfl) ?_
  refine tg_5 X hW tm_997 dX4_canBe_1 ?_
  refine lv_bipush (v := 40) hx hb dX4_canBe_4 (by decide) ?_
  refine lv_icmp_ge (tgt := 36) hx hb dX4_canBe_6 (by decide) (fun c_1 => ?_) (fun c_1 => ?_)
  · replace hf := ip hf c_1
    refine lv_iconst (v := 0) hx hb dX4_canBe_36 (by decide) ?_
    exact p_zret X hW hf (by decide) dX4_canBe_37
  · replace hf := ine hf c_1
    refine lv_iload_n hx hb dX4_canBe_9 rfl (lv_at hl 1 rfl) ?_
    obtain ⟨t_2, hD_3, hf⟩ := bd_e hf
    have hJ : ∀ (H : Heap) (locs : List Loc) (ls : Array Slot), WB g A s.heap tIds ad (xE g ad q σ) H locs → lv_has ls 2 [(0, .ref (ad 997)), (1, .int v1)] → W p l e (rm_ 2 60) s m args below meth c H locs 0 0 (Qm below g tIds ad (xE g ad q σ) (some (.int r)) A args s) (F0 m 18 ls [.int t_2]) := by
      intro H locs ls hW hl
      refine lv_aload_n hx hb dX4_canBe_18 rfl (lv_at hl 0 rfl) ?_
      refine tg_1 X hW tm_997 dX4_canBe_19 ?_
      refine tgd_0 X hW tm_8999 dX4_canBe_22 ?_
      obtain ⟨t_4, hD_5, hf⟩ := bd_e hf
      have hJ : ∀ (H : Heap) (locs : List Loc) (ls : Array Slot), WB g A s.heap tIds ad (xE g ad q σ) H locs → lv_has ls 2 [(0, .ref (ad 997)), (1, .int v1)] → W p l e (rm_ 2 60) s m args below meth c H locs 0 0 (Qm below g tIds ad (xE g ad q σ) (some (.int r)) A args s) (F0 m 33 ls [.int t_4, .int t_2]) := by
        intro H locs ls hW hl
        refine lv_icmp_eq (tgt := 38) hx hb dX4_canBe_33 (by decide) (fun c_6 => ?_) (fun c_6 => ?_)
        · replace hf := ip hf c_6
          refine lv_iload_n hx hb dX4_canBe_38 rfl (lv_at hl 1 rfl) ?_
          refine lv_iconst (v := 4) hx hb dX4_canBe_39 (by decide) ?_
          refine lv_icmp_ne (tgt := 63) hx hb dX4_canBe_40 (by decide) (fun c_7 => ?_) (fun c_7 => ?_)
          · replace hf := ine hf c_7
            refine lv_iload_n hx hb dX4_canBe_63 rfl (lv_at hl 1 rfl) ?_
            refine lv_iconst (v := 5) hx hb dX4_canBe_64 (by decide) ?_
            refine lv_icmp_ne (tgt := 80) hx hb dX4_canBe_65 (by decide) (fun c_8 => ?_) (fun c_8 => ?_)
            · replace hf := ine hf c_8
              refine lv_iconst (v := 1) hx hb dX4_canBe_80 (by decide) ?_
              refine lv_goto (tgt := 85) hx hb dX4_canBe_81 (by decide) ?_
              exact p_zret X hW hf (by decide) dX4_canBe_85
            · replace hf := ip hf c_8
              refine lv_aload_n hx hb dX4_canBe_68 rfl (lv_at hl 0 rfl) ?_
              refine tg_1 X hW tm_997 dX4_canBe_69 ?_
              refine tgd_3 X hW tm_8999 dX4_canBe_72 ?_
              refine lv_bipush (v := 8) hx hb dX4_canBe_75 (by decide) ?_
              refine lv_icmp_ge (tgt := 84) hx hb dX4_canBe_77 (by decide) (fun c_9 => ?_) (fun c_9 => ?_)
              · replace hf := ip hf c_9
                refine lv_iconst (v := 0) hx hb dX4_canBe_84 (by decide) ?_
                exact p_zret X hW hf (by decide) dX4_canBe_85
              · replace hf := ine hf c_9
                refine lv_iconst (v := 1) hx hb dX4_canBe_80 (by decide) ?_
                refine lv_goto (tgt := 85) hx hb dX4_canBe_81 (by decide) ?_
                exact p_zret X hW hf (by decide) dX4_canBe_85
          · replace hf := ip hf c_7
            refine lv_aload_n hx hb dX4_canBe_43 rfl (lv_at hl 0 rfl) ?_
            refine tg_1 X hW tm_997 dX4_canBe_44 ?_
            refine tgd_2 X hW tm_8999 dX4_canBe_47 ?_
            refine lv_bipush (v := 8) hx hb dX4_canBe_50 (by decide) ?_
            refine lv_icmp_ge (tgt := 59) hx hb dX4_canBe_52 (by decide) (fun c_10 => ?_) (fun c_10 => ?_)
            · replace hf := ip hf c_10
              refine lv_iconst (v := 0) hx hb dX4_canBe_59 (by decide) ?_
              refine lv_goto (tgt := 85) hx hb dX4_canBe_60 (by decide) ?_
              exact p_zret X hW hf (by decide) dX4_canBe_85
            · replace hf := ine hf c_10
              refine lv_iconst (v := 1) hx hb dX4_canBe_55 (by decide) ?_
              refine lv_goto (tgt := 85) hx hb dX4_canBe_56 (by decide) ?_
              exact p_zret X hW hf (by decide) dX4_canBe_85
        · replace hf := ine hf c_6
          refine lv_iconst (v := 0) hx hb dX4_canBe_36 (by decide) ?_
          exact p_zret X hW hf (by decide) dX4_canBe_37
      clear hf
      refine lv_if_ne (tgt := 32) hx hb dX4_canBe_25 (by decide) (fun c_11 => ?_) (fun c_11 => ?_)
      · replace hD_5 := ine hD_5 c_11
        refine lv_iconst (v := 0) hx hb dX4_canBe_32 (by decide) ?_
        cases hD_5
        exact hJ _ _ _ hW (lv_sub hl [0, 1] rfl)
      · replace hD_5 := ip hD_5 c_11
        refine lv_iconst (v := 1) hx hb dX4_canBe_28 (by decide) ?_
        refine lv_goto (tgt := 33) hx hb dX4_canBe_29 (by decide) ?_
        cases hD_5
        exact hJ _ _ _ hW (lv_sub hl [0, 1] rfl)
    clear hf
    refine lv_if_ne (tgt := 17) hx hb dX4_canBe_10 (by decide) (fun c_12 => ?_) (fun c_12 => ?_)
    · replace hD_3 := ine hD_3 c_12
      refine lv_iconst (v := 0) hx hb dX4_canBe_17 (by decide) ?_
      cases hD_3
      exact hJ _ _ _ hW (lv_sub hl [0, 1] rfl)
    · replace hD_3 := ip hD_3 c_12
      refine lv_iconst (v := 1) hx hb dX4_canBe_13 (by decide) ?_
      refine lv_goto (tgt := 18) hx hb dX4_canBe_14 (by decide) ?_
      cases hD_3
      exact hJ _ _ _ hW (lv_sub hl [0, 1] rfl)
theorem w_t_canBe (l : Launch) {g : gG} {ad : Nat → Nat} {q : xR} (had : tI_ ad) {r : Int32} {σ : cS} {v1 : Int32}  (hf : t_canBe σ v1 = some r) : MC l yX4_canBe cX4_canBe 2 (some .boolean) 2 60 g tIds ad (xE g ad q σ) (xE g ad q σ) [.ref (ad 997), .int v1] (some (.int r)) :=
  MC.of (by decide) tIds_nd had (Nat.le_of_ble_eq_true rfl) (fun p e s m below meth c A ls X hW hl => wb_t_canBe X had hW hl hf)
theorem kt_canBe {p : Program} {l : Launch} {e : Env} {R : Room} {s : State} {m : MethodId} {args : Array Value} {below : List Frame} {meth : Method} {c : Code} {H : Heap} {locs : List Loc} {Q : State → Prop} {cc : ByteArray} {nL : Nat} {ret : Option FieldType} {g : gG} {A : Nat → Prop} {ad : Nat → Nat} {q : xR} {pc : Nat} {ls : Array Slot} {rest : List Value} {lv : List (Nat × Value)} {r : Int32} {σ : cS} {v1 : Int32} (X : MX p s m args meth c cc nL RX4 ret g A) (hW : WB g A s.heap tIds ad (xE g ad q σ) H locs) (had : tI_ ad)  (hf : t_canBe σ v1 = some r) (hR : 3 ≤ R.frames ∧ 81 ≤ R.locals) (hl : lv_has ls nL lv) (hcat : (rest.map fun v => v.category).sum ≤ 8) (hdg : decode cc pc = .ok (.invokevirtual 161, 3)) (kk : ∀ (H1 : Heap) (l1 : List Loc), WB g A s.heap tIds ad (xE g ad q σ) H1 l1 → W p l e R s m args below meth c H1 l1 0 0 Q (F0 m (pc + 3) ls (.int r :: rest))) : W p l e R s m args below meth c H locs 0 0 Q (F0 m pc ls (.int v1 :: .ref (ad 997) :: rest)) :=
  r_callV X hW Sub.all (w_t_canBe l had hf) (lw_V q579 q581 qs7 q127 q582) ⟨rfl, by decide, by decide, by decide +kernel⟩ tm_997 rfl rfl (n := 1) hR hl rfl rfl hcat ⟨Nat.zero_le _, Nat.zero_le _⟩ hdg kk
-- isDigit
noncomputable def t_isDigit (σ : cS) (v1 : Int32) : Option (Int32) :=
  if (σ.1 999 10) ≤ v1 then (some 0) else (gd (inb v1 400) (if (σ.1 9 (ix v1)) < 48 then (some 0) else (if 57 < (σ.1 9 (ix v1)) then (some 0) else (some 1))))
set_option maxHeartbeats 4000000 in
theorem wb_t_isDigit {p : Program} {l : Launch} {e : Env} {s : State} {m : MethodId} {args : Array Value} {below : List Frame} {meth : Method} {c : Code} {g : gG} {A : Nat → Prop} {ad : Nat → Nat} {q : xR} (X : MX p s m args meth c cX4_isDigit 2 RX4 (some .boolean) g A) (had : tI_ ad) {r : Int32} {σ : cS} {v1 : Int32}  {H : Heap} {locs : List Loc} {ls : Array Slot} (hW : WB g A s.heap tIds ad (xE g ad q σ) H locs) (hl : lv_has ls 2 [(0, .ref (ad 997)), (1, .int v1)]) (hf : t_isDigit σ v1 = some r) : W p l e (rm_ 2 60) s m args below meth c H locs 0 0 (Qm below g tIds ad (xE g ad q σ) (some (.int r)) A args s) (F0 m 0 ls []) := by
  have hx := X.1.1
  have hb := X.1.2.1
  unfold t_isDigit at hf
  refine lv_iload_n hx hb dX4_isDigit_0 rfl (lv_at hl 1 rfl) ?_
  refine lv_aload_n hx hb dX4_isDigit_1 rfl (lv_at hl 0 rfl) ?_
  refine tg_6 X hW tm_997 dX4_isDigit_2 ?_
  refine tgo_10 X hW tm_999 dX4_isDigit_5 ?_
  refine lv_icmp_ge (tgt := 43) hx hb dX4_isDigit_8 (by decide) (fun c_1 => ?_) (fun c_1 => ?_)
  · replace hf := ip hf c_1
    refine lv_iconst (v := 0) hx hb dX4_isDigit_43 (by decide) ?_
    exact p_zret X hW hf (by decide) dX4_isDigit_44
  · replace hf := ine hf c_1
    refine lv_aload_n hx hb dX4_isDigit_11 rfl (lv_at hl 0 rfl) ?_
    refine tg_6 X hW tm_997 dX4_isDigit_12 ?_
    refine tgo_9 X hW tm_999 dX4_isDigit_15 ?_
    refine lv_iload_n hx hb dX4_isDigit_18 rfl (lv_at hl 1 rfl) ?_
    obtain ⟨h_2, hf⟩ := gd_e hf
    refine xl_9 X hW tm_9 h_2 dX4_isDigit_19 ?_
    refine lv_bipush (v := 48) hx hb dX4_isDigit_20 (by decide) ?_
    refine lv_icmp_lt (tgt := 43) hx hb dX4_isDigit_22 (by decide) (fun c_3 => ?_) (fun c_3 => ?_)
    · replace hf := ip hf c_3
      refine lv_iconst (v := 0) hx hb dX4_isDigit_43 (by decide) ?_
      exact p_zret X hW hf (by decide) dX4_isDigit_44
    · replace hf := ine hf c_3
      refine lv_aload_n hx hb dX4_isDigit_25 rfl (lv_at hl 0 rfl) ?_
      refine tg_6 X hW tm_997 dX4_isDigit_26 ?_
      refine tgo_9 X hW tm_999 dX4_isDigit_29 ?_
      refine lv_iload_n hx hb dX4_isDigit_32 rfl (lv_at hl 1 rfl) ?_
      refine xl_9 X hW tm_9 h_2 dX4_isDigit_33 ?_
      refine lv_bipush (v := 57) hx hb dX4_isDigit_34 (by decide) ?_
      refine lv_icmp_gt (tgt := 43) hx hb dX4_isDigit_36 (by decide) (fun c_4 => ?_) (fun c_4 => ?_)
      · replace hf := ip hf c_4
        refine lv_iconst (v := 0) hx hb dX4_isDigit_43 (by decide) ?_
        exact p_zret X hW hf (by decide) dX4_isDigit_44
      · replace hf := ine hf c_4
        refine lv_iconst (v := 1) hx hb dX4_isDigit_39 (by decide) ?_
        refine lv_goto (tgt := 44) hx hb dX4_isDigit_40 (by decide) ?_
        exact p_zret X hW hf (by decide) dX4_isDigit_44
theorem w_t_isDigit (l : Launch) {g : gG} {ad : Nat → Nat} {q : xR} (had : tI_ ad) {r : Int32} {σ : cS} {v1 : Int32}  (hf : t_isDigit σ v1 = some r) : MC l yX4_isDigit cX4_isDigit 2 (some .boolean) 2 60 g tIds ad (xE g ad q σ) (xE g ad q σ) [.ref (ad 997), .int v1] (some (.int r)) :=
  MC.of (by decide) tIds_nd had (Nat.le_of_ble_eq_true rfl) (fun p e s m below meth c A ls X hW hl => wb_t_isDigit X had hW hl hf)
theorem kt_isDigit {p : Program} {l : Launch} {e : Env} {R : Room} {s : State} {m : MethodId} {args : Array Value} {below : List Frame} {meth : Method} {c : Code} {H : Heap} {locs : List Loc} {Q : State → Prop} {cc : ByteArray} {nL : Nat} {ret : Option FieldType} {g : gG} {A : Nat → Prop} {ad : Nat → Nat} {q : xR} {pc : Nat} {ls : Array Slot} {rest : List Value} {lv : List (Nat × Value)} {r : Int32} {σ : cS} {v1 : Int32} (X : MX p s m args meth c cc nL RX4 ret g A) (hW : WB g A s.heap tIds ad (xE g ad q σ) H locs) (had : tI_ ad)  (hf : t_isDigit σ v1 = some r) (hR : 3 ≤ R.frames ∧ 81 ≤ R.locals) (hl : lv_has ls nL lv) (hcat : (rest.map fun v => v.category).sum ≤ 8) (hdg : decode cc pc = .ok (.invokevirtual 72, 3)) (kk : ∀ (H1 : Heap) (l1 : List Loc), WB g A s.heap tIds ad (xE g ad q σ) H1 l1 → W p l e R s m args below meth c H1 l1 0 0 Q (F0 m (pc + 3) ls (.int r :: rest))) : W p l e R s m args below meth c H locs 0 0 Q (F0 m pc ls (.int v1 :: .ref (ad 997) :: rest)) :=
  r_callV X hW Sub.all (w_t_isDigit l had hf) (lw_V q595 q597 qs11 q127 q598) ⟨rfl, by decide, by decide, by decide +kernel⟩ tm_997 rfl rfl (n := 1) hR hl rfl rfl hcat ⟨Nat.zero_le _, Nat.zero_le _⟩ hdg kk
-- number
noncomputable def t_number_24 (v1 : Int32) (v2 : Int32) (v3 : Int32) (K : cS → Int32 → Option (cS × Option Int32)) : Nat → cS → Int32 → Option (cS × Option Int32)
  | 0, _, _ => none
  | n + 1, σ, v4 => ((t_isDigit σ (σ.1 997 2)).bind fun r_11 => if r_11 = 0 then (K σ v4) else (if 5 ≤ ((σ.1 997 2) - v3) then (t_number_24 v1 v2 v3 K n (si σ 997 2 ((σ.1 997 2) + 1)) v4) else (gd (inb (σ.1 997 2) 400) (t_number_24 v1 v2 v3 K n (si σ 997 2 ((σ.1 997 2) + 1)) (((10 * v4) + (σ.1 9 (ix (σ.1 997 2)))) - 48)))))
set_option maxHeartbeats 4000000 in
theorem wt_number_24 {p : Program} {l : Launch} {e : Env} {s : State} {m : MethodId} {args : Array Value} {below : List Frame} {meth : Method} {c : Code} {g : gG} {A : Nat → Prop} {ad : Nat → Nat} {q : xR} (X : MX p s m args meth c cX4_number 5 RX4 (some .int) g A) (had : tI_ ad) (hex : ∀ x ∈ c.exceptionTable.toList, False) {σr : cS} {o : Option Int32} {v1 : Int32} {v2 : Int32} {v3 : Int32}  {K : cS → Int32 → Option (cS × Option Int32)}
    (hK : ∀ (σ : cS) (k4 : Int32) (H : Heap) (locs : List Loc) (ls : Array Slot), WB g A s.heap tIds ad (xE g ad q σ) H locs → lv_has ls 5 [(0, .ref (ad 997)), (1, .int v1), (2, .int v2), (3, .int v3), (4, .int k4)] → K σ k4 = some (σr, o) → W p l e (rm_ 4 100) s m args below meth c H locs 0 0 (QT below g tIds ad (xE g ad q σr) (fun r : Int32 => some (.int r)) o A args s) (F0 m 81 ls [])) :
    ∀ (n : Nat) (σ : cS) (v4 : Int32) (H : Heap) (locs : List Loc) (ls : Array Slot), WB g A s.heap tIds ad (xE g ad q σ) H locs → lv_has ls 5 [(0, .ref (ad 997)), (1, .int v1), (2, .int v2), (3, .int v3), (4, .int v4)] → t_number_24 v1 v2 v3 K n σ v4 = some (σr, o) → W p l e (rm_ 4 100) s m args below meth c H locs 0 0 (QT below g tIds ad (xE g ad q σr) (fun r : Int32 => some (.int r)) o A args s) (F0 m 24 ls []) := by
  have hx := X.1.1
  have hb := X.1.2.1
  intro n
  induction n with
  | zero =>
    intro σ v4 H locs ls hW hl hf
    rw [t_number_24] at hf
    cases hf
  | succ n ih =>
    intro σ v4 H locs ls hW hl hf
    rw [t_number_24] at hf
    refine lv_aload_n hx hb dX4_number_24 rfl (lv_at hl 0 rfl) ?_
    refine lv_aload_n hx hb dX4_number_25 rfl (lv_at hl 0 rfl) ?_
    refine tg_2 X hW tm_997 dX4_number_26 ?_
    obtain ⟨r_11, h_10, hf⟩ := bd_e hf
    refine kt_isDigit X hW had h_10 (by decide) hl (Nat.le_of_ble_eq_true rfl) dX4_number_29 (fun H locs hW => ?_)
    refine lv_if_eq (tgt := 81) hx hb dX4_number_32 (by decide) (fun c_12 => ?_) (fun c_12 => ?_)
    · replace hf := ip hf c_12
      exact hK _ _ _ _ _ hW (lv_sub hl [0, 1, 2, 3, 4] rfl) hf
    · replace hf := ine hf c_12
      refine lv_aload_n hx hb dX4_number_35 rfl (lv_at hl 0 rfl) ?_
      refine tg_2 X hW tm_997 dX4_number_36 ?_
      refine lv_iload_n hx hb dX4_number_39 rfl (lv_at hl 3 rfl) ?_
      refine lv_isub hx hb dX4_number_40 ?_
      refine lv_iconst (v := 5) hx hb dX4_number_41 (by decide) ?_
      refine lv_icmp_ge (tgt := 68) hx hb dX4_number_42 (by decide) (fun c_13 => ?_) (fun c_13 => ?_)
      · replace hf := ip hf c_13
        refine lv_aload_n hx hb dX4_number_68 rfl (lv_at hl 0 rfl) ?_
        refine lv_dup hx hb dX4_number_69 rfl ?_
        refine tg_2 X hW tm_997 dX4_number_70 ?_
        refine lv_iconst (v := 1) hx hb dX4_number_73 (by decide) ?_
        refine lv_iadd hx hb dX4_number_74 ?_
        refine tp_2 X hW tm_997 dX4_number_75 (fun H locs hW => ?_)
        refine lv_goto (tgt := 24) hx hb dX4_number_78 (by decide) ?_
        exact ih _ _ _ _ _ hW (lv_sub hl [0, 1, 2, 3, 4] rfl) hf
      · replace hf := ine hf c_13
        refine lv_bipush (v := 10) hx hb dX4_number_45 (by decide) ?_
        refine lv_iload hx hb dX4_number_47 (lv_at hl 4 rfl) ?_
        refine lv_imul hx hb dX4_number_49 ?_
        refine lv_aload_n hx hb dX4_number_50 rfl (lv_at hl 0 rfl) ?_
        refine tg_6 X hW tm_997 dX4_number_51 ?_
        refine tgo_9 X hW tm_999 dX4_number_54 ?_
        refine lv_aload_n hx hb dX4_number_57 rfl (lv_at hl 0 rfl) ?_
        refine tg_2 X hW tm_997 dX4_number_58 ?_
        obtain ⟨h_14, hf⟩ := gd_e hf
        refine xl_9 X hW tm_9 h_14 dX4_number_61 ?_
        refine lv_iadd hx hb dX4_number_62 ?_
        refine lv_bipush (v := 48) hx hb dX4_number_63 (by decide) ?_
        refine lv_isub hx hb dX4_number_65 ?_
        refine lv_istore (lv' := [(4, .int (((10 * v4) + (σ.1 9 (ix (σ.1 997 2)))) - 48)), (0, .ref (ad 997)), (1, .int v1), (2, .int v2), (3, .int v3)]) hx hb dX4_number_66 hl (by decide) rfl (fun ls hl => ?_)
        refine lv_aload_n hx hb dX4_number_68 rfl (lv_at hl 1 rfl) ?_
        refine lv_dup hx hb dX4_number_69 rfl ?_
        refine tg_2 X hW tm_997 dX4_number_70 ?_
        refine lv_iconst (v := 1) hx hb dX4_number_73 (by decide) ?_
        refine lv_iadd hx hb dX4_number_74 ?_
        refine tp_2 X hW tm_997 dX4_number_75 (fun H locs hW => ?_)
        refine lv_goto (tgt := 24) hx hb dX4_number_78 (by decide) ?_
        exact ih _ _ _ _ _ hW (lv_sub hl [1, 2, 3, 4, 0] rfl) hf
noncomputable def t_number (σ : cS) (v1 : Int32) (v2 : Int32) : Option (cS × Option Int32) :=
  ((t_see σ).bind fun (σ_3, r_2) => ((t_isDigit σ_3 (σ_3.1 997 2)).bind fun r_5 => ((t_demand σ_3 r_5 0 (σ_3.1 997 2)).bind fun (σ_8, o_9) => thr σ_8 o_9 fun _ => t_number_24 v1 v2 (σ_3.1 997 2) (fun σ_15 v_16 => (if 5 < ((σ_15.1 997 2) - (σ_3.1 997 2)) then (((t_demand σ_15 0 1 (σ_3.1 997 2)).bind fun (σ_20, o_21) => thr σ_20 o_21 fun _ => some (σ_20, some v_16))) else (((x_in v_16.toInt64 v1.toInt64 v2.toInt64).bind fun r_22 => if r_22 = 0 then (((t_demand σ_15 0 1 (σ_3.1 997 2)).bind fun (σ_27, o_28) => thr σ_27 o_28 fun _ => some (σ_27, some v_16))) else (((t_demand σ_15 1 1 (σ_3.1 997 2)).bind fun (σ_31, o_32) => thr σ_31 o_32 fun _ => some (σ_31, some v_16))))))) FU σ_8 0)))
set_option maxHeartbeats 4000000 in
theorem wb_t_number {p : Program} {l : Launch} {e : Env} {s : State} {m : MethodId} {args : Array Value} {below : List Frame} {meth : Method} {c : Code} {g : gG} {A : Nat → Prop} {ad : Nat → Nat} {q : xR} (X : MX p s m args meth c cX4_number 5 RX4 (some .int) g A) (had : tI_ ad) (hex : ∀ x ∈ c.exceptionTable.toList, False) {σr : cS} {o : Option Int32} {σ : cS} {v1 : Int32} {v2 : Int32}  {H : Heap} {locs : List Loc} {ls : Array Slot} (hW : WB g A s.heap tIds ad (xE g ad q σ) H locs) (hl : lv_has ls 5 [(0, .ref (ad 997)), (1, .int v1), (2, .int v2)]) (hf : t_number σ v1 v2 = some (σr, o)) : W p l e (rm_ 4 100) s m args below meth c H locs 0 0 (QT below g tIds ad (xE g ad q σr) (fun r : Int32 => some (.int r)) o A args s) (F0 m 0 ls []) := by
  have hx := X.1.1
  have hb := X.1.2.1
  unfold t_number at hf
  refine lv_aload_n hx hb dX4_number_0 rfl (lv_at hl 0 rfl) ?_
  obtain ⟨⟨σ_3, r_2⟩, h_1, hf⟩ := bd_e hf
  refine kt_see X hW had h_1 (by decide) hl (Nat.le_of_ble_eq_true rfl) dX4_number_1 (fun H locs hW => ?_)
  refine lv_pop hx hb dX4_number_4 rfl ?_
  refine lv_aload_n hx hb dX4_number_5 rfl (lv_at hl 0 rfl) ?_
  refine tg_2 X hW tm_997 dX4_number_6 ?_
  refine lv_istore_n (lv' := [(3, .int (σ_3.1 997 2)), (0, .ref (ad 997)), (1, .int v1), (2, .int v2)]) hx hb dX4_number_9 rfl hl (by decide) rfl (fun ls hl => ?_)
  refine lv_aload_n hx hb dX4_number_10 rfl (lv_at hl 1 rfl) ?_
  refine lv_aload_n hx hb dX4_number_11 rfl (lv_at hl 1 rfl) ?_
  refine lv_iload_n hx hb dX4_number_12 rfl (lv_at hl 0 rfl) ?_
  obtain ⟨r_5, h_4, hf⟩ := bd_e hf
  refine kt_isDigit X hW had h_4 (by decide) hl (Nat.le_of_ble_eq_true rfl) dX4_number_13 (fun H locs hW => ?_)
  refine lv_iconst (v := 0) hx hb dX4_number_16 (by decide) ?_
  refine lv_iload_n hx hb dX4_number_17 rfl (lv_at hl 0 rfl) ?_
  obtain ⟨⟨σ_8, o_9⟩, h_6, hf⟩ := bd_e hf
  refine kt_demand X hW had h_6 (by decide) hl (Nat.le_of_ble_eq_true rfl) dX4_number_18 (fun ho H locs q9 ce hW hc1 hc2 hc3 => by subst ho; exact t_out X hex hW hf hc1 hc2 hc3) (fun r_7 ho H locs hW => ?_)
  subst ho
  replace hf := thr_s hf
  refine lv_iconst (v := 0) hx hb dX4_number_21 (by decide) ?_
  refine lv_istore (lv' := [(4, .int 0), (3, .int (σ_3.1 997 2)), (0, .ref (ad 997)), (1, .int v1), (2, .int v2)]) hx hb dX4_number_22 hl (by decide) rfl (fun ls hl => ?_)
  refine wt_number_24 X had hex (fun σ_15 v_16 H locs ls hW hl hf => ?_) _ _ _ _ _ _ hW (lv_sub hl [2, 3, 4, 1, 0] rfl) hf
  refine lv_aload_n hx hb dX4_number_81 rfl (lv_at hl 0 rfl) ?_
  refine lv_aload_n hx hb dX4_number_82 rfl (lv_at hl 0 rfl) ?_
  refine tg_2 X hW tm_997 dX4_number_83 ?_
  refine lv_iload_n hx hb dX4_number_86 rfl (lv_at hl 3 rfl) ?_
  refine lv_isub hx hb dX4_number_87 ?_
  refine lv_iconst (v := 5) hx hb dX4_number_88 (by decide) ?_
  refine lv_icmp_gt (tgt := 109) hx hb dX4_number_89 (by decide) (fun c_17 => ?_) (fun c_17 => ?_)
  · replace hf := ip hf c_17
    refine lv_iconst (v := 0) hx hb dX4_number_109 (by decide) ?_
    refine lv_iconst (v := 1) hx hb dX4_number_110 (by decide) ?_
    refine lv_iload_n hx hb dX4_number_111 rfl (lv_at hl 3 rfl) ?_
    obtain ⟨⟨σ_20, o_21⟩, h_18, hf⟩ := bd_e hf
    refine kt_demand X hW had h_18 (by decide) hl (Nat.le_of_ble_eq_true rfl) dX4_number_112 (fun ho H locs q9 ce hW hc1 hc2 hc3 => by subst ho; exact t_out X hex hW hf hc1 hc2 hc3) (fun r_19 ho H locs hW => ?_)
    subst ho
    replace hf := thr_s hf
    refine lv_iload hx hb dX4_number_115 (lv_at hl 4 rfl) ?_
    exact t_iret X hW hf dX4_number_117
  · replace hf := ine hf c_17
    refine lv_iload hx hb dX4_number_92 (lv_at hl 4 rfl) ?_
    refine lv_i2l (v := v_16.toInt64) hx hb dX4_number_94 rfl ?_
    refine lv_iload_n hx hb dX4_number_95 rfl (lv_at hl 1 rfl) ?_
    refine lv_i2l (v := v1.toInt64) hx hb dX4_number_96 rfl ?_
    refine lv_iload_n hx hb dX4_number_97 rfl (lv_at hl 2 rfl) ?_
    refine lv_i2l (v := v2.toInt64) hx hb dX4_number_98 rfl ?_
    obtain ⟨r_22, h_23, hf⟩ := bd_e hf
    refine kn_in X hW h_23 q599 (by decide) hl (Nat.le_of_ble_eq_true rfl) dX4_number_99 (fun H locs hW => ?_)
    refine lv_if_eq (tgt := 109) hx hb dX4_number_102 (by decide) (fun c_24 => ?_) (fun c_24 => ?_)
    · replace hf := ip hf c_24
      refine lv_iconst (v := 0) hx hb dX4_number_109 (by decide) ?_
      refine lv_iconst (v := 1) hx hb dX4_number_110 (by decide) ?_
      refine lv_iload_n hx hb dX4_number_111 rfl (lv_at hl 3 rfl) ?_
      obtain ⟨⟨σ_27, o_28⟩, h_25, hf⟩ := bd_e hf
      refine kt_demand X hW had h_25 (by decide) hl (Nat.le_of_ble_eq_true rfl) dX4_number_112 (fun ho H locs q9 ce hW hc1 hc2 hc3 => by subst ho; exact t_out X hex hW hf hc1 hc2 hc3) (fun r_26 ho H locs hW => ?_)
      subst ho
      replace hf := thr_s hf
      refine lv_iload hx hb dX4_number_115 (lv_at hl 4 rfl) ?_
      exact t_iret X hW hf dX4_number_117
    · replace hf := ine hf c_24
      refine lv_iconst (v := 1) hx hb dX4_number_105 (by decide) ?_
      refine lv_goto (tgt := 110) hx hb dX4_number_106 (by decide) ?_
      refine lv_iconst (v := 1) hx hb dX4_number_110 (by decide) ?_
      refine lv_iload_n hx hb dX4_number_111 rfl (lv_at hl 3 rfl) ?_
      obtain ⟨⟨σ_31, o_32⟩, h_29, hf⟩ := bd_e hf
      refine kt_demand X hW had h_29 (by decide) hl (Nat.le_of_ble_eq_true rfl) dX4_number_112 (fun ho H locs q9 ce hW hc1 hc2 hc3 => by subst ho; exact t_out X hex hW hf hc1 hc2 hc3) (fun r_30 ho H locs hW => ?_)
      subst ho
      replace hf := thr_s hf
      refine lv_iload hx hb dX4_number_115 (lv_at hl 4 rfl) ?_
      exact t_iret X hW hf dX4_number_117
theorem w_t_number (l : Launch) {g : gG} {ad : Nat → Nat} {q : xR} (had : tI_ ad) {σr : cS} {o : Option Int32} {σ : cS} {v1 : Int32} {v2 : Int32}  (hf : t_number σ v1 v2 = some (σr, o)) : MT l yX4_number cX4_number 5 (some .int) 4 100 g tIds ad (xE g ad q σ) (xE g ad q σr) [.ref (ad 997), .int v1, .int v2] (fun r : Int32 => some (.int r)) o :=
  MT.of (by decide) tIds_nd had (Nat.le_of_ble_eq_true rfl) (fun p e s m below meth c A ls X hex hW hl => wb_t_number X had hex hW hl hf)
theorem kt_number {p : Program} {l : Launch} {e : Env} {R : Room} {s : State} {m : MethodId} {args : Array Value} {below : List Frame} {meth : Method} {c : Code} {H : Heap} {locs : List Loc} {Q : State → Prop} {cc : ByteArray} {nL : Nat} {ret : Option FieldType} {g : gG} {A : Nat → Prop} {ad : Nat → Nat} {q : xR} {pc : Nat} {ls : Array Slot} {rest : List Value} {lv : List (Nat × Value)} {σr : cS} {o : Option Int32} {σ : cS} {v1 : Int32} {v2 : Int32} (X : MX p s m args meth c cc nL RX4 ret g A) (hW : WB g A s.heap tIds ad (xE g ad q σ) H locs) (had : tI_ ad)  (hf : t_number σ v1 v2 = some (σr, o)) (hR : 5 ≤ R.frames ∧ 124 ≤ R.locals) (hl : lv_has ls nL lv) (hcat : (rest.map fun v => v.category).sum ≤ 8) (hdg : decode cc pc = .ok (.invokevirtual 104, 3)) (kx : o = none → ∀ (H1 : Heap) (l1 : List Loc) (q9 : Addr) (ce : Cell), WB g A s.heap tIds ad (xE g ad q σr) H1 l1 → H1[q9]? = some ce → ce.vm = .none → s.vm.findClass RX2 = some ce.cls → vx_W p l e R s m args below meth c H1 l1 0 0 Q (F0 m pc ls rest) q9) (kk : ∀ r : Int32, o = some r → ∀ (H1 : Heap) (l1 : List Loc), WB g A s.heap tIds ad (xE g ad q σr) H1 l1 → W p l e R s m args below meth c H1 l1 0 0 Q (F0 m (pc + 3) ls (.int r :: rest))) : W p l e R s m args below meth c H locs 0 0 Q (F0 m pc ls (.int v2 :: .int v1 :: .ref (ad 997) :: rest)) :=
  t_callV X hW Sub.all (w_t_number l had hf) (lw_V q591 q593 qs10 q127 q594) ⟨rfl, by decide, by decide, by decide +kernel⟩ tm_997 rfl rfl (n := 2) hR hl rfl rfl hcat hdg kx kk
-- stripHere
noncomputable def t_stripHere_29  (K : cS → Option (cS × Option Unit)) : Nat → cS → Int32 → Option (cS × Option Unit)
  | 0, _, _ => none
  | n + 1, σ, v1 => if 10 ≤ v1 then (K σ) else (gd (inb v1 10) (t_stripHere_29 K n (si σ 8017 (ix v1) 10) (v1 + 1)))
set_option maxHeartbeats 4000000 in
theorem wt_stripHere_29 {p : Program} {l : Launch} {e : Env} {s : State} {m : MethodId} {args : Array Value} {below : List Frame} {meth : Method} {c : Code} {g : gG} {A : Nat → Prop} {ad : Nat → Nat} {q : xR} (X : MX p s m args meth c cX4_stripHere 2 RX4 none g A) (had : tI_ ad) (hex : ∀ x ∈ c.exceptionTable.toList, False) {σr : cS} {o : Option Unit}   {K : cS → Option (cS × Option Unit)}
    (hK : ∀ (σ : cS) (H : Heap) (locs : List Loc) (ls : Array Slot), WB g A s.heap tIds ad (xE g ad q σ) H locs → lv_has ls 2 [] → K σ = some (σr, o) → W p l e (rm_ 5 124) s m args below meth c H locs 0 0 (QT below g tIds ad (xE g ad q σr) (fun _ : Unit => none) o A args s) (F0 m 52 ls [])) :
    ∀ (n : Nat) (σ : cS) (v1 : Int32) (H : Heap) (locs : List Loc) (ls : Array Slot), WB g A s.heap tIds ad (xE g ad q σ) H locs → lv_has ls 2 [(0, .ref (ad 997)), (1, .int v1)] → t_stripHere_29 K n σ v1 = some (σr, o) → W p l e (rm_ 5 124) s m args below meth c H locs 0 0 (QT below g tIds ad (xE g ad q σr) (fun _ : Unit => none) o A args s) (F0 m 29 ls []) := by
  have hx := X.1.1
  have hb := X.1.2.1
  intro n
  induction n with
  | zero =>
    intro σ v1 H locs ls hW hl hf
    rw [t_stripHere_29] at hf
    cases hf
  | succ n ih =>
    intro σ v1 H locs ls hW hl hf
    rw [t_stripHere_29] at hf
    refine lv_iload_n hx hb dX4_stripHere_29 rfl (lv_at hl 1 rfl) ?_
    refine lv_bipush (v := 10) hx hb dX4_stripHere_30 (by decide) ?_
    refine lv_icmp_ge (tgt := 52) hx hb dX4_stripHere_32 (by decide) (fun c_9 => ?_) (fun c_9 => ?_)
    · replace hf := ip hf c_9
      exact hK _ _ _ _ hW (lv_sub hl [] rfl) hf
    · replace hf := ine hf c_9
      refine lv_aload_n hx hb dX4_stripHere_35 rfl (lv_at hl 0 rfl) ?_
      refine tg_1 X hW tm_997 dX4_stripHere_36 ?_
      refine tgd_17 X hW tm_8999 dX4_stripHere_39 ?_
      refine lv_iload_n hx hb dX4_stripHere_42 rfl (lv_at hl 1 rfl) ?_
      refine lv_bipush (v := 10) hx hb dX4_stripHere_43 (by decide) ?_
      obtain ⟨h_10, hf⟩ := gd_e hf
      refine xs_8017 X hW tm_8017 h_10 dX4_stripHere_45 (fun H locs hW => ?_)
      refine lv_iinc (v := (v1 + 1)) (lv' := [(1, .int (v1 + 1)), (0, .ref (ad 997))]) hx hb dX4_stripHere_46 hl (k := 1) rfl (ii_v _ _ _ (by decide)) (by decide) rfl (fun ls hl => ?_)
      refine lv_goto (tgt := 29) hx hb dX4_stripHere_49 (by decide) ?_
      exact ih _ _ _ _ _ hW (lv_sub hl [1, 0] rfl) hf
noncomputable def t_stripHere (σ : cS) : Option (cS × Option Unit) :=
  ((t_number σ 2 10).bind fun (σ_3, o_4) => thr σ_3 o_4 fun r_2 => ((t_number (si σ_3 8999 0 r_2) 0 3).bind fun (σ_7, o_8) => thr σ_7 o_8 fun r_6 => t_stripHere_29  (fun σ_11 => (some (σ_11, some ()))) FU (si σ_7 8999 1 r_6) 0))
set_option maxHeartbeats 4000000 in
theorem wb_t_stripHere {p : Program} {l : Launch} {e : Env} {s : State} {m : MethodId} {args : Array Value} {below : List Frame} {meth : Method} {c : Code} {g : gG} {A : Nat → Prop} {ad : Nat → Nat} {q : xR} (X : MX p s m args meth c cX4_stripHere 2 RX4 none g A) (had : tI_ ad) (hex : ∀ x ∈ c.exceptionTable.toList, False) {σr : cS} {o : Option Unit} {σ : cS}  {H : Heap} {locs : List Loc} {ls : Array Slot} (hW : WB g A s.heap tIds ad (xE g ad q σ) H locs) (hl : lv_has ls 2 [(0, .ref (ad 997))]) (hf : t_stripHere σ = some (σr, o)) : W p l e (rm_ 5 124) s m args below meth c H locs 0 0 (QT below g tIds ad (xE g ad q σr) (fun _ : Unit => none) o A args s) (F0 m 0 ls []) := by
  have hx := X.1.1
  have hb := X.1.2.1
  unfold t_stripHere at hf
  refine lv_aload_n hx hb dX4_stripHere_0 rfl (lv_at hl 0 rfl) ?_
  refine tg_1 X hW tm_997 dX4_stripHere_1 ?_
  refine lv_aload_n hx hb dX4_stripHere_4 rfl (lv_at hl 0 rfl) ?_
  refine lv_iconst (v := 2) hx hb dX4_stripHere_5 (by decide) ?_
  refine lv_bipush (v := 10) hx hb dX4_stripHere_6 (by decide) ?_
  obtain ⟨⟨σ_3, o_4⟩, h_1, hf⟩ := bd_e hf
  refine kt_number X hW had h_1 (by decide) hl (Nat.le_of_ble_eq_true rfl) dX4_stripHere_8 (fun ho H locs q9 ce hW hc1 hc2 hc3 => by subst ho; exact t_out X hex hW hf hc1 hc2 hc3) (fun r_2 ho H locs hW => ?_)
  subst ho
  replace hf := thr_s hf
  refine tpd_0 X hW tm_8999 dX4_stripHere_11 (fun H locs hW => ?_)
  refine lv_aload_n hx hb dX4_stripHere_14 rfl (lv_at hl 0 rfl) ?_
  refine tg_1 X hW tm_997 dX4_stripHere_15 ?_
  refine lv_aload_n hx hb dX4_stripHere_18 rfl (lv_at hl 0 rfl) ?_
  refine lv_iconst (v := 0) hx hb dX4_stripHere_19 (by decide) ?_
  refine lv_iconst (v := 3) hx hb dX4_stripHere_20 (by decide) ?_
  obtain ⟨⟨σ_7, o_8⟩, h_5, hf⟩ := bd_e hf
  refine kt_number X hW had h_5 (by decide) hl (Nat.le_of_ble_eq_true rfl) dX4_stripHere_21 (fun ho H locs q9 ce hW hc1 hc2 hc3 => by subst ho; exact t_out X hex hW hf hc1 hc2 hc3) (fun r_6 ho H locs hW => ?_)
  subst ho
  replace hf := thr_s hf
  refine tpd_1 X hW tm_8999 dX4_stripHere_24 (fun H locs hW => ?_)
  refine lv_iconst (v := 0) hx hb dX4_stripHere_27 (by decide) ?_
  refine lv_istore_n (lv' := [(1, .int 0), (0, .ref (ad 997))]) hx hb dX4_stripHere_28 rfl hl (by decide) rfl (fun ls hl => ?_)
  refine wt_stripHere_29 X had hex (fun σ_11 H locs ls hW hl hf => ?_) _ _ _ _ _ _ hW (lv_sub hl [1, 0] rfl) hf
  exact t_vret X hW hf dX4_stripHere_52
theorem w_t_stripHere (l : Launch) {g : gG} {ad : Nat → Nat} {q : xR} (had : tI_ ad) {σr : cS} {o : Option Unit} {σ : cS}  (hf : t_stripHere σ = some (σr, o)) : MT l yX4_stripHere cX4_stripHere 2 none 5 124 g tIds ad (xE g ad q σ) (xE g ad q σr) [.ref (ad 997)] (fun _ : Unit => none) o :=
  MT.of (by decide) tIds_nd had (Nat.le_of_ble_eq_true rfl) (fun p e s m below meth c A ls X hex hW hl => wb_t_stripHere X had hex hW hl hf)
theorem kt_stripHere {p : Program} {l : Launch} {e : Env} {R : Room} {s : State} {m : MethodId} {args : Array Value} {below : List Frame} {meth : Method} {c : Code} {H : Heap} {locs : List Loc} {Q : State → Prop} {cc : ByteArray} {nL : Nat} {ret : Option FieldType} {g : gG} {A : Nat → Prop} {ad : Nat → Nat} {q : xR} {pc : Nat} {ls : Array Slot} {rest : List Value} {lv : List (Nat × Value)} {σr : cS} {o : Option Unit} {σ : cS} (X : MX p s m args meth c cc nL RX4 ret g A) (hW : WB g A s.heap tIds ad (xE g ad q σ) H locs) (had : tI_ ad)  (hf : t_stripHere σ = some (σr, o)) (hR : 6 ≤ R.frames ∧ 145 ≤ R.locals) (hl : lv_has ls nL lv) (hcat : (rest.map fun v => v.category).sum ≤ 8) (hdg : decode cc pc = .ok (.invokevirtual 118, 3)) (kx : o = none → ∀ (H1 : Heap) (l1 : List Loc) (q9 : Addr) (ce : Cell), WB g A s.heap tIds ad (xE g ad q σr) H1 l1 → H1[q9]? = some ce → ce.vm = .none → s.vm.findClass RX2 = some ce.cls → vx_W p l e R s m args below meth c H1 l1 0 0 Q (F0 m pc ls rest) q9) (kk : ∀ r : Unit, o = some r → ∀ (H1 : Heap) (l1 : List Loc), WB g A s.heap tIds ad (xE g ad q σr) H1 l1 → W p l e R s m args below meth c H1 l1 0 0 Q (F0 m (pc + 3) ls (rest))) : W p l e R s m args below meth c H locs 0 0 Q (F0 m pc ls (.ref (ad 997) :: rest)) :=
  t_callV X hW Sub.all (w_t_stripHere l had hf) (lw_V q587 q589 qs9 q127 q590) ⟨rfl, by decide, by decide, by decide +kernel⟩ tm_997 rfl rfl (n := 0) hR hl rfl rfl hcat hdg kx kk
-- mileHere
noncomputable def t_mileHere (σ : cS) : Option (cS × Option Int32) :=
  ((t_number σ 0 ((σ.1 8999 0) - 1)).bind fun (σ_3, o_4) => thr σ_3 o_4 fun r_2 => some (σ_3, some r_2))
set_option maxHeartbeats 4000000 in
theorem wb_t_mileHere {p : Program} {l : Launch} {e : Env} {s : State} {m : MethodId} {args : Array Value} {below : List Frame} {meth : Method} {c : Code} {g : gG} {A : Nat → Prop} {ad : Nat → Nat} {q : xR} (X : MX p s m args meth c cX4_mileHere 1 RX4 (some .int) g A) (had : tI_ ad) (hex : ∀ x ∈ c.exceptionTable.toList, False) {σr : cS} {o : Option Int32} {σ : cS}  {H : Heap} {locs : List Loc} {ls : Array Slot} (hW : WB g A s.heap tIds ad (xE g ad q σ) H locs) (hl : lv_has ls 1 [(0, .ref (ad 997))]) (hf : t_mileHere σ = some (σr, o)) : W p l e (rm_ 5 124) s m args below meth c H locs 0 0 (QT below g tIds ad (xE g ad q σr) (fun r : Int32 => some (.int r)) o A args s) (F0 m 0 ls []) := by
  have hx := X.1.1
  have hb := X.1.2.1
  unfold t_mileHere at hf
  refine lv_aload_n hx hb dX4_mileHere_0 rfl (lv_at hl 0 rfl) ?_
  refine lv_iconst (v := 0) hx hb dX4_mileHere_1 (by decide) ?_
  refine lv_aload_n hx hb dX4_mileHere_2 rfl (lv_at hl 0 rfl) ?_
  refine tg_1 X hW tm_997 dX4_mileHere_3 ?_
  refine tgd_0 X hW tm_8999 dX4_mileHere_6 ?_
  refine lv_iconst (v := 1) hx hb dX4_mileHere_9 (by decide) ?_
  refine lv_isub hx hb dX4_mileHere_10 ?_
  obtain ⟨⟨σ_3, o_4⟩, h_1, hf⟩ := bd_e hf
  refine kt_number X hW had h_1 (by decide) hl (Nat.le_of_ble_eq_true rfl) dX4_mileHere_11 (fun ho H locs q9 ce hW hc1 hc2 hc3 => by subst ho; exact t_out X hex hW hf hc1 hc2 hc3) (fun r_2 ho H locs hW => ?_)
  subst ho
  replace hf := thr_s hf
  exact t_iret X hW hf dX4_mileHere_14
theorem w_t_mileHere (l : Launch) {g : gG} {ad : Nat → Nat} {q : xR} (had : tI_ ad) {σr : cS} {o : Option Int32} {σ : cS}  (hf : t_mileHere σ = some (σr, o)) : MT l yX4_mileHere cX4_mileHere 1 (some .int) 5 124 g tIds ad (xE g ad q σ) (xE g ad q σr) [.ref (ad 997)] (fun r : Int32 => some (.int r)) o :=
  MT.of (by decide) tIds_nd had (Nat.le_of_ble_eq_true rfl) (fun p e s m below meth c A ls X hex hW hl => wb_t_mileHere X had hex hW hl hf)
theorem kt_mileHere {p : Program} {l : Launch} {e : Env} {R : Room} {s : State} {m : MethodId} {args : Array Value} {below : List Frame} {meth : Method} {c : Code} {H : Heap} {locs : List Loc} {Q : State → Prop} {cc : ByteArray} {nL : Nat} {ret : Option FieldType} {g : gG} {A : Nat → Prop} {ad : Nat → Nat} {q : xR} {pc : Nat} {ls : Array Slot} {rest : List Value} {lv : List (Nat × Value)} {σr : cS} {o : Option Int32} {σ : cS} (X : MX p s m args meth c cc nL RX4 ret g A) (hW : WB g A s.heap tIds ad (xE g ad q σ) H locs) (had : tI_ ad)  (hf : t_mileHere σ = some (σr, o)) (hR : 6 ≤ R.frames ∧ 144 ≤ R.locals) (hl : lv_has ls nL lv) (hcat : (rest.map fun v => v.category).sum ≤ 8) (hdg : decode cc pc = .ok (.invokevirtual 121, 3)) (kx : o = none → ∀ (H1 : Heap) (l1 : List Loc) (q9 : Addr) (ce : Cell), WB g A s.heap tIds ad (xE g ad q σr) H1 l1 → H1[q9]? = some ce → ce.vm = .none → s.vm.findClass RX2 = some ce.cls → vx_W p l e R s m args below meth c H1 l1 0 0 Q (F0 m pc ls rest) q9) (kk : ∀ r : Int32, o = some r → ∀ (H1 : Heap) (l1 : List Loc), WB g A s.heap tIds ad (xE g ad q σr) H1 l1 → W p l e R s m args below meth c H1 l1 0 0 Q (F0 m (pc + 3) ls (.int r :: rest))) : W p l e R s m args below meth c H locs 0 0 Q (F0 m pc ls (.ref (ad 997) :: rest)) :=
  t_callV X hW Sub.all (w_t_mileHere l had hf) (lw_V q602 q604 qs12 q127 q605) ⟨rfl, by decide, by decide, by decide +kernel⟩ tm_997 rfl rfl (n := 0) hR hl rfl rfl hcat hdg kx kk
-- warmHere
noncomputable def t_warmHere_27 (v2 : Int32) (v3 : Int32) (K : cS → Option (cS × Option Unit)) : Nat → cS → Int32 → Option (cS × Option Unit)
  | 0, _, _ => none
  | n + 1, σ, v4 => if v2 < v4 then (K σ) else (gd (inb v4 100) (t_warmHere_27 v2 v3 K n (si σ 8010 (ix v4) v3) (v4 + 1)))
set_option maxHeartbeats 4000000 in
theorem wt_warmHere_27 {p : Program} {l : Launch} {e : Env} {s : State} {m : MethodId} {args : Array Value} {below : List Frame} {meth : Method} {c : Code} {g : gG} {A : Nat → Prop} {ad : Nat → Nat} {q : xR} (X : MX p s m args meth c cX4_warmHere 5 RX4 none g A) (had : tI_ ad) (hex : ∀ x ∈ c.exceptionTable.toList, False) {σr : cS} {o : Option Unit} {v2 : Int32} {v3 : Int32}  {K : cS → Option (cS × Option Unit)}
    (hK : ∀ (σ : cS) (H : Heap) (locs : List Loc) (ls : Array Slot), WB g A s.heap tIds ad (xE g ad q σ) H locs → lv_has ls 5 [] → K σ = some (σr, o) → W p l e (rm_ 5 124) s m args below meth c H locs 0 0 (QT below g tIds ad (xE g ad q σr) (fun _ : Unit => none) o A args s) (F0 m 50 ls [])) :
    ∀ (n : Nat) (σ : cS) (v4 : Int32) (H : Heap) (locs : List Loc) (ls : Array Slot), WB g A s.heap tIds ad (xE g ad q σ) H locs → lv_has ls 5 [(0, .ref (ad 997)), (2, .int v2), (3, .int v3), (4, .int v4)] → t_warmHere_27 v2 v3 K n σ v4 = some (σr, o) → W p l e (rm_ 5 124) s m args below meth c H locs 0 0 (QT below g tIds ad (xE g ad q σr) (fun _ : Unit => none) o A args s) (F0 m 27 ls []) := by
  have hx := X.1.1
  have hb := X.1.2.1
  intro n
  induction n with
  | zero =>
    intro σ v4 H locs ls hW hl hf
    rw [t_warmHere_27] at hf
    cases hf
  | succ n ih =>
    intro σ v4 H locs ls hW hl hf
    rw [t_warmHere_27] at hf
    refine lv_iload hx hb dX4_warmHere_27 (lv_at hl 3 rfl) ?_
    refine lv_iload_n hx hb dX4_warmHere_29 rfl (lv_at hl 1 rfl) ?_
    refine lv_icmp_gt (tgt := 50) hx hb dX4_warmHere_30 (by decide) (fun c_13 => ?_) (fun c_13 => ?_)
    · replace hf := ip hf c_13
      exact hK _ _ _ _ hW (lv_sub hl [] rfl) hf
    · replace hf := ine hf c_13
      refine lv_aload_n hx hb dX4_warmHere_33 rfl (lv_at hl 0 rfl) ?_
      refine tg_1 X hW tm_997 dX4_warmHere_34 ?_
      refine tgd_10 X hW tm_8999 dX4_warmHere_37 ?_
      refine lv_iload hx hb dX4_warmHere_40 (lv_at hl 3 rfl) ?_
      refine lv_iload_n hx hb dX4_warmHere_42 rfl (lv_at hl 2 rfl) ?_
      obtain ⟨h_14, hf⟩ := gd_e hf
      refine xs_8010 X hW tm_8010 h_14 dX4_warmHere_43 (fun H locs hW => ?_)
      refine lv_iinc (v := (v4 + 1)) (lv' := [(4, .int (v4 + 1)), (0, .ref (ad 997)), (2, .int v2), (3, .int v3)]) hx hb dX4_warmHere_44 hl (k := 3) rfl (ii_v _ _ _ (by decide)) (by decide) rfl (fun ls hl => ?_)
      refine lv_goto (tgt := 27) hx hb dX4_warmHere_47 (by decide) ?_
      exact ih _ _ _ _ _ hW (lv_sub hl [1, 2, 3, 0] rfl) hf
noncomputable def t_warmHere (σ : cS) : Option (cS × Option Unit) :=
  ((t_number σ 0 99).bind fun (σ_3, o_4) => thr σ_3 o_4 fun r_2 => ((t_number σ_3 r_2 99).bind fun (σ_7, o_8) => thr σ_7 o_8 fun r_6 => ((t_number σ_7 1 9).bind fun (σ_11, o_12) => thr σ_11 o_12 fun r_10 => t_warmHere_27 r_6 r_10 (fun σ_15 => (some (σ_15, some ()))) FU σ_11 r_2)))
set_option maxHeartbeats 4000000 in
theorem wb_t_warmHere {p : Program} {l : Launch} {e : Env} {s : State} {m : MethodId} {args : Array Value} {below : List Frame} {meth : Method} {c : Code} {g : gG} {A : Nat → Prop} {ad : Nat → Nat} {q : xR} (X : MX p s m args meth c cX4_warmHere 5 RX4 none g A) (had : tI_ ad) (hex : ∀ x ∈ c.exceptionTable.toList, False) {σr : cS} {o : Option Unit} {σ : cS}  {H : Heap} {locs : List Loc} {ls : Array Slot} (hW : WB g A s.heap tIds ad (xE g ad q σ) H locs) (hl : lv_has ls 5 [(0, .ref (ad 997))]) (hf : t_warmHere σ = some (σr, o)) : W p l e (rm_ 5 124) s m args below meth c H locs 0 0 (QT below g tIds ad (xE g ad q σr) (fun _ : Unit => none) o A args s) (F0 m 0 ls []) := by
  have hx := X.1.1
  have hb := X.1.2.1
  unfold t_warmHere at hf
  refine lv_aload_n hx hb dX4_warmHere_0 rfl (lv_at hl 0 rfl) ?_
  refine lv_iconst (v := 0) hx hb dX4_warmHere_1 (by decide) ?_
  refine lv_bipush (v := 99) hx hb dX4_warmHere_2 (by decide) ?_
  obtain ⟨⟨σ_3, o_4⟩, h_1, hf⟩ := bd_e hf
  refine kt_number X hW had h_1 (by decide) hl (Nat.le_of_ble_eq_true rfl) dX4_warmHere_4 (fun ho H locs q9 ce hW hc1 hc2 hc3 => by subst ho; exact t_out X hex hW hf hc1 hc2 hc3) (fun r_2 ho H locs hW => ?_)
  subst ho
  replace hf := thr_s hf
  refine lv_istore_n (lv' := [(1, .int r_2), (0, .ref (ad 997))]) hx hb dX4_warmHere_7 rfl hl (by decide) rfl (fun ls hl => ?_)
  refine lv_aload_n hx hb dX4_warmHere_8 rfl (lv_at hl 1 rfl) ?_
  refine lv_iload_n hx hb dX4_warmHere_9 rfl (lv_at hl 0 rfl) ?_
  refine lv_bipush (v := 99) hx hb dX4_warmHere_10 (by decide) ?_
  obtain ⟨⟨σ_7, o_8⟩, h_5, hf⟩ := bd_e hf
  refine kt_number X hW had h_5 (by decide) hl (Nat.le_of_ble_eq_true rfl) dX4_warmHere_12 (fun ho H locs q9 ce hW hc1 hc2 hc3 => by subst ho; exact t_out X hex hW hf hc1 hc2 hc3) (fun r_6 ho H locs hW => ?_)
  subst ho
  replace hf := thr_s hf
  refine lv_istore_n (lv' := [(2, .int r_6), (1, .int r_2), (0, .ref (ad 997))]) hx hb dX4_warmHere_15 rfl hl (by decide) rfl (fun ls hl => ?_)
  refine lv_aload_n hx hb dX4_warmHere_16 rfl (lv_at hl 2 rfl) ?_
  refine lv_iconst (v := 1) hx hb dX4_warmHere_17 (by decide) ?_
  refine lv_bipush (v := 9) hx hb dX4_warmHere_18 (by decide) ?_
  obtain ⟨⟨σ_11, o_12⟩, h_9, hf⟩ := bd_e hf
  refine kt_number X hW had h_9 (by decide) hl (Nat.le_of_ble_eq_true rfl) dX4_warmHere_20 (fun ho H locs q9 ce hW hc1 hc2 hc3 => by subst ho; exact t_out X hex hW hf hc1 hc2 hc3) (fun r_10 ho H locs hW => ?_)
  subst ho
  replace hf := thr_s hf
  refine lv_istore_n (lv' := [(3, .int r_10), (2, .int r_6), (1, .int r_2), (0, .ref (ad 997))]) hx hb dX4_warmHere_23 rfl hl (by decide) rfl (fun ls hl => ?_)
  refine lv_iload_n hx hb dX4_warmHere_24 rfl (lv_at hl 2 rfl) ?_
  refine lv_istore (lv' := [(4, .int r_2), (3, .int r_10), (2, .int r_6), (1, .int r_2), (0, .ref (ad 997))]) hx hb dX4_warmHere_25 hl (by decide) rfl (fun ls hl => ?_)
  refine wt_warmHere_27 X had hex (fun σ_15 H locs ls hW hl hf => ?_) _ _ _ _ _ _ hW (lv_sub hl [4, 2, 1, 0] rfl) hf
  exact t_vret X hW hf dX4_warmHere_50
theorem w_t_warmHere (l : Launch) {g : gG} {ad : Nat → Nat} {q : xR} (had : tI_ ad) {σr : cS} {o : Option Unit} {σ : cS}  (hf : t_warmHere σ = some (σr, o)) : MT l yX4_warmHere cX4_warmHere 5 none 5 124 g tIds ad (xE g ad q σ) (xE g ad q σr) [.ref (ad 997)] (fun _ : Unit => none) o :=
  MT.of (by decide) tIds_nd had (Nat.le_of_ble_eq_true rfl) (fun p e s m below meth c A ls X hex hW hl => wb_t_warmHere X had hex hW hl hf)
theorem kt_warmHere {p : Program} {l : Launch} {e : Env} {R : Room} {s : State} {m : MethodId} {args : Array Value} {below : List Frame} {meth : Method} {c : Code} {H : Heap} {locs : List Loc} {Q : State → Prop} {cc : ByteArray} {nL : Nat} {ret : Option FieldType} {g : gG} {A : Nat → Prop} {ad : Nat → Nat} {q : xR} {pc : Nat} {ls : Array Slot} {rest : List Value} {lv : List (Nat × Value)} {σr : cS} {o : Option Unit} {σ : cS} (X : MX p s m args meth c cc nL RX4 ret g A) (hW : WB g A s.heap tIds ad (xE g ad q σ) H locs) (had : tI_ ad)  (hf : t_warmHere σ = some (σr, o)) (hR : 6 ≤ R.frames ∧ 148 ≤ R.locals) (hl : lv_has ls nL lv) (hcat : (rest.map fun v => v.category).sum ≤ 8) (hdg : decode cc pc = .ok (.invokevirtual 130, 3)) (kx : o = none → ∀ (H1 : Heap) (l1 : List Loc) (q9 : Addr) (ce : Cell), WB g A s.heap tIds ad (xE g ad q σr) H1 l1 → H1[q9]? = some ce → ce.vm = .none → s.vm.findClass RX2 = some ce.cls → vx_W p l e R s m args below meth c H1 l1 0 0 Q (F0 m pc ls rest) q9) (kk : ∀ r : Unit, o = some r → ∀ (H1 : Heap) (l1 : List Loc), WB g A s.heap tIds ad (xE g ad q σr) H1 l1 → W p l e R s m args below meth c H1 l1 0 0 Q (F0 m (pc + 3) ls (rest))) : W p l e R s m args below meth c H locs 0 0 Q (F0 m pc ls (.ref (ad 997) :: rest)) :=
  t_callV X hW Sub.all (w_t_warmHere l had hf) (lw_V q606 q608 qs13 q127 q609) ⟨rfl, by decide, by decide, by decide +kernel⟩ tm_997 rfl rfl (n := 0) hR hl rfl rfl hcat hdg kx kk
-- line
noncomputable def t_line (σ : cS) (v1 : Int32) : Option (cS × Option Unit) :=
  if v1 = 0 then (((t_stripHere σ).bind fun (σ_4, o_5) => thr σ_4 o_5 fun _ => some (σ_4, some ()))) else (if v1 = 1 then (((t_mileHere σ).bind fun (σ_9, o_10) => thr σ_9 o_10 fun r_8 => ((t_number σ_9 0 40).bind fun (σ_13, o_14) => thr σ_13 o_14 fun r_12 => gd (inb r_8 10) (((t_number (si σ_13 8016 (ix r_8) (r_12 - 20)) 0 99).bind fun (σ_18, o_19) => thr σ_18 o_19 fun r_17 => ((t_number (si σ_18 8017 (ix r_8) r_17) 0 9).bind fun (σ_22, o_23) => thr σ_22 o_23 fun r_21 => some ((si σ_22 8018 (ix r_8) r_21), some ()))))))) else (if v1 = 2 then (((t_warmHere σ).bind fun (σ_27, o_28) => thr σ_27 o_28 fun _ => some (σ_27, some ()))) else (if v1 = 3 then (((t_mileHere σ).bind fun (σ_32, o_33) => thr σ_32 o_33 fun r_31 => some ((si σ_32 8999 7 ((σ.1 8999 7) ||| (1 <<< (r_31 &&& 31)))), some ()))) else (if v1 = 4 then (((t_mileHere σ).bind fun (σ_37, o_38) => thr σ_37 o_38 fun r_36 => gd (inb (σ.1 8999 2) 8) (((t_number (si σ_37 8011 (ix (σ.1 8999 2)) r_36) 0 40).bind fun (σ_42, o_43) => thr σ_42 o_43 fun r_41 => ((t_number (si σ_42 8012 (ix (σ.1 8999 2)) (r_41 - 20)) 0 1).bind fun (σ_46, o_47) => thr σ_46 o_47 fun r_45 => nmb (si σ_46 8013 (ix (σ.1 8999 2)) r_45) fun σ_48 => (some ((si σ_48 8999 2 (((si σ_46 8013 (ix (σ.1 8999 2)) r_45).1 8999 2) + 1)), some ()))))))) else (((t_number σ 0 ((σ.1 8999 2) - 1)).bind fun (σ_52, o_53) => thr σ_52 o_53 fun r_51 => gd (inb (2 * (σ.1 8999 3)) 16) (((t_number (si σ_52 8014 (ix (2 * (σ.1 8999 3))) r_51) 0 1).bind fun (σ_57, o_58) => thr σ_57 o_58 fun r_56 => gd (inb ((2 * (σ.1 8999 3)) + 1) 16) (nmb (si σ_57 8014 (ix ((2 * (σ.1 8999 3)) + 1)) r_56) fun σ_60 => (some ((si σ_60 8999 3 (((si σ_57 8014 (ix ((2 * (σ.1 8999 3)) + 1)) r_56).1 8999 3) + 1)), some ())))))))))))
set_option maxHeartbeats 4000000 in
theorem wb_t_line {p : Program} {l : Launch} {e : Env} {s : State} {m : MethodId} {args : Array Value} {below : List Frame} {meth : Method} {c : Code} {g : gG} {A : Nat → Prop} {ad : Nat → Nat} {q : xR} (X : MX p s m args meth c cX4_line 3 RX4 none g A) (had : tI_ ad) (hex : ∀ x ∈ c.exceptionTable.toList, False) {σr : cS} {o : Option Unit} {σ : cS} {v1 : Int32}  {H : Heap} {locs : List Loc} {ls : Array Slot} (hW : WB g A s.heap tIds ad (xE g ad q σ) H locs) (hl : lv_has ls 3 [(0, .ref (ad 997)), (1, .int v1)]) (hf : t_line σ v1 = some (σr, o)) : W p l e (rm_ 6 148) s m args below meth c H locs 0 0 (QT below g tIds ad (xE g ad q σr) (fun _ : Unit => none) o A args s) (F0 m 0 ls []) := by
  have hx := X.1.1
  have hb := X.1.2.1
  unfold t_line at hf
  refine lv_iload_n hx hb dX4_line_0 rfl (lv_at hl 1 rfl) ?_
  by_cases c_1 : v1 = 0
  · replace hf := ip hf c_1
    refine r_tabIn (tgt := 36) (off := 35) (k := 0) hx hb c_1 dX4_line_1 (by decide) (by decide) rfl (by decide) ?_
    refine lv_aload_n hx hb dX4_line_36 rfl (lv_at hl 0 rfl) ?_
    obtain ⟨⟨σ_4, o_5⟩, h_2, hf⟩ := bd_e hf
    refine kt_stripHere X hW had h_2 (by decide) hl (Nat.le_of_ble_eq_true rfl) dX4_line_37 (fun ho H locs q9 ce hW hc1 hc2 hc3 => by subst ho; exact t_out X hex hW hf hc1 hc2 hc3) (fun r_3 ho H locs hW => ?_)
    subst ho
    replace hf := thr_s hf
    exact t_vret X hW hf dX4_line_40
  · replace hf := ine hf c_1
    by_cases c_6 : v1 = 1
    · replace hf := ip hf c_6
      refine r_tabIn (tgt := 41) (off := 40) (k := 1) hx hb c_6 dX4_line_1 (by decide) (by decide) rfl (by decide) ?_
      refine lv_aload_n hx hb dX4_line_41 rfl (lv_at hl 0 rfl) ?_
      obtain ⟨⟨σ_9, o_10⟩, h_7, hf⟩ := bd_e hf
      refine kt_mileHere X hW had h_7 (by decide) hl (Nat.le_of_ble_eq_true rfl) dX4_line_42 (fun ho H locs q9 ce hW hc1 hc2 hc3 => by subst ho; exact t_out X hex hW hf hc1 hc2 hc3) (fun r_8 ho H locs hW => ?_)
      subst ho
      replace hf := thr_s hf
      refine lv_istore_n (lv' := [(2, .int r_8), (0, .ref (ad 997)), (1, .int v1)]) hx hb dX4_line_45 rfl hl (by decide) rfl (fun ls hl => ?_)
      refine lv_aload_n hx hb dX4_line_46 rfl (lv_at hl 1 rfl) ?_
      refine tg_1 X hW tm_997 dX4_line_47 ?_
      refine tgd_16 X hW tm_8999 dX4_line_50 ?_
      refine lv_iload_n hx hb dX4_line_53 rfl (lv_at hl 0 rfl) ?_
      refine lv_aload_n hx hb dX4_line_54 rfl (lv_at hl 1 rfl) ?_
      refine lv_iconst (v := 0) hx hb dX4_line_55 (by decide) ?_
      refine lv_bipush (v := 40) hx hb dX4_line_56 (by decide) ?_
      obtain ⟨⟨σ_13, o_14⟩, h_11, hf⟩ := bd_e hf
      refine kt_number X hW had h_11 (by decide) hl (Nat.le_of_ble_eq_true rfl) dX4_line_58 (fun ho H locs q9 ce hW hc1 hc2 hc3 => by subst ho; exact t_out X hex hW hf hc1 hc2 hc3) (fun r_12 ho H locs hW => ?_)
      subst ho
      replace hf := thr_s hf
      refine lv_bipush (v := 20) hx hb dX4_line_61 (by decide) ?_
      refine lv_isub hx hb dX4_line_63 ?_
      obtain ⟨h_15, hf⟩ := gd_e hf
      refine xs_8016 X hW tm_8016 h_15 dX4_line_64 (fun H locs hW => ?_)
      refine lv_aload_n hx hb dX4_line_65 rfl (lv_at hl 1 rfl) ?_
      refine tg_1 X hW tm_997 dX4_line_66 ?_
      refine tgd_17 X hW tm_8999 dX4_line_69 ?_
      refine lv_iload_n hx hb dX4_line_72 rfl (lv_at hl 0 rfl) ?_
      refine lv_aload_n hx hb dX4_line_73 rfl (lv_at hl 1 rfl) ?_
      refine lv_iconst (v := 0) hx hb dX4_line_74 (by decide) ?_
      refine lv_bipush (v := 99) hx hb dX4_line_75 (by decide) ?_
      obtain ⟨⟨σ_18, o_19⟩, h_16, hf⟩ := bd_e hf
      refine kt_number X hW had h_16 (by decide) hl (Nat.le_of_ble_eq_true rfl) dX4_line_77 (fun ho H locs q9 ce hW hc1 hc2 hc3 => by subst ho; exact t_out X hex hW hf hc1 hc2 hc3) (fun r_17 ho H locs hW => ?_)
      subst ho
      replace hf := thr_s hf
      refine xs_8017 X hW tm_8017 h_15 dX4_line_80 (fun H locs hW => ?_)
      refine lv_aload_n hx hb dX4_line_81 rfl (lv_at hl 1 rfl) ?_
      refine tg_1 X hW tm_997 dX4_line_82 ?_
      refine tgd_18 X hW tm_8999 dX4_line_85 ?_
      refine lv_iload_n hx hb dX4_line_88 rfl (lv_at hl 0 rfl) ?_
      refine lv_aload_n hx hb dX4_line_89 rfl (lv_at hl 1 rfl) ?_
      refine lv_iconst (v := 0) hx hb dX4_line_90 (by decide) ?_
      refine lv_bipush (v := 9) hx hb dX4_line_91 (by decide) ?_
      obtain ⟨⟨σ_22, o_23⟩, h_20, hf⟩ := bd_e hf
      refine kt_number X hW had h_20 (by decide) hl (Nat.le_of_ble_eq_true rfl) dX4_line_93 (fun ho H locs q9 ce hW hc1 hc2 hc3 => by subst ho; exact t_out X hex hW hf hc1 hc2 hc3) (fun r_21 ho H locs hW => ?_)
      subst ho
      replace hf := thr_s hf
      refine xs_8018 X hW tm_8018 h_15 dX4_line_96 (fun H locs hW => ?_)
      exact t_vret X hW hf dX4_line_97
    · replace hf := ine hf c_6
      by_cases c_24 : v1 = 2
      · replace hf := ip hf c_24
        refine r_tabIn (tgt := 98) (off := 97) (k := 2) hx hb c_24 dX4_line_1 (by decide) (by decide) rfl (by decide) ?_
        refine lv_aload_n hx hb dX4_line_98 rfl (lv_at hl 0 rfl) ?_
        obtain ⟨⟨σ_27, o_28⟩, h_25, hf⟩ := bd_e hf
        refine kt_warmHere X hW had h_25 (by decide) hl (Nat.le_of_ble_eq_true rfl) dX4_line_99 (fun ho H locs q9 ce hW hc1 hc2 hc3 => by subst ho; exact t_out X hex hW hf hc1 hc2 hc3) (fun r_26 ho H locs hW => ?_)
        subst ho
        replace hf := thr_s hf
        exact t_vret X hW hf dX4_line_102
      · replace hf := ine hf c_24
        by_cases c_29 : v1 = 3
        · replace hf := ip hf c_29
          refine r_tabIn (tgt := 103) (off := 102) (k := 3) hx hb c_29 dX4_line_1 (by decide) (by decide) rfl (by decide) ?_
          refine lv_aload_n hx hb dX4_line_103 rfl (lv_at hl 0 rfl) ?_
          refine tg_1 X hW tm_997 dX4_line_104 ?_
          refine lv_dup hx hb dX4_line_107 rfl ?_
          refine tgd_7 X hW tm_8999 dX4_line_108 ?_
          refine lv_iconst (v := 1) hx hb dX4_line_111 (by decide) ?_
          refine lv_aload_n hx hb dX4_line_112 rfl (lv_at hl 0 rfl) ?_
          obtain ⟨⟨σ_32, o_33⟩, h_30, hf⟩ := bd_e hf
          refine kt_mileHere X hW had h_30 (by decide) hl (Nat.le_of_ble_eq_true rfl) dX4_line_113 (fun ho H locs q9 ce hW hc1 hc2 hc3 => by subst ho; exact t_out X hex hW hf hc1 hc2 hc3) (fun r_31 ho H locs hW => ?_)
          subst ho
          replace hf := thr_s hf
          refine lv_ishl hx hb dX4_line_116 ?_
          refine lv_ior hx hb dX4_line_117 ?_
          refine tpd_7 X hW tm_8999 dX4_line_118 (fun H locs hW => ?_)
          exact t_vret X hW hf dX4_line_121
        · replace hf := ine hf c_29
          by_cases c_34 : v1 = 4
          · replace hf := ip hf c_34
            refine r_tabIn (tgt := 122) (off := 121) (k := 4) hx hb c_34 dX4_line_1 (by decide) (by decide) rfl (by decide) ?_
            refine lv_aload_n hx hb dX4_line_122 rfl (lv_at hl 0 rfl) ?_
            refine tg_1 X hW tm_997 dX4_line_123 ?_
            refine tgd_2 X hW tm_8999 dX4_line_126 ?_
            refine lv_istore_n (lv' := [(2, .int (σ.1 8999 2)), (0, .ref (ad 997)), (1, .int v1)]) hx hb dX4_line_129 rfl hl (by decide) rfl (fun ls hl => ?_)
            refine lv_aload_n hx hb dX4_line_130 rfl (lv_at hl 1 rfl) ?_
            refine tg_1 X hW tm_997 dX4_line_131 ?_
            refine tgd_11 X hW tm_8999 dX4_line_134 ?_
            refine lv_iload_n hx hb dX4_line_137 rfl (lv_at hl 0 rfl) ?_
            refine lv_aload_n hx hb dX4_line_138 rfl (lv_at hl 1 rfl) ?_
            obtain ⟨⟨σ_37, o_38⟩, h_35, hf⟩ := bd_e hf
            refine kt_mileHere X hW had h_35 (by decide) hl (Nat.le_of_ble_eq_true rfl) dX4_line_139 (fun ho H locs q9 ce hW hc1 hc2 hc3 => by subst ho; exact t_out X hex hW hf hc1 hc2 hc3) (fun r_36 ho H locs hW => ?_)
            subst ho
            replace hf := thr_s hf
            obtain ⟨h_39, hf⟩ := gd_e hf
            refine xs_8011 X hW tm_8011 h_39 dX4_line_142 (fun H locs hW => ?_)
            refine lv_aload_n hx hb dX4_line_143 rfl (lv_at hl 1 rfl) ?_
            refine tg_1 X hW tm_997 dX4_line_144 ?_
            refine tgd_12 X hW tm_8999 dX4_line_147 ?_
            refine lv_iload_n hx hb dX4_line_150 rfl (lv_at hl 0 rfl) ?_
            refine lv_aload_n hx hb dX4_line_151 rfl (lv_at hl 1 rfl) ?_
            refine lv_iconst (v := 0) hx hb dX4_line_152 (by decide) ?_
            refine lv_bipush (v := 40) hx hb dX4_line_153 (by decide) ?_
            obtain ⟨⟨σ_42, o_43⟩, h_40, hf⟩ := bd_e hf
            refine kt_number X hW had h_40 (by decide) hl (Nat.le_of_ble_eq_true rfl) dX4_line_155 (fun ho H locs q9 ce hW hc1 hc2 hc3 => by subst ho; exact t_out X hex hW hf hc1 hc2 hc3) (fun r_41 ho H locs hW => ?_)
            subst ho
            replace hf := thr_s hf
            refine lv_bipush (v := 20) hx hb dX4_line_158 (by decide) ?_
            refine lv_isub hx hb dX4_line_160 ?_
            refine xs_8012 X hW tm_8012 h_39 dX4_line_161 (fun H locs hW => ?_)
            refine lv_aload_n hx hb dX4_line_162 rfl (lv_at hl 1 rfl) ?_
            refine tg_1 X hW tm_997 dX4_line_163 ?_
            refine tgd_13 X hW tm_8999 dX4_line_166 ?_
            refine lv_iload_n hx hb dX4_line_169 rfl (lv_at hl 0 rfl) ?_
            refine lv_aload_n hx hb dX4_line_170 rfl (lv_at hl 1 rfl) ?_
            refine lv_iconst (v := 0) hx hb dX4_line_171 (by decide) ?_
            refine lv_iconst (v := 1) hx hb dX4_line_172 (by decide) ?_
            obtain ⟨⟨σ_46, o_47⟩, h_44, hf⟩ := bd_e hf
            refine kt_number X hW had h_44 (by decide) hl (Nat.le_of_ble_eq_true rfl) dX4_line_173 (fun ho H locs q9 ce hW hc1 hc2 hc3 => by subst ho; exact t_out X hex hW hf hc1 hc2 hc3) (fun r_45 ho H locs hW => ?_)
            subst ho
            replace hf := thr_s hf
            refine xs_8013 X hW tm_8013 h_39 dX4_line_176 (fun H locs hW => ?_)
            refine lv_aload_n hx hb dX4_line_177 rfl (lv_at hl 1 rfl) ?_
            refine tg_1 X hW tm_997 dX4_line_178 ?_
            refine lv_dup hx hb dX4_line_181 rfl ?_
            refine tgd_2 X hW tm_8999 dX4_line_182 ?_
            refine lv_iconst (v := 1) hx hb dX4_line_185 (by decide) ?_
            refine lv_iadd hx hb dX4_line_186 ?_
            obtain ⟨σ_48, e_49, hf⟩ := nmb_e hf
            rw [← e_49] at hW
            clear e_49
            refine tpd_2 X hW tm_8999 dX4_line_187 (fun H locs hW => ?_)
            exact t_vret X hW hf dX4_line_190
          · replace hf := ine hf c_34
            refine lv_tableOut (tgt := 191) hx hb dX4_line_1 (by have := lv_neT c_1 (a := 0) rfl; have := lv_neT c_6 (a := 1) rfl; have := lv_neT c_24 (a := 2) rfl; have := lv_neT c_29 (a := 3) rfl; have := lv_neT c_34 (a := 4) rfl; omega) (by decide) ?_
            refine lv_iconst (v := 2) hx hb dX4_line_191 (by decide) ?_
            refine lv_aload_n hx hb dX4_line_192 rfl (lv_at hl 0 rfl) ?_
            refine tg_1 X hW tm_997 dX4_line_193 ?_
            refine tgd_3 X hW tm_8999 dX4_line_196 ?_
            refine lv_imul hx hb dX4_line_199 ?_
            refine lv_istore_n (lv' := [(2, .int (2 * (σ.1 8999 3))), (0, .ref (ad 997)), (1, .int v1)]) hx hb dX4_line_200 rfl hl (by decide) rfl (fun ls hl => ?_)
            refine lv_aload_n hx hb dX4_line_201 rfl (lv_at hl 1 rfl) ?_
            refine tg_1 X hW tm_997 dX4_line_202 ?_
            refine tgd_14 X hW tm_8999 dX4_line_205 ?_
            refine lv_iload_n hx hb dX4_line_208 rfl (lv_at hl 0 rfl) ?_
            refine lv_aload_n hx hb dX4_line_209 rfl (lv_at hl 1 rfl) ?_
            refine lv_iconst (v := 0) hx hb dX4_line_210 (by decide) ?_
            refine lv_aload_n hx hb dX4_line_211 rfl (lv_at hl 1 rfl) ?_
            refine tg_1 X hW tm_997 dX4_line_212 ?_
            refine tgd_2 X hW tm_8999 dX4_line_215 ?_
            refine lv_iconst (v := 1) hx hb dX4_line_218 (by decide) ?_
            refine lv_isub hx hb dX4_line_219 ?_
            obtain ⟨⟨σ_52, o_53⟩, h_50, hf⟩ := bd_e hf
            refine kt_number X hW had h_50 (by decide) hl (Nat.le_of_ble_eq_true rfl) dX4_line_220 (fun ho H locs q9 ce hW hc1 hc2 hc3 => by subst ho; exact t_out X hex hW hf hc1 hc2 hc3) (fun r_51 ho H locs hW => ?_)
            subst ho
            replace hf := thr_s hf
            obtain ⟨h_54, hf⟩ := gd_e hf
            refine xs_8014 X hW tm_8014 h_54 dX4_line_223 (fun H locs hW => ?_)
            refine lv_aload_n hx hb dX4_line_224 rfl (lv_at hl 1 rfl) ?_
            refine tg_1 X hW tm_997 dX4_line_225 ?_
            refine tgd_14 X hW tm_8999 dX4_line_228 ?_
            refine lv_iload_n hx hb dX4_line_231 rfl (lv_at hl 0 rfl) ?_
            refine lv_iconst (v := 1) hx hb dX4_line_232 (by decide) ?_
            refine lv_iadd hx hb dX4_line_233 ?_
            refine lv_aload_n hx hb dX4_line_234 rfl (lv_at hl 1 rfl) ?_
            refine lv_iconst (v := 0) hx hb dX4_line_235 (by decide) ?_
            refine lv_iconst (v := 1) hx hb dX4_line_236 (by decide) ?_
            obtain ⟨⟨σ_57, o_58⟩, h_55, hf⟩ := bd_e hf
            refine kt_number X hW had h_55 (by decide) hl (Nat.le_of_ble_eq_true rfl) dX4_line_237 (fun ho H locs q9 ce hW hc1 hc2 hc3 => by subst ho; exact t_out X hex hW hf hc1 hc2 hc3) (fun r_56 ho H locs hW => ?_)
            subst ho
            replace hf := thr_s hf
            obtain ⟨h_59, hf⟩ := gd_e hf
            refine xs_8014 X hW tm_8014 h_59 dX4_line_240 (fun H locs hW => ?_)
            refine lv_aload_n hx hb dX4_line_241 rfl (lv_at hl 1 rfl) ?_
            refine tg_1 X hW tm_997 dX4_line_242 ?_
            refine lv_dup hx hb dX4_line_245 rfl ?_
            refine tgd_3 X hW tm_8999 dX4_line_246 ?_
            refine lv_iconst (v := 1) hx hb dX4_line_249 (by decide) ?_
            refine lv_iadd hx hb dX4_line_250 ?_
            obtain ⟨σ_60, e_61, hf⟩ := nmb_e hf
            rw [← e_61] at hW
            clear e_61
            refine tpd_3 X hW tm_8999 dX4_line_251 (fun H locs hW => ?_)
            exact t_vret X hW hf dX4_line_254
theorem w_t_line (l : Launch) {g : gG} {ad : Nat → Nat} {q : xR} (had : tI_ ad) {σr : cS} {o : Option Unit} {σ : cS} {v1 : Int32}  (hf : t_line σ v1 = some (σr, o)) : MT l yX4_line cX4_line 3 none 6 148 g tIds ad (xE g ad q σ) (xE g ad q σr) [.ref (ad 997), .int v1] (fun _ : Unit => none) o :=
  MT.of (by decide) tIds_nd had (Nat.le_of_ble_eq_true rfl) (fun p e s m below meth c A ls X hex hW hl => wb_t_line X had hex hW hl hf)
theorem kt_line {p : Program} {l : Launch} {e : Env} {R : Room} {s : State} {m : MethodId} {args : Array Value} {below : List Frame} {meth : Method} {c : Code} {H : Heap} {locs : List Loc} {Q : State → Prop} {cc : ByteArray} {nL : Nat} {ret : Option FieldType} {g : gG} {A : Nat → Prop} {ad : Nat → Nat} {q : xR} {pc : Nat} {ls : Array Slot} {rest : List Value} {lv : List (Nat × Value)} {σr : cS} {o : Option Unit} {σ : cS} {v1 : Int32} (X : MX p s m args meth c cc nL RX4 ret g A) (hW : WB g A s.heap tIds ad (xE g ad q σ) H locs) (had : tI_ ad)  (hf : t_line σ v1 = some (σr, o)) (hR : 7 ≤ R.frames ∧ 170 ≤ R.locals) (hl : lv_has ls nL lv) (hcat : (rest.map fun v => v.category).sum ≤ 8) (hdg : decode cc pc = .ok (.invokevirtual 164, 3)) (kx : o = none → ∀ (H1 : Heap) (l1 : List Loc) (q9 : Addr) (ce : Cell), WB g A s.heap tIds ad (xE g ad q σr) H1 l1 → H1[q9]? = some ce → ce.vm = .none → s.vm.findClass RX2 = some ce.cls → vx_W p l e R s m args below meth c H1 l1 0 0 Q (F0 m pc ls rest) q9) (kk : ∀ r : Unit, o = some r → ∀ (H1 : Heap) (l1 : List Loc), WB g A s.heap tIds ad (xE g ad q σr) H1 l1 → W p l e R s m args below meth c H1 l1 0 0 Q (F0 m (pc + 3) ls (rest))) : W p l e R s m args below meth c H locs 0 0 Q (F0 m pc ls (.int v1 :: .ref (ad 997) :: rest)) :=
  t_callV X hW Sub.all (w_t_line l had hf) (lw_V q583 q585 qs8 q127 q586) ⟨rfl, by decide, by decide, by decide +kernel⟩ tm_997 rfl rfl (n := 1) hR hl rfl rfl hcat hdg kx kk
-- takesSign
noncomputable def t_takesSign (σ : cS) (v1 : Int32) : Option (cS × Int32) :=
  ((t_see σ).bind fun (σ_3, r_2) => if r_2 = v1 then (some ((si σ_3 997 2 ((σ_3.1 997 2) + 1)), 1)) else (some (σ_3, 0)))
set_option maxHeartbeats 4000000 in
theorem wb_t_takesSign {p : Program} {l : Launch} {e : Env} {s : State} {m : MethodId} {args : Array Value} {below : List Frame} {meth : Method} {c : Code} {g : gG} {A : Nat → Prop} {ad : Nat → Nat} {q : xR} (X : MX p s m args meth c cX4_takesSign 2 RX4 (some .boolean) g A) (had : tI_ ad) {σr : cS} {r : Int32} {σ : cS} {v1 : Int32}  {H : Heap} {locs : List Loc} {ls : Array Slot} (hW : WB g A s.heap tIds ad (xE g ad q σ) H locs) (hl : lv_has ls 2 [(0, .ref (ad 997)), (1, .int v1)]) (hf : t_takesSign σ v1 = some (σr, r)) : W p l e (rm_ 3 80) s m args below meth c H locs 0 0 (Qm below g tIds ad (xE g ad q σr) (some (.int r)) A args s) (F0 m 0 ls []) := by
  have hx := X.1.1
  have hb := X.1.2.1
  unfold t_takesSign at hf
  refine lv_aload_n hx hb dX4_takesSign_0 rfl (lv_at hl 0 rfl) ?_
  obtain ⟨⟨σ_3, r_2⟩, h_1, hf⟩ := bd_e hf
  refine kt_see X hW had h_1 (by decide) hl (Nat.le_of_ble_eq_true rfl) dX4_takesSign_1 (fun H locs hW => ?_)
  refine lv_iload_n hx hb dX4_takesSign_4 rfl (lv_at hl 1 rfl) ?_
  refine lv_icmp_eq (tgt := 10) hx hb dX4_takesSign_5 (by decide) (fun c_4 => ?_) (fun c_4 => ?_)
  · replace hf := ip hf c_4
    refine lv_aload_n hx hb dX4_takesSign_10 rfl (lv_at hl 0 rfl) ?_
    refine lv_dup hx hb dX4_takesSign_11 rfl ?_
    refine tg_2 X hW tm_997 dX4_takesSign_12 ?_
    refine lv_iconst (v := 1) hx hb dX4_takesSign_15 (by decide) ?_
    refine lv_iadd hx hb dX4_takesSign_16 ?_
    refine tp_2 X hW tm_997 dX4_takesSign_17 (fun H locs hW => ?_)
    refine lv_iconst (v := 1) hx hb dX4_takesSign_20 (by decide) ?_
    exact x_zret X hW hf (by decide) dX4_takesSign_21
  · replace hf := ine hf c_4
    refine lv_iconst (v := 0) hx hb dX4_takesSign_8 (by decide) ?_
    exact x_zret X hW hf (by decide) dX4_takesSign_9
theorem w_t_takesSign (l : Launch) {g : gG} {ad : Nat → Nat} {q : xR} (had : tI_ ad) {σr : cS} {r : Int32} {σ : cS} {v1 : Int32}  (hf : t_takesSign σ v1 = some (σr, r)) : MC l yX4_takesSign cX4_takesSign 2 (some .boolean) 3 80 g tIds ad (xE g ad q σ) (xE g ad q σr) [.ref (ad 997), .int v1] (some (.int r)) :=
  MC.of (by decide) tIds_nd had (Nat.le_of_ble_eq_true rfl) (fun p e s m below meth c A ls X hW hl => wb_t_takesSign X had hW hl hf)
theorem kt_takesSign {p : Program} {l : Launch} {e : Env} {R : Room} {s : State} {m : MethodId} {args : Array Value} {below : List Frame} {meth : Method} {c : Code} {H : Heap} {locs : List Loc} {Q : State → Prop} {cc : ByteArray} {nL : Nat} {ret : Option FieldType} {g : gG} {A : Nat → Prop} {ad : Nat → Nat} {q : xR} {pc : Nat} {ls : Array Slot} {rest : List Value} {lv : List (Nat × Value)} {σr : cS} {r : Int32} {σ : cS} {v1 : Int32} (X : MX p s m args meth c cc nL RX4 ret g A) (hW : WB g A s.heap tIds ad (xE g ad q σ) H locs) (had : tI_ ad)  (hf : t_takesSign σ v1 = some (σr, r)) (hR : 4 ≤ R.frames ∧ 101 ≤ R.locals) (hl : lv_has ls nL lv) (hcat : (rest.map fun v => v.category).sum ≤ 8) (hdg : decode cc pc = .ok (.invokevirtual 167, 3)) (kk : ∀ (H1 : Heap) (l1 : List Loc), WB g A s.heap tIds ad (xE g ad q σr) H1 l1 → W p l e R s m args below meth c H1 l1 0 0 Q (F0 m (pc + 3) ls (.int r :: rest))) : W p l e R s m args below meth c H locs 0 0 Q (F0 m pc ls (.int v1 :: .ref (ad 997) :: rest)) :=
  r_callV X hW Sub.all (w_t_takesSign l had hf) (lw_V q610 q612 qs14 q127 q613) ⟨rfl, by decide, by decide, by decide +kernel⟩ tm_997 rfl rfl (n := 1) hR hl rfl rfl hcat ⟨Nat.zero_le _, Nat.zero_le _⟩ hdg kk
-- ends
noncomputable def t_ends (σ : cS) : Option (cS × Option Unit) :=
  ((t_see σ).bind fun (σ_3, r_2) => if r_2 = (-1) then (((t_demand σ_3 1 0 (σ_3.1 997 2)).bind fun (σ_11, o_12) => thr σ_11 o_12 fun _ => some (σ_11, some ()))) else (((t_demand σ_3 0 0 (σ_3.1 997 2)).bind fun (σ_7, o_8) => thr σ_7 o_8 fun _ => some (σ_7, some ()))))
set_option maxHeartbeats 4000000 in
theorem wb_t_ends {p : Program} {l : Launch} {e : Env} {s : State} {m : MethodId} {args : Array Value} {below : List Frame} {meth : Method} {c : Code} {g : gG} {A : Nat → Prop} {ad : Nat → Nat} {q : xR} (X : MX p s m args meth c cX4_ends 1 RX4 none g A) (had : tI_ ad) (hex : ∀ x ∈ c.exceptionTable.toList, False) {σr : cS} {o : Option Unit} {σ : cS}  {H : Heap} {locs : List Loc} {ls : Array Slot} (hW : WB g A s.heap tIds ad (xE g ad q σ) H locs) (hl : lv_has ls 1 [(0, .ref (ad 997))]) (hf : t_ends σ = some (σr, o)) : W p l e (rm_ 3 83) s m args below meth c H locs 0 0 (QT below g tIds ad (xE g ad q σr) (fun _ : Unit => none) o A args s) (F0 m 0 ls []) := by
  have hx := X.1.1
  have hb := X.1.2.1
  unfold t_ends at hf
  refine lv_aload_n hx hb dX4_ends_0 rfl (lv_at hl 0 rfl) ?_
  refine lv_aload_n hx hb dX4_ends_1 rfl (lv_at hl 0 rfl) ?_
  obtain ⟨⟨σ_3, r_2⟩, h_1, hf⟩ := bd_e hf
  refine kt_see X hW had h_1 (by decide) hl (Nat.le_of_ble_eq_true rfl) dX4_ends_2 (fun H locs hW => ?_)
  refine lv_iconst (v := (-1)) hx hb dX4_ends_5 (by decide) ?_
  refine lv_icmp_ne (tgt := 13) hx hb dX4_ends_6 (by decide) (fun c_4 => ?_) (fun c_4 => ?_)
  · replace hf := ine hf c_4
    refine lv_iconst (v := 0) hx hb dX4_ends_13 (by decide) ?_
    refine lv_iconst (v := 0) hx hb dX4_ends_14 (by decide) ?_
    refine lv_aload_n hx hb dX4_ends_15 rfl (lv_at hl 0 rfl) ?_
    refine tg_2 X hW tm_997 dX4_ends_16 ?_
    obtain ⟨⟨σ_7, o_8⟩, h_5, hf⟩ := bd_e hf
    refine kt_demand X hW had h_5 (by decide) hl (Nat.le_of_ble_eq_true rfl) dX4_ends_19 (fun ho H locs q9 ce hW hc1 hc2 hc3 => by subst ho; exact t_out X hex hW hf hc1 hc2 hc3) (fun r_6 ho H locs hW => ?_)
    subst ho
    replace hf := thr_s hf
    exact t_vret X hW hf dX4_ends_22
  · replace hf := ip hf c_4
    refine lv_iconst (v := 1) hx hb dX4_ends_9 (by decide) ?_
    refine lv_goto (tgt := 14) hx hb dX4_ends_10 (by decide) ?_
    refine lv_iconst (v := 0) hx hb dX4_ends_14 (by decide) ?_
    refine lv_aload_n hx hb dX4_ends_15 rfl (lv_at hl 0 rfl) ?_
    refine tg_2 X hW tm_997 dX4_ends_16 ?_
    obtain ⟨⟨σ_11, o_12⟩, h_9, hf⟩ := bd_e hf
    refine kt_demand X hW had h_9 (by decide) hl (Nat.le_of_ble_eq_true rfl) dX4_ends_19 (fun ho H locs q9 ce hW hc1 hc2 hc3 => by subst ho; exact t_out X hex hW hf hc1 hc2 hc3) (fun r_10 ho H locs hW => ?_)
    subst ho
    replace hf := thr_s hf
    exact t_vret X hW hf dX4_ends_22
theorem w_t_ends (l : Launch) {g : gG} {ad : Nat → Nat} {q : xR} (had : tI_ ad) {σr : cS} {o : Option Unit} {σ : cS}  (hf : t_ends σ = some (σr, o)) : MT l yX4_ends cX4_ends 1 none 3 83 g tIds ad (xE g ad q σ) (xE g ad q σr) [.ref (ad 997)] (fun _ : Unit => none) o :=
  MT.of (by decide) tIds_nd had (Nat.le_of_ble_eq_true rfl) (fun p e s m below meth c A ls X hex hW hl => wb_t_ends X had hex hW hl hf)
theorem kt_ends {p : Program} {l : Launch} {e : Env} {R : Room} {s : State} {m : MethodId} {args : Array Value} {below : List Frame} {meth : Method} {c : Code} {H : Heap} {locs : List Loc} {Q : State → Prop} {cc : ByteArray} {nL : Nat} {ret : Option FieldType} {g : gG} {A : Nat → Prop} {ad : Nat → Nat} {q : xR} {pc : Nat} {ls : Array Slot} {rest : List Value} {lv : List (Nat × Value)} {σr : cS} {o : Option Unit} {σ : cS} (X : MX p s m args meth c cc nL RX4 ret g A) (hW : WB g A s.heap tIds ad (xE g ad q σ) H locs) (had : tI_ ad)  (hf : t_ends σ = some (σr, o)) (hR : 4 ≤ R.frames ∧ 103 ≤ R.locals) (hl : lv_has ls nL lv) (hcat : (rest.map fun v => v.category).sum ≤ 8) (hdg : decode cc pc = .ok (.invokevirtual 170, 3)) (kx : o = none → ∀ (H1 : Heap) (l1 : List Loc) (q9 : Addr) (ce : Cell), WB g A s.heap tIds ad (xE g ad q σr) H1 l1 → H1[q9]? = some ce → ce.vm = .none → s.vm.findClass RX2 = some ce.cls → vx_W p l e R s m args below meth c H1 l1 0 0 Q (F0 m pc ls rest) q9) (kk : ∀ r : Unit, o = some r → ∀ (H1 : Heap) (l1 : List Loc), WB g A s.heap tIds ad (xE g ad q σr) H1 l1 → W p l e R s m args below meth c H1 l1 0 0 Q (F0 m (pc + 3) ls (rest))) : W p l e R s m args below meth c H locs 0 0 Q (F0 m pc ls (.ref (ad 997) :: rest)) :=
  t_callV X hW Sub.all (w_t_ends l had hf) (lw_V q614 q616 qs15 q127 q617) ⟨rfl, by decide, by decide, by decide +kernel⟩ tm_997 rfl rfl (n := 0) hR hl rfl rfl hcat hdg kx kk
-- stripTold
noncomputable def t_stripTold_15  (K : cS → Option (cS × Option Unit)) : Nat → cS → Option (cS × Option Unit)
  | 0, _ => none
  | n + 1, σ => ((t_see σ).bind fun (σ_5, r_4) => ((t_oneOf_11 σ_5).bind fun (σ_8, r_7) => if r_7 = (-1) then (((t_demand σ_8 0 0 (σ_5.1 997 2)).bind fun (σ_12, o_13) => thr σ_12 o_13 fun _ => ((t_canBe σ_12 r_7).bind fun r_15 => ((t_demand σ_12 r_15 4 (σ_5.1 997 2)).bind fun (σ_18, o_19) => thr σ_18 o_19 fun _ => gd (inb r_7 6) (gd (decide ((ix r_7) < 43)) (nmb (si σ_18 997 5 ((σ_18.1 997 5) + 1)) fun σ_22 => (((t_line (si σ_22 997 2 (((si σ_18 997 5 ((σ_18.1 997 5) + 1)).1 997 2) + (nI (stC (ix r_7)).length))) r_7).bind fun (σ_26, o_27) => thr σ_26 o_27 fun _ => ((t_takesSign σ_26 59).bind fun (σ_30, r_29) => if r_29 = 0 then (K σ_30) else (t_stripTold_15 K n σ_30)))))))))) else (((t_demand σ_8 1 0 (σ_5.1 997 2)).bind fun (σ_34, o_35) => thr σ_34 o_35 fun _ => ((t_canBe σ_34 r_7).bind fun r_37 => ((t_demand σ_34 r_37 4 (σ_5.1 997 2)).bind fun (σ_40, o_41) => thr σ_40 o_41 fun _ => gd (inb r_7 6) (gd (decide ((ix r_7) < 43)) (nmb (si σ_40 997 5 ((σ_40.1 997 5) + 1)) fun σ_44 => (((t_line (si σ_44 997 2 (((si σ_40 997 5 ((σ_40.1 997 5) + 1)).1 997 2) + (nI (stC (ix r_7)).length))) r_7).bind fun (σ_48, o_49) => thr σ_48 o_49 fun _ => ((t_takesSign σ_48 59).bind fun (σ_52, r_51) => if r_51 = 0 then (K σ_52) else (t_stripTold_15 K n σ_52))))))))))))
set_option maxHeartbeats 4000000 in
theorem wt_stripTold_15 {p : Program} {l : Launch} {e : Env} {s : State} {m : MethodId} {args : Array Value} {below : List Frame} {meth : Method} {c : Code} {g : gG} {A : Nat → Prop} {ad : Nat → Nat} {q : xR} (X : MX p s m args meth c cX4_stripTold 3 RX4 (some (.object "DoughBorder$Dough")) g A) (had : tI_ ad) (hex : ∀ x ∈ c.exceptionTable.toList, False) {σr : cS} {o : Option Unit}   {K : cS → Option (cS × Option Unit)}
    (hK : ∀ (σ : cS) (H : Heap) (locs : List Loc) (ls : Array Slot), WB g A s.heap tIds ad (xE g ad q σ) H locs → lv_has ls 3 [(0, .ref (ad 997))] → K σ = some (σr, o) → W p l e (rm_ 8 246) s m args below meth c H locs 0 0 (QT below g tIds ad (xE g ad q σr) (fun _ : Unit => some (.ref (ad 8999))) o A args s) (F0 m 109 ls [])) :
    ∀ (n : Nat) (σ : cS) (H : Heap) (locs : List Loc) (ls : Array Slot), WB g A s.heap tIds ad (xE g ad q σ) H locs → lv_has ls 3 [(0, .ref (ad 997))] → t_stripTold_15 K n σ = some (σr, o) → W p l e (rm_ 8 246) s m args below meth c H locs 0 0 (QT below g tIds ad (xE g ad q σr) (fun _ : Unit => some (.ref (ad 8999))) o A args s) (F0 m 15 ls []) := by
  have hx := X.1.1
  have hb := X.1.2.1
  intro n
  induction n with
  | zero =>
    intro σ H locs ls hW hl hf
    rw [t_stripTold_15] at hf
    cases hf
  | succ n ih =>
    intro σ H locs ls hW hl hf
    rw [t_stripTold_15] at hf
    refine lv_aload_n hx hb dX4_stripTold_15 rfl (lv_at hl 0 rfl) ?_
    obtain ⟨⟨σ_5, r_4⟩, h_3, hf⟩ := bd_e hf
    refine kt_see X hW had h_3 (by decide) hl (Nat.le_of_ble_eq_true rfl) dX4_stripTold_16 (fun H locs hW => ?_)
    refine lv_pop hx hb dX4_stripTold_19 rfl ?_
    refine lv_aload_n hx hb dX4_stripTold_20 rfl (lv_at hl 0 rfl) ?_
    refine tg_2 X hW tm_997 dX4_stripTold_21 ?_
    refine lv_istore_n (lv' := [(1, .int (σ_5.1 997 2)), (0, .ref (ad 997))]) hx hb dX4_stripTold_24 rfl hl (by decide) rfl (fun ls hl => ?_)
    refine lv_aload_n hx hb dX4_stripTold_25 rfl (lv_at hl 1 rfl) ?_
    refine lv_aload_n hx hb dX4_stripTold_26 rfl (lv_at hl 1 rfl) ?_
    refine tg_6 X hW tm_997 dX4_stripTold_27 ?_
    refine tgo_11 X hW tm_999 dX4_stripTold_30 ?_
    obtain ⟨⟨σ_8, r_7⟩, h_6, hf⟩ := bd_e hf
    refine kt_oneOf_11 X hW had h_6 (by decide) hl (Nat.le_of_ble_eq_true rfl) dX4_stripTold_33 (fun H locs hW => ?_)
    refine lv_istore_n (lv' := [(2, .int r_7), (1, .int (σ_5.1 997 2)), (0, .ref (ad 997))]) hx hb dX4_stripTold_36 rfl hl (by decide) rfl (fun ls hl => ?_)
    refine lv_aload_n hx hb dX4_stripTold_37 rfl (lv_at hl 2 rfl) ?_
    refine lv_iload_n hx hb dX4_stripTold_38 rfl (lv_at hl 0 rfl) ?_
    refine lv_iconst (v := (-1)) hx hb dX4_stripTold_39 (by decide) ?_
    refine lv_icmp_eq (tgt := 47) hx hb dX4_stripTold_40 (by decide) (fun c_9 => ?_) (fun c_9 => ?_)
    · replace hf := ip hf c_9
      refine lv_iconst (v := 0) hx hb dX4_stripTold_47 (by decide) ?_
      refine lv_iconst (v := 0) hx hb dX4_stripTold_48 (by decide) ?_
      refine lv_iload_n hx hb dX4_stripTold_49 rfl (lv_at hl 1 rfl) ?_
      obtain ⟨⟨σ_12, o_13⟩, h_10, hf⟩ := bd_e hf
      refine kt_demand X hW had h_10 (by decide) hl (Nat.le_of_ble_eq_true rfl) dX4_stripTold_50 (fun ho H locs q9 ce hW hc1 hc2 hc3 => by subst ho; exact t_out X hex hW hf hc1 hc2 hc3) (fun r_11 ho H locs hW => ?_)
      subst ho
      replace hf := thr_s hf
      refine lv_aload_n hx hb dX4_stripTold_53 rfl (lv_at hl 2 rfl) ?_
      refine lv_aload_n hx hb dX4_stripTold_54 rfl (lv_at hl 2 rfl) ?_
      refine lv_iload_n hx hb dX4_stripTold_55 rfl (lv_at hl 0 rfl) ?_
      obtain ⟨r_15, h_14, hf⟩ := bd_e hf
      refine kt_canBe X hW had h_14 (by decide) hl (Nat.le_of_ble_eq_true rfl) dX4_stripTold_56 (fun H locs hW => ?_)
      refine lv_iconst (v := 4) hx hb dX4_stripTold_59 (by decide) ?_
      refine lv_iload_n hx hb dX4_stripTold_60 rfl (lv_at hl 1 rfl) ?_
      obtain ⟨⟨σ_18, o_19⟩, h_16, hf⟩ := bd_e hf
      refine kt_demand X hW had h_16 (by decide) hl (Nat.le_of_ble_eq_true rfl) dX4_stripTold_61 (fun ho H locs q9 ce hW hc1 hc2 hc3 => by subst ho; exact t_out X hex hW hf hc1 hc2 hc3) (fun r_17 ho H locs hW => ?_)
      subst ho
      replace hf := thr_s hf
      refine lv_aload_n hx hb dX4_stripTold_64 rfl (lv_at hl 2 rfl) ?_
      refine lv_dup hx hb dX4_stripTold_65 rfl ?_
      refine tg_5 X hW tm_997 dX4_stripTold_66 ?_
      refine lv_iconst (v := 1) hx hb dX4_stripTold_69 (by decide) ?_
      refine lv_iadd hx hb dX4_stripTold_70 ?_
      refine tp_5 X hW tm_997 dX4_stripTold_71 (fun H locs hW => ?_)
      refine lv_aload_n hx hb dX4_stripTold_74 rfl (lv_at hl 2 rfl) ?_
      refine lv_dup hx hb dX4_stripTold_75 rfl ?_
      refine tg_2 X hW tm_997 dX4_stripTold_76 ?_
      refine lv_aload_n hx hb dX4_stripTold_79 rfl (lv_at hl 2 rfl) ?_
      refine tg_6 X hW tm_997 dX4_stripTold_80 ?_
      refine tgo_11 X hW tm_999 dX4_stripTold_83 ?_
      refine lv_iload_n hx hb dX4_stripTold_86 rfl (lv_at hl 0 rfl) ?_
      obtain ⟨h_20, hf⟩ := gd_e hf
      refine r_aald X hW (t0 := 5) tm_11 rfl rfl h_20 (v := .ref (g.2.2.1 (ix r_7))) rfl dX4_stripTold_87 ?_
      obtain ⟨hs_21, hf⟩ := gd_e hf
      replace hs_21 := of_decide_eq_true hs_21
      refine k_slen X hW hs_21 (by decide) hl (Nat.le_of_ble_eq_true rfl) q527 dX4_stripTold_88 (fun H locs hW => ?_)
      refine lv_iadd hx hb dX4_stripTold_91 ?_
      obtain ⟨σ_22, e_23, hf⟩ := nmb_e hf
      rw [← e_23] at hW
      clear e_23
      refine tp_2 X hW tm_997 dX4_stripTold_92 (fun H locs hW => ?_)
      refine lv_aload_n hx hb dX4_stripTold_95 rfl (lv_at hl 2 rfl) ?_
      refine lv_iload_n hx hb dX4_stripTold_96 rfl (lv_at hl 0 rfl) ?_
      obtain ⟨⟨σ_26, o_27⟩, h_24, hf⟩ := bd_e hf
      refine kt_line X hW had h_24 (by decide) hl (Nat.le_of_ble_eq_true rfl) dX4_stripTold_97 (fun ho H locs q9 ce hW hc1 hc2 hc3 => by subst ho; exact t_out X hex hW hf hc1 hc2 hc3) (fun r_25 ho H locs hW => ?_)
      subst ho
      replace hf := thr_s hf
      refine lv_aload_n hx hb dX4_stripTold_100 rfl (lv_at hl 2 rfl) ?_
      refine lv_bipush (v := 59) hx hb dX4_stripTold_101 (by decide) ?_
      obtain ⟨⟨σ_30, r_29⟩, h_28, hf⟩ := bd_e hf
      refine kt_takesSign X hW had h_28 (by decide) hl (Nat.le_of_ble_eq_true rfl) dX4_stripTold_103 (fun H locs hW => ?_)
      refine lv_if_ne (tgt := 15) hx hb dX4_stripTold_106 (by decide) (fun c_31 => ?_) (fun c_31 => ?_)
      · replace hf := ine hf c_31
        exact ih _ _ _ _ hW (lv_sub hl [2] rfl) hf
      · replace hf := ip hf c_31
        exact hK _ _ _ _ hW (lv_sub hl [2] rfl) hf
    · replace hf := ine hf c_9
      refine lv_iconst (v := 1) hx hb dX4_stripTold_43 (by decide) ?_
      refine lv_goto (tgt := 48) hx hb dX4_stripTold_44 (by decide) ?_
      refine lv_iconst (v := 0) hx hb dX4_stripTold_48 (by decide) ?_
      refine lv_iload_n hx hb dX4_stripTold_49 rfl (lv_at hl 1 rfl) ?_
      obtain ⟨⟨σ_34, o_35⟩, h_32, hf⟩ := bd_e hf
      refine kt_demand X hW had h_32 (by decide) hl (Nat.le_of_ble_eq_true rfl) dX4_stripTold_50 (fun ho H locs q9 ce hW hc1 hc2 hc3 => by subst ho; exact t_out X hex hW hf hc1 hc2 hc3) (fun r_33 ho H locs hW => ?_)
      subst ho
      replace hf := thr_s hf
      refine lv_aload_n hx hb dX4_stripTold_53 rfl (lv_at hl 2 rfl) ?_
      refine lv_aload_n hx hb dX4_stripTold_54 rfl (lv_at hl 2 rfl) ?_
      refine lv_iload_n hx hb dX4_stripTold_55 rfl (lv_at hl 0 rfl) ?_
      obtain ⟨r_37, h_36, hf⟩ := bd_e hf
      refine kt_canBe X hW had h_36 (by decide) hl (Nat.le_of_ble_eq_true rfl) dX4_stripTold_56 (fun H locs hW => ?_)
      refine lv_iconst (v := 4) hx hb dX4_stripTold_59 (by decide) ?_
      refine lv_iload_n hx hb dX4_stripTold_60 rfl (lv_at hl 1 rfl) ?_
      obtain ⟨⟨σ_40, o_41⟩, h_38, hf⟩ := bd_e hf
      refine kt_demand X hW had h_38 (by decide) hl (Nat.le_of_ble_eq_true rfl) dX4_stripTold_61 (fun ho H locs q9 ce hW hc1 hc2 hc3 => by subst ho; exact t_out X hex hW hf hc1 hc2 hc3) (fun r_39 ho H locs hW => ?_)
      subst ho
      replace hf := thr_s hf
      refine lv_aload_n hx hb dX4_stripTold_64 rfl (lv_at hl 2 rfl) ?_
      refine lv_dup hx hb dX4_stripTold_65 rfl ?_
      refine tg_5 X hW tm_997 dX4_stripTold_66 ?_
      refine lv_iconst (v := 1) hx hb dX4_stripTold_69 (by decide) ?_
      refine lv_iadd hx hb dX4_stripTold_70 ?_
      refine tp_5 X hW tm_997 dX4_stripTold_71 (fun H locs hW => ?_)
      refine lv_aload_n hx hb dX4_stripTold_74 rfl (lv_at hl 2 rfl) ?_
      refine lv_dup hx hb dX4_stripTold_75 rfl ?_
      refine tg_2 X hW tm_997 dX4_stripTold_76 ?_
      refine lv_aload_n hx hb dX4_stripTold_79 rfl (lv_at hl 2 rfl) ?_
      refine tg_6 X hW tm_997 dX4_stripTold_80 ?_
      refine tgo_11 X hW tm_999 dX4_stripTold_83 ?_
      refine lv_iload_n hx hb dX4_stripTold_86 rfl (lv_at hl 0 rfl) ?_
      obtain ⟨h_42, hf⟩ := gd_e hf
      refine r_aald X hW (t0 := 5) tm_11 rfl rfl h_42 (v := .ref (g.2.2.1 (ix r_7))) rfl dX4_stripTold_87 ?_
      obtain ⟨hs_43, hf⟩ := gd_e hf
      replace hs_43 := of_decide_eq_true hs_43
      refine k_slen X hW hs_43 (by decide) hl (Nat.le_of_ble_eq_true rfl) q527 dX4_stripTold_88 (fun H locs hW => ?_)
      refine lv_iadd hx hb dX4_stripTold_91 ?_
      obtain ⟨σ_44, e_45, hf⟩ := nmb_e hf
      rw [← e_45] at hW
      clear e_45
      refine tp_2 X hW tm_997 dX4_stripTold_92 (fun H locs hW => ?_)
      refine lv_aload_n hx hb dX4_stripTold_95 rfl (lv_at hl 2 rfl) ?_
      refine lv_iload_n hx hb dX4_stripTold_96 rfl (lv_at hl 0 rfl) ?_
      obtain ⟨⟨σ_48, o_49⟩, h_46, hf⟩ := bd_e hf
      refine kt_line X hW had h_46 (by decide) hl (Nat.le_of_ble_eq_true rfl) dX4_stripTold_97 (fun ho H locs q9 ce hW hc1 hc2 hc3 => by subst ho; exact t_out X hex hW hf hc1 hc2 hc3) (fun r_47 ho H locs hW => ?_)
      subst ho
      replace hf := thr_s hf
      refine lv_aload_n hx hb dX4_stripTold_100 rfl (lv_at hl 2 rfl) ?_
      refine lv_bipush (v := 59) hx hb dX4_stripTold_101 (by decide) ?_
      obtain ⟨⟨σ_52, r_51⟩, h_50, hf⟩ := bd_e hf
      refine kt_takesSign X hW had h_50 (by decide) hl (Nat.le_of_ble_eq_true rfl) dX4_stripTold_103 (fun H locs hW => ?_)
      refine lv_if_ne (tgt := 15) hx hb dX4_stripTold_106 (by decide) (fun c_53 => ?_) (fun c_53 => ?_)
      · replace hf := ine hf c_53
        exact ih _ _ _ _ hW (lv_sub hl [2] rfl) hf
      · replace hf := ip hf c_53
        exact hK _ _ _ _ hW (lv_sub hl [2] rfl) hf
noncomputable def t_stripTold (σ : cS) : Option (cS × Option Unit) :=
  ((d_copies (vw2 σ 8000 9000)).bind fun σ_2 => t_stripTold_15  (fun σ_54 => (((t_ends σ_54).bind fun (σ_57, o_58) => thr σ_57 o_58 fun _ => nmb (si σ_57 8999 6 (σ_57.1 8999 7)) fun σ_59 => (some ((sA σ_59 8009 (va_cpy (σ_59.1 8017) (σ_59.1 8009) (ix 0) (ix 0) (ix 10))), some ()))))) FU (pb2 σ 8000 9000 σ_2))
set_option maxHeartbeats 4000000 in
theorem wb_t_stripTold {p : Program} {l : Launch} {e : Env} {s : State} {m : MethodId} {args : Array Value} {below : List Frame} {meth : Method} {c : Code} {g : gG} {A : Nat → Prop} {ad : Nat → Nat} {q : xR} (X : MX p s m args meth c cX4_stripTold 3 RX4 (some (.object "DoughBorder$Dough")) g A) (had : tI_ ad) (hex : ∀ x ∈ c.exceptionTable.toList, False) {σr : cS} {o : Option Unit} {σ : cS}  {H : Heap} {locs : List Loc} {ls : Array Slot} (hW : WB g A s.heap tIds ad (xE g ad q σ) H locs) (hl : lv_has ls 3 [(0, .ref (ad 997))]) (hf : t_stripTold σ = some (σr, o)) : W p l e (rm_ 8 246) s m args below meth c H locs 0 0 (QT below g tIds ad (xE g ad q σr) (fun _ : Unit => some (.ref (ad 8999))) o A args s) (F0 m 0 ls []) := by
  have hx := X.1.1
  have hb := X.1.2.1
  unfold t_stripTold at hf
  refine lv_aload_n hx hb dX4_stripTold_0 rfl (lv_at hl 0 rfl) ?_
  refine tg_1 X hW tm_997 dX4_stripTold_1 ?_
  refine lv_aload_n hx hb dX4_stripTold_4 rfl (lv_at hl 0 rfl) ?_
  refine tg_6 X hW tm_997 dX4_stripTold_5 ?_
  refine tgo_5 X hW tm_999 dX4_stripTold_8 ?_
  obtain ⟨σ_2, h_1, hf⟩ := bd_e hf
  refine kt_copies X hW had h_1 (by decide) hl (Nat.le_of_ble_eq_true rfl) dX4_stripTold_11 (fun H locs hW => ?_)
  refine lv_pop hx hb dX4_stripTold_14 rfl ?_
  refine wt_stripTold_15 X had hex (fun σ_54 H locs ls hW hl hf => ?_) _ _ _ _ _ hW (lv_sub hl [0] rfl) hf
  refine lv_aload_n hx hb dX4_stripTold_109 rfl (lv_at hl 0 rfl) ?_
  obtain ⟨⟨σ_57, o_58⟩, h_55, hf⟩ := bd_e hf
  refine kt_ends X hW had h_55 (by decide) hl (Nat.le_of_ble_eq_true rfl) dX4_stripTold_110 (fun ho H locs q9 ce hW hc1 hc2 hc3 => by subst ho; exact t_out X hex hW hf hc1 hc2 hc3) (fun r_56 ho H locs hW => ?_)
  subst ho
  replace hf := thr_s hf
  refine lv_aload_n hx hb dX4_stripTold_113 rfl (lv_at hl 0 rfl) ?_
  refine tg_1 X hW tm_997 dX4_stripTold_114 ?_
  refine lv_aload_n hx hb dX4_stripTold_117 rfl (lv_at hl 0 rfl) ?_
  refine tg_1 X hW tm_997 dX4_stripTold_118 ?_
  refine tgd_7 X hW tm_8999 dX4_stripTold_121 ?_
  refine tpd_6 X hW tm_8999 dX4_stripTold_124 (fun H locs hW => ?_)
  refine lv_aload_n hx hb dX4_stripTold_127 rfl (lv_at hl 0 rfl) ?_
  refine tg_1 X hW tm_997 dX4_stripTold_128 ?_
  refine tgd_17 X hW tm_8999 dX4_stripTold_131 ?_
  refine lv_iconst (v := 0) hx hb dX4_stripTold_134 (by decide) ?_
  refine lv_aload_n hx hb dX4_stripTold_135 rfl (lv_at hl 0 rfl) ?_
  refine tg_1 X hW tm_997 dX4_stripTold_136 ?_
  refine tgd_9 X hW tm_8999 dX4_stripTold_139 ?_
  refine lv_iconst (v := 0) hx hb dX4_stripTold_142 (by decide) ?_
  refine lv_bipush (v := 10) hx hb dX4_stripTold_143 (by decide) ?_
  obtain ⟨σ_59, e_60, hf⟩ := nmb_e hf
  rw [← e_60] at hW
  clear e_60
  refine x_copy X hW hl q618 (by decide) (Nat.le_of_ble_eq_true rfl) tm_8017 tm_8009 rfl rfl (fun _ => rfl) (by decide) dX4_stripTold_145 (fun H locs hW => ?_)
  refine lv_aload_n hx hb dX4_stripTold_148 rfl (lv_at hl 0 rfl) ?_
  refine tg_1 X hW tm_997 dX4_stripTold_149 ?_
  exact t_aret X hW hf dX4_stripTold_152
theorem w_t_stripTold (l : Launch) {g : gG} {ad : Nat → Nat} {q : xR} (had : tI_ ad) {σr : cS} {o : Option Unit} {σ : cS}  (hf : t_stripTold σ = some (σr, o)) : MT l yX4_stripTold cX4_stripTold 3 (some (.object "DoughBorder$Dough")) 8 246 g tIds ad (xE g ad q σ) (xE g ad q σr) [.ref (ad 997)] (fun _ : Unit => some (.ref (ad 8999))) o :=
  MT.of (by decide) tIds_nd had (Nat.le_of_ble_eq_true rfl) (fun p e s m below meth c A ls X hex hW hl => wb_t_stripTold X had hex hW hl hf)
-- makes
noncomputable def t_makes (σ : cS) (v1 : Int32) : Option (cS × Option Unit) :=
  if 60 ≤ (σ.1 997 4) then (((t_demand σ 0 3 v1).bind fun (σ_4, o_5) => thr σ_4 o_5 fun _ => some ((si σ_4 997 4 ((σ_4.1 997 4) + 1)), some ()))) else (((t_demand σ 1 3 v1).bind fun (σ_8, o_9) => thr σ_8 o_9 fun _ => some ((si σ_8 997 4 ((σ_8.1 997 4) + 1)), some ())))
set_option maxHeartbeats 4000000 in
theorem wb_t_makes {p : Program} {l : Launch} {e : Env} {s : State} {m : MethodId} {args : Array Value} {below : List Frame} {meth : Method} {c : Code} {g : gG} {A : Nat → Prop} {ad : Nat → Nat} {q : xR} (X : MX p s m args meth c cX4_makes 2 RX4 none g A) (had : tI_ ad) (hex : ∀ x ∈ c.exceptionTable.toList, False) {σr : cS} {o : Option Unit} {σ : cS} {v1 : Int32}  {H : Heap} {locs : List Loc} {ls : Array Slot} (hW : WB g A s.heap tIds ad (xE g ad q σ) H locs) (hl : lv_has ls 2 [(0, .ref (ad 997)), (1, .int v1)]) (hf : t_makes σ v1 = some (σr, o)) : W p l e (rm_ 3 83) s m args below meth c H locs 0 0 (QT below g tIds ad (xE g ad q σr) (fun _ : Unit => none) o A args s) (F0 m 0 ls []) := by
  have hx := X.1.1
  have hb := X.1.2.1
  unfold t_makes at hf
  refine lv_aload_n hx hb dX4_makes_0 rfl (lv_at hl 0 rfl) ?_
  refine lv_aload_n hx hb dX4_makes_1 rfl (lv_at hl 0 rfl) ?_
  refine tg_4 X hW tm_997 dX4_makes_2 ?_
  refine lv_bipush (v := 60) hx hb dX4_makes_5 (by decide) ?_
  refine lv_icmp_ge (tgt := 14) hx hb dX4_makes_7 (by decide) (fun c_1 => ?_) (fun c_1 => ?_)
  · replace hf := ip hf c_1
    refine lv_iconst (v := 0) hx hb dX4_makes_14 (by decide) ?_
    refine lv_iconst (v := 3) hx hb dX4_makes_15 (by decide) ?_
    refine lv_iload_n hx hb dX4_makes_16 rfl (lv_at hl 1 rfl) ?_
    obtain ⟨⟨σ_4, o_5⟩, h_2, hf⟩ := bd_e hf
    refine kt_demand X hW had h_2 (by decide) hl (Nat.le_of_ble_eq_true rfl) dX4_makes_17 (fun ho H locs q9 ce hW hc1 hc2 hc3 => by subst ho; exact t_out X hex hW hf hc1 hc2 hc3) (fun r_3 ho H locs hW => ?_)
    subst ho
    replace hf := thr_s hf
    refine lv_aload_n hx hb dX4_makes_20 rfl (lv_at hl 0 rfl) ?_
    refine lv_dup hx hb dX4_makes_21 rfl ?_
    refine tg_4 X hW tm_997 dX4_makes_22 ?_
    refine lv_iconst (v := 1) hx hb dX4_makes_25 (by decide) ?_
    refine lv_iadd hx hb dX4_makes_26 ?_
    refine tp_4 X hW tm_997 dX4_makes_27 (fun H locs hW => ?_)
    exact t_vret X hW hf dX4_makes_30
  · replace hf := ine hf c_1
    refine lv_iconst (v := 1) hx hb dX4_makes_10 (by decide) ?_
    refine lv_goto (tgt := 15) hx hb dX4_makes_11 (by decide) ?_
    refine lv_iconst (v := 3) hx hb dX4_makes_15 (by decide) ?_
    refine lv_iload_n hx hb dX4_makes_16 rfl (lv_at hl 1 rfl) ?_
    obtain ⟨⟨σ_8, o_9⟩, h_6, hf⟩ := bd_e hf
    refine kt_demand X hW had h_6 (by decide) hl (Nat.le_of_ble_eq_true rfl) dX4_makes_17 (fun ho H locs q9 ce hW hc1 hc2 hc3 => by subst ho; exact t_out X hex hW hf hc1 hc2 hc3) (fun r_7 ho H locs hW => ?_)
    subst ho
    replace hf := thr_s hf
    refine lv_aload_n hx hb dX4_makes_20 rfl (lv_at hl 0 rfl) ?_
    refine lv_dup hx hb dX4_makes_21 rfl ?_
    refine tg_4 X hW tm_997 dX4_makes_22 ?_
    refine lv_iconst (v := 1) hx hb dX4_makes_25 (by decide) ?_
    refine lv_iadd hx hb dX4_makes_26 ?_
    refine tp_4 X hW tm_997 dX4_makes_27 (fun H locs hW => ?_)
    exact t_vret X hW hf dX4_makes_30
theorem w_t_makes (l : Launch) {g : gG} {ad : Nat → Nat} {q : xR} (had : tI_ ad) {σr : cS} {o : Option Unit} {σ : cS} {v1 : Int32}  (hf : t_makes σ v1 = some (σr, o)) : MT l yX4_makes cX4_makes 2 none 3 83 g tIds ad (xE g ad q σ) (xE g ad q σr) [.ref (ad 997), .int v1] (fun _ : Unit => none) o :=
  MT.of (by decide) tIds_nd had (Nat.le_of_ble_eq_true rfl) (fun p e s m below meth c A ls X hex hW hl => wb_t_makes X had hex hW hl hf)
theorem kt_makes {p : Program} {l : Launch} {e : Env} {R : Room} {s : State} {m : MethodId} {args : Array Value} {below : List Frame} {meth : Method} {c : Code} {H : Heap} {locs : List Loc} {Q : State → Prop} {cc : ByteArray} {nL : Nat} {ret : Option FieldType} {g : gG} {A : Nat → Prop} {ad : Nat → Nat} {q : xR} {pc : Nat} {ls : Array Slot} {rest : List Value} {lv : List (Nat × Value)} {σr : cS} {o : Option Unit} {σ : cS} {v1 : Int32} (X : MX p s m args meth c cc nL RX4 ret g A) (hW : WB g A s.heap tIds ad (xE g ad q σ) H locs) (had : tI_ ad)  (hf : t_makes σ v1 = some (σr, o)) (hR : 4 ≤ R.frames ∧ 104 ≤ R.locals) (hl : lv_has ls nL lv) (hcat : (rest.map fun v => v.category).sum ≤ 8) (hdg : decode cc pc = .ok (.invokevirtual 251, 3)) (kx : o = none → ∀ (H1 : Heap) (l1 : List Loc) (q9 : Addr) (ce : Cell), WB g A s.heap tIds ad (xE g ad q σr) H1 l1 → H1[q9]? = some ce → ce.vm = .none → s.vm.findClass RX2 = some ce.cls → vx_W p l e R s m args below meth c H1 l1 0 0 Q (F0 m pc ls rest) q9) (kk : ∀ r : Unit, o = some r → ∀ (H1 : Heap) (l1 : List Loc), WB g A s.heap tIds ad (xE g ad q σr) H1 l1 → W p l e R s m args below meth c H1 l1 0 0 Q (F0 m (pc + 3) ls (rest))) : W p l e R s m args below meth c H locs 0 0 Q (F0 m pc ls (.int v1 :: .ref (ad 997) :: rest)) :=
  t_callV X hW Sub.all (w_t_makes l had hf) (lw_V q681 q683 qs21 q127 q684) ⟨rfl, by decide, by decide, by decide +kernel⟩ tm_997 rfl rfl (n := 1) hR hl rfl rfl hcat hdg kx kk
-- takesWord
noncomputable def t_takesWord (σ : cS) (v1 : Nat) : Option (cS × Int32) :=
  ((t_isWord σ v1).bind fun (σ_3, r_2) => if r_2 = 0 then (some (σ_3, 0)) else (some ((si σ_3 997 2 ((σ_3.1 997 2) + (nI (stC v1).length))), 1)))
set_option maxHeartbeats 4000000 in
theorem wb_t_takesWord {p : Program} {l : Launch} {e : Env} {s : State} {m : MethodId} {args : Array Value} {below : List Frame} {meth : Method} {c : Code} {g : gG} {A : Nat → Prop} {ad : Nat → Nat} {q : xR} (X : MX p s m args meth c cX4_takesWord 2 RX4 (some .boolean) g A) (had : tI_ ad) {σr : cS} {r : Int32} {σ : cS} {v1 : Nat} (hs_v1 : v1 < 43) {H : Heap} {locs : List Loc} {ls : Array Slot} (hW : WB g A s.heap tIds ad (xE g ad q σ) H locs) (hl : lv_has ls 2 [(0, .ref (ad 997)), (1, .ref (g.2.2.1 v1))]) (hf : t_takesWord σ v1 = some (σr, r)) : W p l e (rm_ 7 224) s m args below meth c H locs 0 0 (Qm below g tIds ad (xE g ad q σr) (some (.int r)) A args s) (F0 m 0 ls []) := by
  have hx := X.1.1
  have hb := X.1.2.1
  unfold t_takesWord at hf
  refine lv_aload_n hx hb dX4_takesWord_0 rfl (lv_at hl 0 rfl) ?_
  refine lv_aload_n hx hb dX4_takesWord_1 rfl (lv_at hl 1 rfl) ?_
  obtain ⟨⟨σ_3, r_2⟩, h_1, hf⟩ := bd_e hf
  refine kt_isWord X hW had hs_v1 h_1 (by decide) hl (Nat.le_of_ble_eq_true rfl) dX4_takesWord_2 (fun H locs hW => ?_)
  refine lv_if_ne (tgt := 10) hx hb dX4_takesWord_5 (by decide) (fun c_4 => ?_) (fun c_4 => ?_)
  · replace hf := ine hf c_4
    refine lv_aload_n hx hb dX4_takesWord_10 rfl (lv_at hl 0 rfl) ?_
    refine lv_dup hx hb dX4_takesWord_11 rfl ?_
    refine tg_2 X hW tm_997 dX4_takesWord_12 ?_
    refine lv_aload_n hx hb dX4_takesWord_15 rfl (lv_at hl 1 rfl) ?_
    refine k_slen X hW hs_v1 (by decide) hl (Nat.le_of_ble_eq_true rfl) q527 dX4_takesWord_16 (fun H locs hW => ?_)
    refine lv_iadd hx hb dX4_takesWord_19 ?_
    refine tp_2 X hW tm_997 dX4_takesWord_20 (fun H locs hW => ?_)
    refine lv_iconst (v := 1) hx hb dX4_takesWord_23 (by decide) ?_
    exact x_zret X hW hf (by decide) dX4_takesWord_24
  · replace hf := ip hf c_4
    refine lv_iconst (v := 0) hx hb dX4_takesWord_8 (by decide) ?_
    exact x_zret X hW hf (by decide) dX4_takesWord_9
theorem w_t_takesWord (l : Launch) {g : gG} {ad : Nat → Nat} {q : xR} (had : tI_ ad) {σr : cS} {r : Int32} {σ : cS} {v1 : Nat} (hs_v1 : v1 < 43) (hf : t_takesWord σ v1 = some (σr, r)) : MC l yX4_takesWord cX4_takesWord 2 (some .boolean) 7 224 g tIds ad (xE g ad q σ) (xE g ad q σr) [.ref (ad 997), .ref (g.2.2.1 v1)] (some (.int r)) :=
  MC.of (by decide) tIds_nd had (Nat.le_of_ble_eq_true rfl) (fun p e s m below meth c A ls X hW hl => wb_t_takesWord X had hs_v1 hW hl hf)
theorem kt_takesWord {p : Program} {l : Launch} {e : Env} {R : Room} {s : State} {m : MethodId} {args : Array Value} {below : List Frame} {meth : Method} {c : Code} {H : Heap} {locs : List Loc} {Q : State → Prop} {cc : ByteArray} {nL : Nat} {ret : Option FieldType} {g : gG} {A : Nat → Prop} {ad : Nat → Nat} {q : xR} {pc : Nat} {ls : Array Slot} {rest : List Value} {lv : List (Nat × Value)} {σr : cS} {r : Int32} {σ : cS} {v1 : Nat} (X : MX p s m args meth c cc nL RX4 ret g A) (hW : WB g A s.heap tIds ad (xE g ad q σ) H locs) (had : tI_ ad) (hs_v1 : v1 < 43) (hf : t_takesWord σ v1 = some (σr, r)) (hR : 8 ≤ R.frames ∧ 245 ≤ R.locals) (hl : lv_has ls nL lv) (hcat : (rest.map fun v => v.category).sum ≤ 8) (hdg : decode cc pc = .ok (.invokevirtual 197, 3)) (kk : ∀ (H1 : Heap) (l1 : List Loc), WB g A s.heap tIds ad (xE g ad q σr) H1 l1 → W p l e R s m args below meth c H1 l1 0 0 Q (F0 m (pc + 3) ls (.int r :: rest))) : W p l e R s m args below meth c H locs 0 0 Q (F0 m pc ls (.ref (g.2.2.1 v1) :: .ref (ad 997) :: rest)) :=
  r_callV X hW Sub.all (w_t_takesWord l had hs_v1 hf) (lw_V q725 q727 qs22 q127 q728) ⟨rfl, by decide, by decide, by decide +kernel⟩ tm_997 rfl rfl (n := 1) hR hl rfl rfl hcat ⟨Nat.zero_le _, Nat.zero_le _⟩ hdg kk
-- opens
noncomputable def t_opens (σ : cS) (v1 : Int32) : Option (cS × Option Unit) :=
  if 10 ≤ (σ.1 997 3) then (((t_demand σ 0 2 v1).bind fun (σ_4, o_5) => thr σ_4 o_5 fun _ => some ((si σ_4 997 3 ((σ_4.1 997 3) + 1)), some ()))) else (((t_demand σ 1 2 v1).bind fun (σ_8, o_9) => thr σ_8 o_9 fun _ => some ((si σ_8 997 3 ((σ_8.1 997 3) + 1)), some ())))
set_option maxHeartbeats 4000000 in
theorem wb_t_opens {p : Program} {l : Launch} {e : Env} {s : State} {m : MethodId} {args : Array Value} {below : List Frame} {meth : Method} {c : Code} {g : gG} {A : Nat → Prop} {ad : Nat → Nat} {q : xR} (X : MX p s m args meth c cX4_opens 2 RX4 none g A) (had : tI_ ad) (hex : ∀ x ∈ c.exceptionTable.toList, False) {σr : cS} {o : Option Unit} {σ : cS} {v1 : Int32}  {H : Heap} {locs : List Loc} {ls : Array Slot} (hW : WB g A s.heap tIds ad (xE g ad q σ) H locs) (hl : lv_has ls 2 [(0, .ref (ad 997)), (1, .int v1)]) (hf : t_opens σ v1 = some (σr, o)) : W p l e (rm_ 3 83) s m args below meth c H locs 0 0 (QT below g tIds ad (xE g ad q σr) (fun _ : Unit => none) o A args s) (F0 m 0 ls []) := by
  have hx := X.1.1
  have hb := X.1.2.1
  unfold t_opens at hf
  refine lv_aload_n hx hb dX4_opens_0 rfl (lv_at hl 0 rfl) ?_
  refine lv_aload_n hx hb dX4_opens_1 rfl (lv_at hl 0 rfl) ?_
  refine tg_3 X hW tm_997 dX4_opens_2 ?_
  refine lv_bipush (v := 10) hx hb dX4_opens_5 (by decide) ?_
  refine lv_icmp_ge (tgt := 14) hx hb dX4_opens_7 (by decide) (fun c_1 => ?_) (fun c_1 => ?_)
  · replace hf := ip hf c_1
    refine lv_iconst (v := 0) hx hb dX4_opens_14 (by decide) ?_
    refine lv_iconst (v := 2) hx hb dX4_opens_15 (by decide) ?_
    refine lv_iload_n hx hb dX4_opens_16 rfl (lv_at hl 1 rfl) ?_
    obtain ⟨⟨σ_4, o_5⟩, h_2, hf⟩ := bd_e hf
    refine kt_demand X hW had h_2 (by decide) hl (Nat.le_of_ble_eq_true rfl) dX4_opens_17 (fun ho H locs q9 ce hW hc1 hc2 hc3 => by subst ho; exact t_out X hex hW hf hc1 hc2 hc3) (fun r_3 ho H locs hW => ?_)
    subst ho
    replace hf := thr_s hf
    refine lv_aload_n hx hb dX4_opens_20 rfl (lv_at hl 0 rfl) ?_
    refine lv_dup hx hb dX4_opens_21 rfl ?_
    refine tg_3 X hW tm_997 dX4_opens_22 ?_
    refine lv_iconst (v := 1) hx hb dX4_opens_25 (by decide) ?_
    refine lv_iadd hx hb dX4_opens_26 ?_
    refine tp_3 X hW tm_997 dX4_opens_27 (fun H locs hW => ?_)
    exact t_vret X hW hf dX4_opens_30
  · replace hf := ine hf c_1
    refine lv_iconst (v := 1) hx hb dX4_opens_10 (by decide) ?_
    refine lv_goto (tgt := 15) hx hb dX4_opens_11 (by decide) ?_
    refine lv_iconst (v := 2) hx hb dX4_opens_15 (by decide) ?_
    refine lv_iload_n hx hb dX4_opens_16 rfl (lv_at hl 1 rfl) ?_
    obtain ⟨⟨σ_8, o_9⟩, h_6, hf⟩ := bd_e hf
    refine kt_demand X hW had h_6 (by decide) hl (Nat.le_of_ble_eq_true rfl) dX4_opens_17 (fun ho H locs q9 ce hW hc1 hc2 hc3 => by subst ho; exact t_out X hex hW hf hc1 hc2 hc3) (fun r_7 ho H locs hW => ?_)
    subst ho
    replace hf := thr_s hf
    refine lv_aload_n hx hb dX4_opens_20 rfl (lv_at hl 0 rfl) ?_
    refine lv_dup hx hb dX4_opens_21 rfl ?_
    refine tg_3 X hW tm_997 dX4_opens_22 ?_
    refine lv_iconst (v := 1) hx hb dX4_opens_25 (by decide) ?_
    refine lv_iadd hx hb dX4_opens_26 ?_
    refine tp_3 X hW tm_997 dX4_opens_27 (fun H locs hW => ?_)
    exact t_vret X hW hf dX4_opens_30
theorem w_t_opens (l : Launch) {g : gG} {ad : Nat → Nat} {q : xR} (had : tI_ ad) {σr : cS} {o : Option Unit} {σ : cS} {v1 : Int32}  (hf : t_opens σ v1 = some (σr, o)) : MT l yX4_opens cX4_opens 2 none 3 83 g tIds ad (xE g ad q σ) (xE g ad q σr) [.ref (ad 997), .int v1] (fun _ : Unit => none) o :=
  MT.of (by decide) tIds_nd had (Nat.le_of_ble_eq_true rfl) (fun p e s m below meth c A ls X hex hW hl => wb_t_opens X had hex hW hl hf)
theorem kt_opens {p : Program} {l : Launch} {e : Env} {R : Room} {s : State} {m : MethodId} {args : Array Value} {below : List Frame} {meth : Method} {c : Code} {H : Heap} {locs : List Loc} {Q : State → Prop} {cc : ByteArray} {nL : Nat} {ret : Option FieldType} {g : gG} {A : Nat → Prop} {ad : Nat → Nat} {q : xR} {pc : Nat} {ls : Array Slot} {rest : List Value} {lv : List (Nat × Value)} {σr : cS} {o : Option Unit} {σ : cS} {v1 : Int32} (X : MX p s m args meth c cc nL RX4 ret g A) (hW : WB g A s.heap tIds ad (xE g ad q σ) H locs) (had : tI_ ad)  (hf : t_opens σ v1 = some (σr, o)) (hR : 4 ≤ R.frames ∧ 104 ≤ R.locals) (hl : lv_has ls nL lv) (hcat : (rest.map fun v => v.category).sum ≤ 8) (hdg : decode cc pc = .ok (.invokevirtual 240, 3)) (kx : o = none → ∀ (H1 : Heap) (l1 : List Loc) (q9 : Addr) (ce : Cell), WB g A s.heap tIds ad (xE g ad q σr) H1 l1 → H1[q9]? = some ce → ce.vm = .none → s.vm.findClass RX2 = some ce.cls → vx_W p l e R s m args below meth c H1 l1 0 0 Q (F0 m pc ls rest) q9) (kk : ∀ r : Unit, o = some r → ∀ (H1 : Heap) (l1 : List Loc), WB g A s.heap tIds ad (xE g ad q σr) H1 l1 → W p l e R s m args below meth c H1 l1 0 0 Q (F0 m (pc + 3) ls (rest))) : W p l e R s m args below meth c H locs 0 0 Q (F0 m pc ls (.int v1 :: .ref (ad 997) :: rest)) :=
  t_callV X hW Sub.all (w_t_opens l had hf) (lw_V q742 q744 qs26 q127 q745) ⟨rfl, by decide, by decide, by decide +kernel⟩ tm_997 rfl rfl (n := 1) hR hl rfl rfl hcat hdg kx kk
-- sign
noncomputable def t_sign (σ : cS) : Option (cS × Option Int32) :=
  ((t_see σ).bind fun (σ_3, r_2) => if r_2 = 60 then (((t_demand σ_3 1 0 (σ_3.1 997 2)).bind fun (σ_7, o_8) => thr σ_7 o_8 fun _ => if r_2 = 61 then (some ((si σ_7 997 2 ((σ_7.1 997 2) + 1)), some 2)) else (if ((si σ_7 997 2 ((σ_7.1 997 2) + 1)).1 999 10) ≤ ((si σ_7 997 2 ((σ_7.1 997 2) + 1)).1 997 2) then (if r_2 = 60 then (some ((si σ_7 997 2 ((σ_7.1 997 2) + 1)), some 0)) else (some ((si σ_7 997 2 ((σ_7.1 997 2) + 1)), some 4))) else (gd (inb ((si σ_7 997 2 ((σ_7.1 997 2) + 1)).1 997 2) 400) (if ((si σ_7 997 2 ((σ_7.1 997 2) + 1)).1 9 (ix ((si σ_7 997 2 ((σ_7.1 997 2) + 1)).1 997 2))) = 61 then (nmb (si σ_7 997 2 ((σ_7.1 997 2) + 1)) fun σ_22 => (if r_2 = 60 then (some ((si σ_22 997 2 (((si σ_7 997 2 ((σ_7.1 997 2) + 1)).1 997 2) + 1)), some 1)) else (some ((si σ_22 997 2 (((si σ_7 997 2 ((σ_7.1 997 2) + 1)).1 997 2) + 1)), some 3)))) else (if r_2 = 60 then (some ((si σ_7 997 2 ((σ_7.1 997 2) + 1)), some 0)) else (some ((si σ_7 997 2 ((σ_7.1 997 2) + 1)), some 4)))))))) else (if r_2 = 61 then (((t_demand σ_3 1 0 (σ_3.1 997 2)).bind fun (σ_30, o_31) => thr σ_30 o_31 fun _ => if r_2 = 61 then (some ((si σ_30 997 2 ((σ_30.1 997 2) + 1)), some 2)) else (if ((si σ_30 997 2 ((σ_30.1 997 2) + 1)).1 999 10) ≤ ((si σ_30 997 2 ((σ_30.1 997 2) + 1)).1 997 2) then (if r_2 = 60 then (some ((si σ_30 997 2 ((σ_30.1 997 2) + 1)), some 0)) else (some ((si σ_30 997 2 ((σ_30.1 997 2) + 1)), some 4))) else (gd (inb ((si σ_30 997 2 ((σ_30.1 997 2) + 1)).1 997 2) 400) (if ((si σ_30 997 2 ((σ_30.1 997 2) + 1)).1 9 (ix ((si σ_30 997 2 ((σ_30.1 997 2) + 1)).1 997 2))) = 61 then (nmb (si σ_30 997 2 ((σ_30.1 997 2) + 1)) fun σ_45 => (if r_2 = 60 then (some ((si σ_45 997 2 (((si σ_30 997 2 ((σ_30.1 997 2) + 1)).1 997 2) + 1)), some 1)) else (some ((si σ_45 997 2 (((si σ_30 997 2 ((σ_30.1 997 2) + 1)).1 997 2) + 1)), some 3)))) else (if r_2 = 60 then (some ((si σ_30 997 2 ((σ_30.1 997 2) + 1)), some 0)) else (some ((si σ_30 997 2 ((σ_30.1 997 2) + 1)), some 4)))))))) else (if r_2 = 62 then (((t_demand σ_3 1 0 (σ_3.1 997 2)).bind fun (σ_75, o_76) => thr σ_75 o_76 fun _ => if r_2 = 61 then (some ((si σ_75 997 2 ((σ_75.1 997 2) + 1)), some 2)) else (if ((si σ_75 997 2 ((σ_75.1 997 2) + 1)).1 999 10) ≤ ((si σ_75 997 2 ((σ_75.1 997 2) + 1)).1 997 2) then (if r_2 = 60 then (some ((si σ_75 997 2 ((σ_75.1 997 2) + 1)), some 0)) else (some ((si σ_75 997 2 ((σ_75.1 997 2) + 1)), some 4))) else (gd (inb ((si σ_75 997 2 ((σ_75.1 997 2) + 1)).1 997 2) 400) (if ((si σ_75 997 2 ((σ_75.1 997 2) + 1)).1 9 (ix ((si σ_75 997 2 ((σ_75.1 997 2) + 1)).1 997 2))) = 61 then (nmb (si σ_75 997 2 ((σ_75.1 997 2) + 1)) fun σ_90 => (if r_2 = 60 then (some ((si σ_90 997 2 (((si σ_75 997 2 ((σ_75.1 997 2) + 1)).1 997 2) + 1)), some 1)) else (some ((si σ_90 997 2 (((si σ_75 997 2 ((σ_75.1 997 2) + 1)).1 997 2) + 1)), some 3)))) else (if r_2 = 60 then (some ((si σ_75 997 2 ((σ_75.1 997 2) + 1)), some 0)) else (some ((si σ_75 997 2 ((σ_75.1 997 2) + 1)), some 4)))))))) else (((t_demand σ_3 0 0 (σ_3.1 997 2)).bind fun (σ_53, o_54) => thr σ_53 o_54 fun _ => if r_2 = 61 then (some ((si σ_53 997 2 ((σ_53.1 997 2) + 1)), some 2)) else (if ((si σ_53 997 2 ((σ_53.1 997 2) + 1)).1 999 10) ≤ ((si σ_53 997 2 ((σ_53.1 997 2) + 1)).1 997 2) then (if r_2 = 60 then (some ((si σ_53 997 2 ((σ_53.1 997 2) + 1)), some 0)) else (some ((si σ_53 997 2 ((σ_53.1 997 2) + 1)), some 4))) else (gd (inb ((si σ_53 997 2 ((σ_53.1 997 2) + 1)).1 997 2) 400) (if ((si σ_53 997 2 ((σ_53.1 997 2) + 1)).1 9 (ix ((si σ_53 997 2 ((σ_53.1 997 2) + 1)).1 997 2))) = 61 then (nmb (si σ_53 997 2 ((σ_53.1 997 2) + 1)) fun σ_68 => (if r_2 = 60 then (some ((si σ_68 997 2 (((si σ_53 997 2 ((σ_53.1 997 2) + 1)).1 997 2) + 1)), some 1)) else (some ((si σ_68 997 2 (((si σ_53 997 2 ((σ_53.1 997 2) + 1)).1 997 2) + 1)), some 3)))) else (if r_2 = 60 then (some ((si σ_53 997 2 ((σ_53.1 997 2) + 1)), some 0)) else (some ((si σ_53 997 2 ((σ_53.1 997 2) + 1)), some 4)))))))))))
set_option maxHeartbeats 4000000 in
theorem wb_t_sign {p : Program} {l : Launch} {e : Env} {s : State} {m : MethodId} {args : Array Value} {below : List Frame} {meth : Method} {c : Code} {g : gG} {A : Nat → Prop} {ad : Nat → Nat} {q : xR} (X : MX p s m args meth c cX4_sign 3 RX4 (some .int) g A) (had : tI_ ad) (hex : ∀ x ∈ c.exceptionTable.toList, False) {σr : cS} {o : Option Int32} {σ : cS}  {H : Heap} {locs : List Loc} {ls : Array Slot} (hW : WB g A s.heap tIds ad (xE g ad q σ) H locs) (hl : lv_has ls 3 [(0, .ref (ad 997))]) (hf : t_sign σ = some (σr, o)) : W p l e (rm_ 3 83) s m args below meth c H locs 0 0 (QT below g tIds ad (xE g ad q σr) (fun r : Int32 => some (.int r)) o A args s) (F0 m 0 ls []) := by
  have hx := X.1.1
  have hb := X.1.2.1
  unfold t_sign at hf
  refine lv_aload_n hx hb dX4_sign_0 rfl (lv_at hl 0 rfl) ?_
  obtain ⟨⟨σ_3, r_2⟩, h_1, hf⟩ := bd_e hf
  refine kt_see X hW had h_1 (by decide) hl (Nat.le_of_ble_eq_true rfl) dX4_sign_1 (fun H locs hW => ?_)
  refine lv_istore_n (lv' := [(1, .int r_2), (0, .ref (ad 997))]) hx hb dX4_sign_4 rfl hl (by decide) rfl (fun ls hl => ?_)
  refine lv_aload_n hx hb dX4_sign_5 rfl (lv_at hl 1 rfl) ?_
  refine lv_iload_n hx hb dX4_sign_6 rfl (lv_at hl 0 rfl) ?_
  refine lv_bipush (v := 60) hx hb dX4_sign_7 (by decide) ?_
  refine lv_icmp_eq (tgt := 24) hx hb dX4_sign_9 (by decide) (fun c_4 => ?_) (fun c_4 => ?_)
  · replace hf := ip hf c_4
    refine lv_iconst (v := 1) hx hb dX4_sign_24 (by decide) ?_
    refine lv_goto (tgt := 29) hx hb dX4_sign_25 (by decide) ?_
    refine lv_iconst (v := 0) hx hb dX4_sign_29 (by decide) ?_
    refine lv_aload_n hx hb dX4_sign_30 rfl (lv_at hl 1 rfl) ?_
    refine tg_2 X hW tm_997 dX4_sign_31 ?_
    obtain ⟨⟨σ_7, o_8⟩, h_5, hf⟩ := bd_e hf
    refine kt_demand X hW had h_5 (by decide) hl (Nat.le_of_ble_eq_true rfl) dX4_sign_34 (fun ho H locs q9 ce hW hc1 hc2 hc3 => by subst ho; exact t_out X hex hW hf hc1 hc2 hc3) (fun r_6 ho H locs hW => ?_)
    subst ho
    replace hf := thr_s hf
    refine lv_aload_n hx hb dX4_sign_37 rfl (lv_at hl 1 rfl) ?_
    refine lv_dup hx hb dX4_sign_38 rfl ?_
    refine tg_2 X hW tm_997 dX4_sign_39 ?_
    refine lv_iconst (v := 1) hx hb dX4_sign_42 (by decide) ?_
    refine lv_iadd hx hb dX4_sign_43 ?_
    refine tp_2 X hW tm_997 dX4_sign_44 (fun H locs hW => ?_)
    refine lv_iload_n hx hb dX4_sign_47 rfl (lv_at hl 0 rfl) ?_
    refine lv_bipush (v := 61) hx hb dX4_sign_48 (by decide) ?_
    refine lv_icmp_ne (tgt := 55) hx hb dX4_sign_50 (by decide) (fun c_9 => ?_) (fun c_9 => ?_)
    · replace hf := ine hf c_9
      refine lv_aload_n hx hb dX4_sign_55 rfl (lv_at hl 1 rfl) ?_
      refine tg_2 X hW tm_997 dX4_sign_56 ?_
      refine lv_aload_n hx hb dX4_sign_59 rfl (lv_at hl 1 rfl) ?_
      refine tg_6 X hW tm_997 dX4_sign_60 ?_
      refine tgo_10 X hW tm_999 dX4_sign_63 ?_
      refine lv_icmp_ge (tgt := 90) hx hb dX4_sign_66 (by decide) (fun c_10 => ?_) (fun c_10 => ?_)
      · replace hf := ip hf c_10
        refine lv_iconst (v := 0) hx hb dX4_sign_90 (by decide) ?_
        refine lv_istore_n (lv' := [(2, .int 0), (1, .int r_2), (0, .ref (ad 997))]) hx hb dX4_sign_91 rfl hl (by decide) rfl (fun ls hl => ?_)
        refine lv_iload_n hx hb dX4_sign_92 rfl (lv_at hl 0 rfl) ?_
        refine lv_if_eq (tgt := 106) hx hb dX4_sign_93 (by decide) (fun c_11 => ?_) (fun c_11 => absurd c_11 (by decide))
        refine lv_iload_n hx hb dX4_sign_106 rfl (lv_at hl 1 rfl) ?_
        refine lv_bipush (v := 60) hx hb dX4_sign_107 (by decide) ?_
        refine lv_icmp_ne (tgt := 124) hx hb dX4_sign_109 (by decide) (fun c_12 => ?_) (fun c_12 => ?_)
        · replace hf := ine hf c_12
          refine lv_iload_n hx hb dX4_sign_124 rfl (lv_at hl 0 rfl) ?_
          refine lv_if_eq (tgt := 132) hx hb dX4_sign_125 (by decide) (fun c_13 => ?_) (fun c_13 => absurd c_13 (by decide))
          refine lv_iconst (v := 4) hx hb dX4_sign_132 (by decide) ?_
          exact t_iret X hW hf dX4_sign_133
        · replace hf := ip hf c_12
          refine lv_iload_n hx hb dX4_sign_112 rfl (lv_at hl 0 rfl) ?_
          refine lv_if_eq (tgt := 120) hx hb dX4_sign_113 (by decide) (fun c_14 => ?_) (fun c_14 => absurd c_14 (by decide))
          refine lv_iconst (v := 0) hx hb dX4_sign_120 (by decide) ?_
          refine lv_goto (tgt := 133) hx hb dX4_sign_121 (by decide) ?_
          exact t_iret X hW hf dX4_sign_133
      · replace hf := ine hf c_10
        refine lv_aload_n hx hb dX4_sign_69 rfl (lv_at hl 1 rfl) ?_
        refine tg_6 X hW tm_997 dX4_sign_70 ?_
        refine tgo_9 X hW tm_999 dX4_sign_73 ?_
        refine lv_aload_n hx hb dX4_sign_76 rfl (lv_at hl 1 rfl) ?_
        refine tg_2 X hW tm_997 dX4_sign_77 ?_
        obtain ⟨h_15, hf⟩ := gd_e hf
        refine xl_9 X hW tm_9 h_15 dX4_sign_80 ?_
        refine lv_bipush (v := 61) hx hb dX4_sign_81 (by decide) ?_
        refine lv_icmp_ne (tgt := 90) hx hb dX4_sign_83 (by decide) (fun c_16 => ?_) (fun c_16 => ?_)
        · replace hf := ine hf c_16
          refine lv_iconst (v := 0) hx hb dX4_sign_90 (by decide) ?_
          refine lv_istore_n (lv' := [(2, .int 0), (1, .int r_2), (0, .ref (ad 997))]) hx hb dX4_sign_91 rfl hl (by decide) rfl (fun ls hl => ?_)
          refine lv_iload_n hx hb dX4_sign_92 rfl (lv_at hl 0 rfl) ?_
          refine lv_if_eq (tgt := 106) hx hb dX4_sign_93 (by decide) (fun c_17 => ?_) (fun c_17 => absurd c_17 (by decide))
          refine lv_iload_n hx hb dX4_sign_106 rfl (lv_at hl 1 rfl) ?_
          refine lv_bipush (v := 60) hx hb dX4_sign_107 (by decide) ?_
          refine lv_icmp_ne (tgt := 124) hx hb dX4_sign_109 (by decide) (fun c_18 => ?_) (fun c_18 => ?_)
          · replace hf := ine hf c_18
            refine lv_iload_n hx hb dX4_sign_124 rfl (lv_at hl 0 rfl) ?_
            refine lv_if_eq (tgt := 132) hx hb dX4_sign_125 (by decide) (fun c_19 => ?_) (fun c_19 => absurd c_19 (by decide))
            refine lv_iconst (v := 4) hx hb dX4_sign_132 (by decide) ?_
            exact t_iret X hW hf dX4_sign_133
          · replace hf := ip hf c_18
            refine lv_iload_n hx hb dX4_sign_112 rfl (lv_at hl 0 rfl) ?_
            refine lv_if_eq (tgt := 120) hx hb dX4_sign_113 (by decide) (fun c_20 => ?_) (fun c_20 => absurd c_20 (by decide))
            refine lv_iconst (v := 0) hx hb dX4_sign_120 (by decide) ?_
            refine lv_goto (tgt := 133) hx hb dX4_sign_121 (by decide) ?_
            exact t_iret X hW hf dX4_sign_133
        · replace hf := ip hf c_16
          refine lv_iconst (v := 1) hx hb dX4_sign_86 (by decide) ?_
          refine lv_goto (tgt := 91) hx hb dX4_sign_87 (by decide) ?_
          refine lv_istore_n (lv' := [(2, .int 1), (1, .int r_2), (0, .ref (ad 997))]) hx hb dX4_sign_91 rfl hl (by decide) rfl (fun ls hl => ?_)
          refine lv_iload_n hx hb dX4_sign_92 rfl (lv_at hl 0 rfl) ?_
          refine lv_if_eq (tgt := 106) hx hb dX4_sign_93 (by decide) (fun c_21 => absurd c_21 (by decide)) (fun c_21 => ?_)
          refine lv_aload_n hx hb dX4_sign_96 rfl (lv_at hl 2 rfl) ?_
          refine lv_dup hx hb dX4_sign_97 rfl ?_
          refine tg_2 X hW tm_997 dX4_sign_98 ?_
          refine lv_iconst (v := 1) hx hb dX4_sign_101 (by decide) ?_
          refine lv_iadd hx hb dX4_sign_102 ?_
          obtain ⟨σ_22, e_23, hf⟩ := nmb_e hf
          rw [← e_23] at hW
          clear e_23
          refine tp_2 X hW tm_997 dX4_sign_103 (fun H locs hW => ?_)
          refine lv_iload_n hx hb dX4_sign_106 rfl (lv_at hl 1 rfl) ?_
          refine lv_bipush (v := 60) hx hb dX4_sign_107 (by decide) ?_
          refine lv_icmp_ne (tgt := 124) hx hb dX4_sign_109 (by decide) (fun c_24 => ?_) (fun c_24 => ?_)
          · replace hf := ine hf c_24
            refine lv_iload_n hx hb dX4_sign_124 rfl (lv_at hl 0 rfl) ?_
            refine lv_if_eq (tgt := 132) hx hb dX4_sign_125 (by decide) (fun c_25 => absurd c_25 (by decide)) (fun c_25 => ?_)
            refine lv_iconst (v := 3) hx hb dX4_sign_128 (by decide) ?_
            refine lv_goto (tgt := 133) hx hb dX4_sign_129 (by decide) ?_
            exact t_iret X hW hf dX4_sign_133
          · replace hf := ip hf c_24
            refine lv_iload_n hx hb dX4_sign_112 rfl (lv_at hl 0 rfl) ?_
            refine lv_if_eq (tgt := 120) hx hb dX4_sign_113 (by decide) (fun c_26 => absurd c_26 (by decide)) (fun c_26 => ?_)
            refine lv_iconst (v := 1) hx hb dX4_sign_116 (by decide) ?_
            refine lv_goto (tgt := 133) hx hb dX4_sign_117 (by decide) ?_
            exact t_iret X hW hf dX4_sign_133
    · replace hf := ip hf c_9
      refine lv_iconst (v := 2) hx hb dX4_sign_53 (by decide) ?_
      exact t_iret X hW hf dX4_sign_54
  · replace hf := ine hf c_4
    refine lv_iload_n hx hb dX4_sign_12 rfl (lv_at hl 0 rfl) ?_
    refine lv_bipush (v := 61) hx hb dX4_sign_13 (by decide) ?_
    refine lv_icmp_eq (tgt := 24) hx hb dX4_sign_15 (by decide) (fun c_27 => ?_) (fun c_27 => ?_)
    · replace hf := ip hf c_27
      refine lv_iconst (v := 1) hx hb dX4_sign_24 (by decide) ?_
      refine lv_goto (tgt := 29) hx hb dX4_sign_25 (by decide) ?_
      refine lv_iconst (v := 0) hx hb dX4_sign_29 (by decide) ?_
      refine lv_aload_n hx hb dX4_sign_30 rfl (lv_at hl 1 rfl) ?_
      refine tg_2 X hW tm_997 dX4_sign_31 ?_
      obtain ⟨⟨σ_30, o_31⟩, h_28, hf⟩ := bd_e hf
      refine kt_demand X hW had h_28 (by decide) hl (Nat.le_of_ble_eq_true rfl) dX4_sign_34 (fun ho H locs q9 ce hW hc1 hc2 hc3 => by subst ho; exact t_out X hex hW hf hc1 hc2 hc3) (fun r_29 ho H locs hW => ?_)
      subst ho
      replace hf := thr_s hf
      refine lv_aload_n hx hb dX4_sign_37 rfl (lv_at hl 1 rfl) ?_
      refine lv_dup hx hb dX4_sign_38 rfl ?_
      refine tg_2 X hW tm_997 dX4_sign_39 ?_
      refine lv_iconst (v := 1) hx hb dX4_sign_42 (by decide) ?_
      refine lv_iadd hx hb dX4_sign_43 ?_
      refine tp_2 X hW tm_997 dX4_sign_44 (fun H locs hW => ?_)
      refine lv_iload_n hx hb dX4_sign_47 rfl (lv_at hl 0 rfl) ?_
      refine lv_bipush (v := 61) hx hb dX4_sign_48 (by decide) ?_
      refine lv_icmp_ne (tgt := 55) hx hb dX4_sign_50 (by decide) (fun c_32 => ?_) (fun c_32 => ?_)
      · replace hf := ine hf c_32
        refine lv_aload_n hx hb dX4_sign_55 rfl (lv_at hl 1 rfl) ?_
        refine tg_2 X hW tm_997 dX4_sign_56 ?_
        refine lv_aload_n hx hb dX4_sign_59 rfl (lv_at hl 1 rfl) ?_
        refine tg_6 X hW tm_997 dX4_sign_60 ?_
        refine tgo_10 X hW tm_999 dX4_sign_63 ?_
        refine lv_icmp_ge (tgt := 90) hx hb dX4_sign_66 (by decide) (fun c_33 => ?_) (fun c_33 => ?_)
        · replace hf := ip hf c_33
          refine lv_iconst (v := 0) hx hb dX4_sign_90 (by decide) ?_
          refine lv_istore_n (lv' := [(2, .int 0), (1, .int r_2), (0, .ref (ad 997))]) hx hb dX4_sign_91 rfl hl (by decide) rfl (fun ls hl => ?_)
          refine lv_iload_n hx hb dX4_sign_92 rfl (lv_at hl 0 rfl) ?_
          refine lv_if_eq (tgt := 106) hx hb dX4_sign_93 (by decide) (fun c_34 => ?_) (fun c_34 => absurd c_34 (by decide))
          refine lv_iload_n hx hb dX4_sign_106 rfl (lv_at hl 1 rfl) ?_
          refine lv_bipush (v := 60) hx hb dX4_sign_107 (by decide) ?_
          refine lv_icmp_ne (tgt := 124) hx hb dX4_sign_109 (by decide) (fun c_35 => ?_) (fun c_35 => ?_)
          · replace hf := ine hf c_35
            refine lv_iload_n hx hb dX4_sign_124 rfl (lv_at hl 0 rfl) ?_
            refine lv_if_eq (tgt := 132) hx hb dX4_sign_125 (by decide) (fun c_36 => ?_) (fun c_36 => absurd c_36 (by decide))
            refine lv_iconst (v := 4) hx hb dX4_sign_132 (by decide) ?_
            exact t_iret X hW hf dX4_sign_133
          · replace hf := ip hf c_35
            refine lv_iload_n hx hb dX4_sign_112 rfl (lv_at hl 0 rfl) ?_
            refine lv_if_eq (tgt := 120) hx hb dX4_sign_113 (by decide) (fun c_37 => ?_) (fun c_37 => absurd c_37 (by decide))
            refine lv_iconst (v := 0) hx hb dX4_sign_120 (by decide) ?_
            refine lv_goto (tgt := 133) hx hb dX4_sign_121 (by decide) ?_
            exact t_iret X hW hf dX4_sign_133
        · replace hf := ine hf c_33
          refine lv_aload_n hx hb dX4_sign_69 rfl (lv_at hl 1 rfl) ?_
          refine tg_6 X hW tm_997 dX4_sign_70 ?_
          refine tgo_9 X hW tm_999 dX4_sign_73 ?_
          refine lv_aload_n hx hb dX4_sign_76 rfl (lv_at hl 1 rfl) ?_
          refine tg_2 X hW tm_997 dX4_sign_77 ?_
          obtain ⟨h_38, hf⟩ := gd_e hf
          refine xl_9 X hW tm_9 h_38 dX4_sign_80 ?_
          refine lv_bipush (v := 61) hx hb dX4_sign_81 (by decide) ?_
          refine lv_icmp_ne (tgt := 90) hx hb dX4_sign_83 (by decide) (fun c_39 => ?_) (fun c_39 => ?_)
          · replace hf := ine hf c_39
            refine lv_iconst (v := 0) hx hb dX4_sign_90 (by decide) ?_
            refine lv_istore_n (lv' := [(2, .int 0), (1, .int r_2), (0, .ref (ad 997))]) hx hb dX4_sign_91 rfl hl (by decide) rfl (fun ls hl => ?_)
            refine lv_iload_n hx hb dX4_sign_92 rfl (lv_at hl 0 rfl) ?_
            refine lv_if_eq (tgt := 106) hx hb dX4_sign_93 (by decide) (fun c_40 => ?_) (fun c_40 => absurd c_40 (by decide))
            refine lv_iload_n hx hb dX4_sign_106 rfl (lv_at hl 1 rfl) ?_
            refine lv_bipush (v := 60) hx hb dX4_sign_107 (by decide) ?_
            refine lv_icmp_ne (tgt := 124) hx hb dX4_sign_109 (by decide) (fun c_41 => ?_) (fun c_41 => ?_)
            · replace hf := ine hf c_41
              refine lv_iload_n hx hb dX4_sign_124 rfl (lv_at hl 0 rfl) ?_
              refine lv_if_eq (tgt := 132) hx hb dX4_sign_125 (by decide) (fun c_42 => ?_) (fun c_42 => absurd c_42 (by decide))
              refine lv_iconst (v := 4) hx hb dX4_sign_132 (by decide) ?_
              exact t_iret X hW hf dX4_sign_133
            · replace hf := ip hf c_41
              refine lv_iload_n hx hb dX4_sign_112 rfl (lv_at hl 0 rfl) ?_
              refine lv_if_eq (tgt := 120) hx hb dX4_sign_113 (by decide) (fun c_43 => ?_) (fun c_43 => absurd c_43 (by decide))
              refine lv_iconst (v := 0) hx hb dX4_sign_120 (by decide) ?_
              refine lv_goto (tgt := 133) hx hb dX4_sign_121 (by decide) ?_
              exact t_iret X hW hf dX4_sign_133
          · replace hf := ip hf c_39
            refine lv_iconst (v := 1) hx hb dX4_sign_86 (by decide) ?_
            refine lv_goto (tgt := 91) hx hb dX4_sign_87 (by decide) ?_
            refine lv_istore_n (lv' := [(2, .int 1), (1, .int r_2), (0, .ref (ad 997))]) hx hb dX4_sign_91 rfl hl (by decide) rfl (fun ls hl => ?_)
            refine lv_iload_n hx hb dX4_sign_92 rfl (lv_at hl 0 rfl) ?_
            refine lv_if_eq (tgt := 106) hx hb dX4_sign_93 (by decide) (fun c_44 => absurd c_44 (by decide)) (fun c_44 => ?_)
            refine lv_aload_n hx hb dX4_sign_96 rfl (lv_at hl 2 rfl) ?_
            refine lv_dup hx hb dX4_sign_97 rfl ?_
            refine tg_2 X hW tm_997 dX4_sign_98 ?_
            refine lv_iconst (v := 1) hx hb dX4_sign_101 (by decide) ?_
            refine lv_iadd hx hb dX4_sign_102 ?_
            obtain ⟨σ_45, e_46, hf⟩ := nmb_e hf
            rw [← e_46] at hW
            clear e_46
            refine tp_2 X hW tm_997 dX4_sign_103 (fun H locs hW => ?_)
            refine lv_iload_n hx hb dX4_sign_106 rfl (lv_at hl 1 rfl) ?_
            refine lv_bipush (v := 60) hx hb dX4_sign_107 (by decide) ?_
            refine lv_icmp_ne (tgt := 124) hx hb dX4_sign_109 (by decide) (fun c_47 => ?_) (fun c_47 => ?_)
            · replace hf := ine hf c_47
              refine lv_iload_n hx hb dX4_sign_124 rfl (lv_at hl 0 rfl) ?_
              refine lv_if_eq (tgt := 132) hx hb dX4_sign_125 (by decide) (fun c_48 => absurd c_48 (by decide)) (fun c_48 => ?_)
              refine lv_iconst (v := 3) hx hb dX4_sign_128 (by decide) ?_
              refine lv_goto (tgt := 133) hx hb dX4_sign_129 (by decide) ?_
              exact t_iret X hW hf dX4_sign_133
            · replace hf := ip hf c_47
              refine lv_iload_n hx hb dX4_sign_112 rfl (lv_at hl 0 rfl) ?_
              refine lv_if_eq (tgt := 120) hx hb dX4_sign_113 (by decide) (fun c_49 => absurd c_49 (by decide)) (fun c_49 => ?_)
              refine lv_iconst (v := 1) hx hb dX4_sign_116 (by decide) ?_
              refine lv_goto (tgt := 133) hx hb dX4_sign_117 (by decide) ?_
              exact t_iret X hW hf dX4_sign_133
      · replace hf := ip hf c_32
        refine lv_iconst (v := 2) hx hb dX4_sign_53 (by decide) ?_
        exact t_iret X hW hf dX4_sign_54
    · replace hf := ine hf c_27
      refine lv_iload_n hx hb dX4_sign_18 rfl (lv_at hl 0 rfl) ?_
      refine lv_bipush (v := 62) hx hb dX4_sign_19 (by decide) ?_
      refine lv_icmp_ne (tgt := 28) hx hb dX4_sign_21 (by decide) (fun c_50 => ?_) (fun c_50 => ?_)
      · replace hf := ine hf c_50
        refine lv_iconst (v := 0) hx hb dX4_sign_28 (by decide) ?_
        refine lv_iconst (v := 0) hx hb dX4_sign_29 (by decide) ?_
        refine lv_aload_n hx hb dX4_sign_30 rfl (lv_at hl 1 rfl) ?_
        refine tg_2 X hW tm_997 dX4_sign_31 ?_
        obtain ⟨⟨σ_53, o_54⟩, h_51, hf⟩ := bd_e hf
        refine kt_demand X hW had h_51 (by decide) hl (Nat.le_of_ble_eq_true rfl) dX4_sign_34 (fun ho H locs q9 ce hW hc1 hc2 hc3 => by subst ho; exact t_out X hex hW hf hc1 hc2 hc3) (fun r_52 ho H locs hW => ?_)
        subst ho
        replace hf := thr_s hf
        refine lv_aload_n hx hb dX4_sign_37 rfl (lv_at hl 1 rfl) ?_
        refine lv_dup hx hb dX4_sign_38 rfl ?_
        refine tg_2 X hW tm_997 dX4_sign_39 ?_
        refine lv_iconst (v := 1) hx hb dX4_sign_42 (by decide) ?_
        refine lv_iadd hx hb dX4_sign_43 ?_
        refine tp_2 X hW tm_997 dX4_sign_44 (fun H locs hW => ?_)
        refine lv_iload_n hx hb dX4_sign_47 rfl (lv_at hl 0 rfl) ?_
        refine lv_bipush (v := 61) hx hb dX4_sign_48 (by decide) ?_
        refine lv_icmp_ne (tgt := 55) hx hb dX4_sign_50 (by decide) (fun c_55 => ?_) (fun c_55 => ?_)
        · replace hf := ine hf c_55
          refine lv_aload_n hx hb dX4_sign_55 rfl (lv_at hl 1 rfl) ?_
          refine tg_2 X hW tm_997 dX4_sign_56 ?_
          refine lv_aload_n hx hb dX4_sign_59 rfl (lv_at hl 1 rfl) ?_
          refine tg_6 X hW tm_997 dX4_sign_60 ?_
          refine tgo_10 X hW tm_999 dX4_sign_63 ?_
          refine lv_icmp_ge (tgt := 90) hx hb dX4_sign_66 (by decide) (fun c_56 => ?_) (fun c_56 => ?_)
          · replace hf := ip hf c_56
            refine lv_iconst (v := 0) hx hb dX4_sign_90 (by decide) ?_
            refine lv_istore_n (lv' := [(2, .int 0), (1, .int r_2), (0, .ref (ad 997))]) hx hb dX4_sign_91 rfl hl (by decide) rfl (fun ls hl => ?_)
            refine lv_iload_n hx hb dX4_sign_92 rfl (lv_at hl 0 rfl) ?_
            refine lv_if_eq (tgt := 106) hx hb dX4_sign_93 (by decide) (fun c_57 => ?_) (fun c_57 => absurd c_57 (by decide))
            refine lv_iload_n hx hb dX4_sign_106 rfl (lv_at hl 1 rfl) ?_
            refine lv_bipush (v := 60) hx hb dX4_sign_107 (by decide) ?_
            refine lv_icmp_ne (tgt := 124) hx hb dX4_sign_109 (by decide) (fun c_58 => ?_) (fun c_58 => ?_)
            · replace hf := ine hf c_58
              refine lv_iload_n hx hb dX4_sign_124 rfl (lv_at hl 0 rfl) ?_
              refine lv_if_eq (tgt := 132) hx hb dX4_sign_125 (by decide) (fun c_59 => ?_) (fun c_59 => absurd c_59 (by decide))
              refine lv_iconst (v := 4) hx hb dX4_sign_132 (by decide) ?_
              exact t_iret X hW hf dX4_sign_133
            · replace hf := ip hf c_58
              refine lv_iload_n hx hb dX4_sign_112 rfl (lv_at hl 0 rfl) ?_
              refine lv_if_eq (tgt := 120) hx hb dX4_sign_113 (by decide) (fun c_60 => ?_) (fun c_60 => absurd c_60 (by decide))
              refine lv_iconst (v := 0) hx hb dX4_sign_120 (by decide) ?_
              refine lv_goto (tgt := 133) hx hb dX4_sign_121 (by decide) ?_
              exact t_iret X hW hf dX4_sign_133
          · replace hf := ine hf c_56
            refine lv_aload_n hx hb dX4_sign_69 rfl (lv_at hl 1 rfl) ?_
            refine tg_6 X hW tm_997 dX4_sign_70 ?_
            refine tgo_9 X hW tm_999 dX4_sign_73 ?_
            refine lv_aload_n hx hb dX4_sign_76 rfl (lv_at hl 1 rfl) ?_
            refine tg_2 X hW tm_997 dX4_sign_77 ?_
            obtain ⟨h_61, hf⟩ := gd_e hf
            refine xl_9 X hW tm_9 h_61 dX4_sign_80 ?_
            refine lv_bipush (v := 61) hx hb dX4_sign_81 (by decide) ?_
            refine lv_icmp_ne (tgt := 90) hx hb dX4_sign_83 (by decide) (fun c_62 => ?_) (fun c_62 => ?_)
            · replace hf := ine hf c_62
              refine lv_iconst (v := 0) hx hb dX4_sign_90 (by decide) ?_
              refine lv_istore_n (lv' := [(2, .int 0), (1, .int r_2), (0, .ref (ad 997))]) hx hb dX4_sign_91 rfl hl (by decide) rfl (fun ls hl => ?_)
              refine lv_iload_n hx hb dX4_sign_92 rfl (lv_at hl 0 rfl) ?_
              refine lv_if_eq (tgt := 106) hx hb dX4_sign_93 (by decide) (fun c_63 => ?_) (fun c_63 => absurd c_63 (by decide))
              refine lv_iload_n hx hb dX4_sign_106 rfl (lv_at hl 1 rfl) ?_
              refine lv_bipush (v := 60) hx hb dX4_sign_107 (by decide) ?_
              refine lv_icmp_ne (tgt := 124) hx hb dX4_sign_109 (by decide) (fun c_64 => ?_) (fun c_64 => ?_)
              · replace hf := ine hf c_64
                refine lv_iload_n hx hb dX4_sign_124 rfl (lv_at hl 0 rfl) ?_
                refine lv_if_eq (tgt := 132) hx hb dX4_sign_125 (by decide) (fun c_65 => ?_) (fun c_65 => absurd c_65 (by decide))
                refine lv_iconst (v := 4) hx hb dX4_sign_132 (by decide) ?_
                exact t_iret X hW hf dX4_sign_133
              · replace hf := ip hf c_64
                refine lv_iload_n hx hb dX4_sign_112 rfl (lv_at hl 0 rfl) ?_
                refine lv_if_eq (tgt := 120) hx hb dX4_sign_113 (by decide) (fun c_66 => ?_) (fun c_66 => absurd c_66 (by decide))
                refine lv_iconst (v := 0) hx hb dX4_sign_120 (by decide) ?_
                refine lv_goto (tgt := 133) hx hb dX4_sign_121 (by decide) ?_
                exact t_iret X hW hf dX4_sign_133
            · replace hf := ip hf c_62
              refine lv_iconst (v := 1) hx hb dX4_sign_86 (by decide) ?_
              refine lv_goto (tgt := 91) hx hb dX4_sign_87 (by decide) ?_
              refine lv_istore_n (lv' := [(2, .int 1), (1, .int r_2), (0, .ref (ad 997))]) hx hb dX4_sign_91 rfl hl (by decide) rfl (fun ls hl => ?_)
              refine lv_iload_n hx hb dX4_sign_92 rfl (lv_at hl 0 rfl) ?_
              refine lv_if_eq (tgt := 106) hx hb dX4_sign_93 (by decide) (fun c_67 => absurd c_67 (by decide)) (fun c_67 => ?_)
              refine lv_aload_n hx hb dX4_sign_96 rfl (lv_at hl 2 rfl) ?_
              refine lv_dup hx hb dX4_sign_97 rfl ?_
              refine tg_2 X hW tm_997 dX4_sign_98 ?_
              refine lv_iconst (v := 1) hx hb dX4_sign_101 (by decide) ?_
              refine lv_iadd hx hb dX4_sign_102 ?_
              obtain ⟨σ_68, e_69, hf⟩ := nmb_e hf
              rw [← e_69] at hW
              clear e_69
              refine tp_2 X hW tm_997 dX4_sign_103 (fun H locs hW => ?_)
              refine lv_iload_n hx hb dX4_sign_106 rfl (lv_at hl 1 rfl) ?_
              refine lv_bipush (v := 60) hx hb dX4_sign_107 (by decide) ?_
              refine lv_icmp_ne (tgt := 124) hx hb dX4_sign_109 (by decide) (fun c_70 => ?_) (fun c_70 => ?_)
              · replace hf := ine hf c_70
                refine lv_iload_n hx hb dX4_sign_124 rfl (lv_at hl 0 rfl) ?_
                refine lv_if_eq (tgt := 132) hx hb dX4_sign_125 (by decide) (fun c_71 => absurd c_71 (by decide)) (fun c_71 => ?_)
                refine lv_iconst (v := 3) hx hb dX4_sign_128 (by decide) ?_
                refine lv_goto (tgt := 133) hx hb dX4_sign_129 (by decide) ?_
                exact t_iret X hW hf dX4_sign_133
              · replace hf := ip hf c_70
                refine lv_iload_n hx hb dX4_sign_112 rfl (lv_at hl 0 rfl) ?_
                refine lv_if_eq (tgt := 120) hx hb dX4_sign_113 (by decide) (fun c_72 => absurd c_72 (by decide)) (fun c_72 => ?_)
                refine lv_iconst (v := 1) hx hb dX4_sign_116 (by decide) ?_
                refine lv_goto (tgt := 133) hx hb dX4_sign_117 (by decide) ?_
                exact t_iret X hW hf dX4_sign_133
        · replace hf := ip hf c_55
          refine lv_iconst (v := 2) hx hb dX4_sign_53 (by decide) ?_
          exact t_iret X hW hf dX4_sign_54
      · replace hf := ip hf c_50
        refine lv_iconst (v := 1) hx hb dX4_sign_24 (by decide) ?_
        refine lv_goto (tgt := 29) hx hb dX4_sign_25 (by decide) ?_
        refine lv_iconst (v := 0) hx hb dX4_sign_29 (by decide) ?_
        refine lv_aload_n hx hb dX4_sign_30 rfl (lv_at hl 1 rfl) ?_
        refine tg_2 X hW tm_997 dX4_sign_31 ?_
        obtain ⟨⟨σ_75, o_76⟩, h_73, hf⟩ := bd_e hf
        refine kt_demand X hW had h_73 (by decide) hl (Nat.le_of_ble_eq_true rfl) dX4_sign_34 (fun ho H locs q9 ce hW hc1 hc2 hc3 => by subst ho; exact t_out X hex hW hf hc1 hc2 hc3) (fun r_74 ho H locs hW => ?_)
        subst ho
        replace hf := thr_s hf
        refine lv_aload_n hx hb dX4_sign_37 rfl (lv_at hl 1 rfl) ?_
        refine lv_dup hx hb dX4_sign_38 rfl ?_
        refine tg_2 X hW tm_997 dX4_sign_39 ?_
        refine lv_iconst (v := 1) hx hb dX4_sign_42 (by decide) ?_
        refine lv_iadd hx hb dX4_sign_43 ?_
        refine tp_2 X hW tm_997 dX4_sign_44 (fun H locs hW => ?_)
        refine lv_iload_n hx hb dX4_sign_47 rfl (lv_at hl 0 rfl) ?_
        refine lv_bipush (v := 61) hx hb dX4_sign_48 (by decide) ?_
        refine lv_icmp_ne (tgt := 55) hx hb dX4_sign_50 (by decide) (fun c_77 => ?_) (fun c_77 => ?_)
        · replace hf := ine hf c_77
          refine lv_aload_n hx hb dX4_sign_55 rfl (lv_at hl 1 rfl) ?_
          refine tg_2 X hW tm_997 dX4_sign_56 ?_
          refine lv_aload_n hx hb dX4_sign_59 rfl (lv_at hl 1 rfl) ?_
          refine tg_6 X hW tm_997 dX4_sign_60 ?_
          refine tgo_10 X hW tm_999 dX4_sign_63 ?_
          refine lv_icmp_ge (tgt := 90) hx hb dX4_sign_66 (by decide) (fun c_78 => ?_) (fun c_78 => ?_)
          · replace hf := ip hf c_78
            refine lv_iconst (v := 0) hx hb dX4_sign_90 (by decide) ?_
            refine lv_istore_n (lv' := [(2, .int 0), (1, .int r_2), (0, .ref (ad 997))]) hx hb dX4_sign_91 rfl hl (by decide) rfl (fun ls hl => ?_)
            refine lv_iload_n hx hb dX4_sign_92 rfl (lv_at hl 0 rfl) ?_
            refine lv_if_eq (tgt := 106) hx hb dX4_sign_93 (by decide) (fun c_79 => ?_) (fun c_79 => absurd c_79 (by decide))
            refine lv_iload_n hx hb dX4_sign_106 rfl (lv_at hl 1 rfl) ?_
            refine lv_bipush (v := 60) hx hb dX4_sign_107 (by decide) ?_
            refine lv_icmp_ne (tgt := 124) hx hb dX4_sign_109 (by decide) (fun c_80 => ?_) (fun c_80 => ?_)
            · replace hf := ine hf c_80
              refine lv_iload_n hx hb dX4_sign_124 rfl (lv_at hl 0 rfl) ?_
              refine lv_if_eq (tgt := 132) hx hb dX4_sign_125 (by decide) (fun c_81 => ?_) (fun c_81 => absurd c_81 (by decide))
              refine lv_iconst (v := 4) hx hb dX4_sign_132 (by decide) ?_
              exact t_iret X hW hf dX4_sign_133
            · replace hf := ip hf c_80
              refine lv_iload_n hx hb dX4_sign_112 rfl (lv_at hl 0 rfl) ?_
              refine lv_if_eq (tgt := 120) hx hb dX4_sign_113 (by decide) (fun c_82 => ?_) (fun c_82 => absurd c_82 (by decide))
              refine lv_iconst (v := 0) hx hb dX4_sign_120 (by decide) ?_
              refine lv_goto (tgt := 133) hx hb dX4_sign_121 (by decide) ?_
              exact t_iret X hW hf dX4_sign_133
          · replace hf := ine hf c_78
            refine lv_aload_n hx hb dX4_sign_69 rfl (lv_at hl 1 rfl) ?_
            refine tg_6 X hW tm_997 dX4_sign_70 ?_
            refine tgo_9 X hW tm_999 dX4_sign_73 ?_
            refine lv_aload_n hx hb dX4_sign_76 rfl (lv_at hl 1 rfl) ?_
            refine tg_2 X hW tm_997 dX4_sign_77 ?_
            obtain ⟨h_83, hf⟩ := gd_e hf
            refine xl_9 X hW tm_9 h_83 dX4_sign_80 ?_
            refine lv_bipush (v := 61) hx hb dX4_sign_81 (by decide) ?_
            refine lv_icmp_ne (tgt := 90) hx hb dX4_sign_83 (by decide) (fun c_84 => ?_) (fun c_84 => ?_)
            · replace hf := ine hf c_84
              refine lv_iconst (v := 0) hx hb dX4_sign_90 (by decide) ?_
              refine lv_istore_n (lv' := [(2, .int 0), (1, .int r_2), (0, .ref (ad 997))]) hx hb dX4_sign_91 rfl hl (by decide) rfl (fun ls hl => ?_)
              refine lv_iload_n hx hb dX4_sign_92 rfl (lv_at hl 0 rfl) ?_
              refine lv_if_eq (tgt := 106) hx hb dX4_sign_93 (by decide) (fun c_85 => ?_) (fun c_85 => absurd c_85 (by decide))
              refine lv_iload_n hx hb dX4_sign_106 rfl (lv_at hl 1 rfl) ?_
              refine lv_bipush (v := 60) hx hb dX4_sign_107 (by decide) ?_
              refine lv_icmp_ne (tgt := 124) hx hb dX4_sign_109 (by decide) (fun c_86 => ?_) (fun c_86 => ?_)
              · replace hf := ine hf c_86
                refine lv_iload_n hx hb dX4_sign_124 rfl (lv_at hl 0 rfl) ?_
                refine lv_if_eq (tgt := 132) hx hb dX4_sign_125 (by decide) (fun c_87 => ?_) (fun c_87 => absurd c_87 (by decide))
                refine lv_iconst (v := 4) hx hb dX4_sign_132 (by decide) ?_
                exact t_iret X hW hf dX4_sign_133
              · replace hf := ip hf c_86
                refine lv_iload_n hx hb dX4_sign_112 rfl (lv_at hl 0 rfl) ?_
                refine lv_if_eq (tgt := 120) hx hb dX4_sign_113 (by decide) (fun c_88 => ?_) (fun c_88 => absurd c_88 (by decide))
                refine lv_iconst (v := 0) hx hb dX4_sign_120 (by decide) ?_
                refine lv_goto (tgt := 133) hx hb dX4_sign_121 (by decide) ?_
                exact t_iret X hW hf dX4_sign_133
            · replace hf := ip hf c_84
              refine lv_iconst (v := 1) hx hb dX4_sign_86 (by decide) ?_
              refine lv_goto (tgt := 91) hx hb dX4_sign_87 (by decide) ?_
              refine lv_istore_n (lv' := [(2, .int 1), (1, .int r_2), (0, .ref (ad 997))]) hx hb dX4_sign_91 rfl hl (by decide) rfl (fun ls hl => ?_)
              refine lv_iload_n hx hb dX4_sign_92 rfl (lv_at hl 0 rfl) ?_
              refine lv_if_eq (tgt := 106) hx hb dX4_sign_93 (by decide) (fun c_89 => absurd c_89 (by decide)) (fun c_89 => ?_)
              refine lv_aload_n hx hb dX4_sign_96 rfl (lv_at hl 2 rfl) ?_
              refine lv_dup hx hb dX4_sign_97 rfl ?_
              refine tg_2 X hW tm_997 dX4_sign_98 ?_
              refine lv_iconst (v := 1) hx hb dX4_sign_101 (by decide) ?_
              refine lv_iadd hx hb dX4_sign_102 ?_
              obtain ⟨σ_90, e_91, hf⟩ := nmb_e hf
              rw [← e_91] at hW
              clear e_91
              refine tp_2 X hW tm_997 dX4_sign_103 (fun H locs hW => ?_)
              refine lv_iload_n hx hb dX4_sign_106 rfl (lv_at hl 1 rfl) ?_
              refine lv_bipush (v := 60) hx hb dX4_sign_107 (by decide) ?_
              refine lv_icmp_ne (tgt := 124) hx hb dX4_sign_109 (by decide) (fun c_92 => ?_) (fun c_92 => ?_)
              · replace hf := ine hf c_92
                refine lv_iload_n hx hb dX4_sign_124 rfl (lv_at hl 0 rfl) ?_
                refine lv_if_eq (tgt := 132) hx hb dX4_sign_125 (by decide) (fun c_93 => absurd c_93 (by decide)) (fun c_93 => ?_)
                refine lv_iconst (v := 3) hx hb dX4_sign_128 (by decide) ?_
                refine lv_goto (tgt := 133) hx hb dX4_sign_129 (by decide) ?_
                exact t_iret X hW hf dX4_sign_133
              · replace hf := ip hf c_92
                refine lv_iload_n hx hb dX4_sign_112 rfl (lv_at hl 0 rfl) ?_
                refine lv_if_eq (tgt := 120) hx hb dX4_sign_113 (by decide) (fun c_94 => absurd c_94 (by decide)) (fun c_94 => ?_)
                refine lv_iconst (v := 1) hx hb dX4_sign_116 (by decide) ?_
                refine lv_goto (tgt := 133) hx hb dX4_sign_117 (by decide) ?_
                exact t_iret X hW hf dX4_sign_133
        · replace hf := ip hf c_77
          refine lv_iconst (v := 2) hx hb dX4_sign_53 (by decide) ?_
          exact t_iret X hW hf dX4_sign_54
theorem w_t_sign (l : Launch) {g : gG} {ad : Nat → Nat} {q : xR} (had : tI_ ad) {σr : cS} {o : Option Int32} {σ : cS}  (hf : t_sign σ = some (σr, o)) : MT l yX4_sign cX4_sign 3 (some .int) 3 83 g tIds ad (xE g ad q σ) (xE g ad q σr) [.ref (ad 997)] (fun r : Int32 => some (.int r)) o :=
  MT.of (by decide) tIds_nd had (Nat.le_of_ble_eq_true rfl) (fun p e s m below meth c A ls X hex hW hl => wb_t_sign X had hex hW hl hf)
theorem kt_sign {p : Program} {l : Launch} {e : Env} {R : Room} {s : State} {m : MethodId} {args : Array Value} {below : List Frame} {meth : Method} {c : Code} {H : Heap} {locs : List Loc} {Q : State → Prop} {cc : ByteArray} {nL : Nat} {ret : Option FieldType} {g : gG} {A : Nat → Prop} {ad : Nat → Nat} {q : xR} {pc : Nat} {ls : Array Slot} {rest : List Value} {lv : List (Nat × Value)} {σr : cS} {o : Option Int32} {σ : cS} (X : MX p s m args meth c cc nL RX4 ret g A) (hW : WB g A s.heap tIds ad (xE g ad q σ) H locs) (had : tI_ ad)  (hf : t_sign σ = some (σr, o)) (hR : 4 ≤ R.frames ∧ 105 ≤ R.locals) (hl : lv_has ls nL lv) (hcat : (rest.map fun v => v.category).sum ≤ 8) (hdg : decode cc pc = .ok (.invokevirtual 248, 3)) (kx : o = none → ∀ (H1 : Heap) (l1 : List Loc) (q9 : Addr) (ce : Cell), WB g A s.heap tIds ad (xE g ad q σr) H1 l1 → H1[q9]? = some ce → ce.vm = .none → s.vm.findClass RX2 = some ce.cls → vx_W p l e R s m args below meth c H1 l1 0 0 Q (F0 m pc ls rest) q9) (kk : ∀ r : Int32, o = some r → ∀ (H1 : Heap) (l1 : List Loc), WB g A s.heap tIds ad (xE g ad q σr) H1 l1 → W p l e R s m args below meth c H1 l1 0 0 Q (F0 m (pc + 3) ls (.int r :: rest))) : W p l e R s m args below meth c H locs 0 0 Q (F0 m pc ls (.ref (ad 997) :: rest)) :=
  t_callV X hW Sub.all (w_t_sign l had hf) (lw_V q759 q761 qs27 q127 q762) ⟨rfl, by decide, by decide, by decide +kernel⟩ tm_997 rfl rfl (n := 0) hR hl rfl rfl hcat hdg kx kk
