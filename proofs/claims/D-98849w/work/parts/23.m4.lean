set_option maxRecDepth 100000
-- weigh
noncomputable def m_weigh_46 {ρ : Type} (v1 : Int32) (v2 : Int32) (v3 : Int32) (K : cS → Option ρ) : Nat → cS → Int32 → Option ρ
  | 0, _, _ => none
  | n + 1, σ, v4 => if (nI (mK 62).2) ≤ v4 then (K σ) else (gd (inb v4 1000) (m_weigh_46 v1 v2 v3 K n (si σ 62 (ix v4) 0) (v4 + 1)))
set_option maxHeartbeats 4000000 in
theorem wm_weigh_46 {p : Program} {l : Launch} {e : Env} {s : State} {m : MethodId} {args : Array Value} {below : List Frame} {meth : Method} {c : Code} {g : gG} {A : Nat → Prop} {ad : Nat → Nat} (X : MX p s m args meth c cX3_weigh 10 RX3 (some .int) g A) (had : mI ad) {ρ : Type} {res : ρ} {Q : State → Prop} {v1 : Int32} {v2 : Int32} {v3 : Int32}  {K : cS → Option ρ}
    (hK : ∀ (σ : cS) (H : Heap) (locs : List Loc) (ls : Array Slot), WB g A s.heap mIds ad (mE g ad σ) H locs → lv_has ls 10 [(0, .ref (ad 999)), (1, .int v1), (2, .int v2), (3, .int v3)] → K σ = some res → W p l e (rm_ 4 93) s m args below meth c H locs 0 0 Q (F0 m 70 ls [])) :
    ∀ (n : Nat) (σ : cS) (v4 : Int32) (H : Heap) (locs : List Loc) (ls : Array Slot), WB g A s.heap mIds ad (mE g ad σ) H locs → lv_has ls 10 [(0, .ref (ad 999)), (1, .int v1), (2, .int v2), (3, .int v3), (4, .int v4)] → m_weigh_46 v1 v2 v3 K n σ v4 = some res → W p l e (rm_ 4 93) s m args below meth c H locs 0 0 Q (F0 m 46 ls []) := by
  have hx := X.1.1
  have hb := X.1.2.1
  intro n
  induction n with
  | zero =>
    intro σ v4 H locs ls hW hl hf
    rw [m_weigh_46] at hf
    cases hf
  | succ n ih =>
    intro σ v4 H locs ls hW hl hf
    rw [m_weigh_46] at hf
    refine lv_iload hx hb dX3_weigh_46 (lv_at hl 4 rfl) ?_
    refine lv_aload_n hx hb dX3_weigh_48 rfl (lv_at hl 0 rfl) ?_
    refine mg_62 X hW dX3_weigh_49 ?_
    refine ma_v X hW m_62 rfl dX3_weigh_52 ?_
    refine lv_icmp_ge (tgt := 70) hx hb dX3_weigh_53 (by decide) (fun c_13 => ?_) (fun c_13 => ?_)
    · replace hf := ip hf c_13
      exact hK _ _ _ _ hW (lv_sub hl [0, 1, 2, 3] rfl) hf
    · replace hf := ine hf c_13
      refine lv_aload_n hx hb dX3_weigh_56 rfl (lv_at hl 0 rfl) ?_
      refine mg_62 X hW dX3_weigh_57 ?_
      refine lv_iload hx hb dX3_weigh_60 (lv_at hl 4 rfl) ?_
      refine lv_iconst (v := 0) hx hb dX3_weigh_62 (by decide) ?_
      obtain ⟨h_14, hf⟩ := gd_e hf
      refine ms_62 X hW h_14 dX3_weigh_63 (fun H locs hW => ?_)
      refine lv_iinc (v := (v4 + 1)) (lv' := [(4, .int (v4 + 1)), (0, .ref (ad 999)), (1, .int v1), (2, .int v2), (3, .int v3)]) hx hb dX3_weigh_64 hl (k := 4) rfl (ii_v _ _ _ (by decide)) (by decide) rfl (fun ls hl => ?_)
      refine lv_goto (tgt := 46) hx hb dX3_weigh_67 (by decide) ?_
      exact ih _ _ _ _ _ hW (lv_sub hl [1, 2, 3, 4, 0] rfl) hf
noncomputable def m_weigh_115 {ρ : Type} (v1 : Int32) (v2 : Int32) (v3 : Int32) (v4 : Int32) (v5 : Int32) (v6 : Int32) (K : cS → Option ρ) : Nat → cS → Int32 → Option ρ
  | 0, _, _ => none
  | n + 1, σ, v7 => if (σ.1 1 (ix 0)) ≤ v7 then (K σ) else (gd (inb ((31 * v7) + v2) 310) (gd (inb ((100 * v7) + (σ.1 60 (ix ((31 * v7) + v2)))) 1000) (m_weigh_115 v1 v2 v3 v4 v5 v6 K n (si σ 62 (ix ((100 * v7) + (σ.1 60 (ix ((31 * v7) + v2))))) ((σ.1 62 (ix ((100 * v7) + (σ.1 60 (ix ((31 * v7) + v2)))))) + 1)) (v7 + 1))))
set_option maxHeartbeats 4000000 in
theorem wm_weigh_115 {p : Program} {l : Launch} {e : Env} {s : State} {m : MethodId} {args : Array Value} {below : List Frame} {meth : Method} {c : Code} {g : gG} {A : Nat → Prop} {ad : Nat → Nat} (X : MX p s m args meth c cX3_weigh 10 RX3 (some .int) g A) (had : mI ad) {ρ : Type} {res : ρ} {Q : State → Prop} {v1 : Int32} {v2 : Int32} {v3 : Int32} {v4 : Int32} {v5 : Int32} {v6 : Int32}  {K : cS → Option ρ}
    (hK : ∀ (σ : cS) (H : Heap) (locs : List Loc) (ls : Array Slot), WB g A s.heap mIds ad (mE g ad σ) H locs → lv_has ls 10 [(0, .ref (ad 999)), (1, .int v1), (2, .int v2), (3, .int v3), (4, .int v4), (5, .int v5), (6, .int v6)] → K σ = some res → W p l e (rm_ 4 93) s m args below meth c H locs 0 0 Q (F0 m 159 ls [])) :
    ∀ (n : Nat) (σ : cS) (v7 : Int32) (H : Heap) (locs : List Loc) (ls : Array Slot), WB g A s.heap mIds ad (mE g ad σ) H locs → lv_has ls 10 [(0, .ref (ad 999)), (1, .int v1), (2, .int v2), (3, .int v3), (4, .int v4), (5, .int v5), (6, .int v6), (7, .int v7)] → m_weigh_115 v1 v2 v3 v4 v5 v6 K n σ v7 = some res → W p l e (rm_ 4 93) s m args below meth c H locs 0 0 Q (F0 m 115 ls []) := by
  have hx := X.1.1
  have hb := X.1.2.1
  intro n
  induction n with
  | zero =>
    intro σ v7 H locs ls hW hl hf
    rw [m_weigh_115] at hf
    cases hf
  | succ n ih =>
    intro σ v7 H locs ls hW hl hf
    rw [m_weigh_115] at hf
    refine lv_iload hx hb dX3_weigh_115 (lv_at hl 7 rfl) ?_
    refine lv_aload_n hx hb dX3_weigh_117 rfl (lv_at hl 0 rfl) ?_
    refine mg_1 X hW dX3_weigh_118 ?_
    refine lv_iconst (v := 0) hx hb dX3_weigh_121 (by decide) ?_
    refine ml_1 X hW (by decide) dX3_weigh_122 ?_
    refine lv_icmp_ge (tgt := 159) hx hb dX3_weigh_123 (by decide) (fun c_22 => ?_) (fun c_22 => ?_)
    · replace hf := ip hf c_22
      exact hK _ _ _ _ hW (lv_sub hl [0, 1, 2, 3, 4, 5, 6] rfl) hf
    · replace hf := ine hf c_22
      refine lv_aload_n hx hb dX3_weigh_126 rfl (lv_at hl 0 rfl) ?_
      refine mg_62 X hW dX3_weigh_127 ?_
      refine lv_bipush (v := 100) hx hb dX3_weigh_130 (by decide) ?_
      refine lv_iload hx hb dX3_weigh_132 (lv_at hl 7 rfl) ?_
      refine lv_imul hx hb dX3_weigh_134 ?_
      refine lv_aload_n hx hb dX3_weigh_135 rfl (lv_at hl 0 rfl) ?_
      refine mg_60 X hW dX3_weigh_136 ?_
      refine lv_bipush (v := 31) hx hb dX3_weigh_139 (by decide) ?_
      refine lv_iload hx hb dX3_weigh_141 (lv_at hl 7 rfl) ?_
      refine lv_imul hx hb dX3_weigh_143 ?_
      refine lv_iload_n hx hb dX3_weigh_144 rfl (lv_at hl 2 rfl) ?_
      refine lv_iadd hx hb dX3_weigh_145 ?_
      obtain ⟨h_23, hf⟩ := gd_e hf
      refine ml_60 X hW h_23 dX3_weigh_146 ?_
      refine lv_iadd hx hb dX3_weigh_147 ?_
      refine lv_dup2_11 hx hb dX3_weigh_148 rfl rfl ?_
      obtain ⟨h_24, hf⟩ := gd_e hf
      refine ml_62 X hW h_24 dX3_weigh_149 ?_
      refine lv_iconst (v := 1) hx hb dX3_weigh_150 (by decide) ?_
      refine lv_iadd hx hb dX3_weigh_151 ?_
      refine ms_62 X hW h_24 dX3_weigh_152 (fun H locs hW => ?_)
      refine lv_iinc (v := (v7 + 1)) (lv' := [(7, .int (v7 + 1)), (0, .ref (ad 999)), (1, .int v1), (2, .int v2), (3, .int v3), (4, .int v4), (5, .int v5), (6, .int v6)]) hx hb dX3_weigh_153 hl (k := 7) rfl (ii_v _ _ _ (by decide)) (by decide) rfl (fun ls hl => ?_)
      refine lv_goto (tgt := 115) hx hb dX3_weigh_156 (by decide) ?_
      exact ih _ _ _ _ _ hW (lv_sub hl [1, 2, 3, 4, 5, 6, 7, 0] rfl) hf
noncomputable def m_weigh_90 {ρ : Type} (v1 : Int32) (v2 : Int32) (v3 : Int32) (v5 : Int32) (K : cS → Int32 → Option ρ) : Nat → cS → Int32 → Int32 → Option ρ
  | 0, _, _, _ => none
  | n + 1, σ, v4, v6 => if 30 ≤ v6 then (K σ v4) else (((m_doesFit σ v5 v6 v1).bind fun (σ_20, r_19) => if r_19 = 0 then (m_weigh_90 v1 v2 v3 v5 K n σ_20 v4 (v6 + 1)) else (m_weigh_115 v1 v2 v3 (v4 + 1) v5 v6 (fun σ_25 => (m_weigh_90 v1 v2 v3 v5 K n σ_25 (v4 + 1) (v6 + 1))) FU σ_20 0)))
set_option maxHeartbeats 4000000 in
theorem wm_weigh_90 {p : Program} {l : Launch} {e : Env} {s : State} {m : MethodId} {args : Array Value} {below : List Frame} {meth : Method} {c : Code} {g : gG} {A : Nat → Prop} {ad : Nat → Nat} (X : MX p s m args meth c cX3_weigh 10 RX3 (some .int) g A) (had : mI ad) {ρ : Type} {res : ρ} {Q : State → Prop} {v1 : Int32} {v2 : Int32} {v3 : Int32} {v5 : Int32}  {K : cS → Int32 → Option ρ}
    (hK : ∀ (σ : cS) (k4 : Int32) (H : Heap) (locs : List Loc) (ls : Array Slot), WB g A s.heap mIds ad (mE g ad σ) H locs → lv_has ls 10 [(0, .ref (ad 999)), (1, .int v1), (2, .int v2), (3, .int v3), (4, .int k4), (5, .int v5)] → K σ k4 = some res → W p l e (rm_ 4 93) s m args below meth c H locs 0 0 Q (F0 m 165 ls [])) :
    ∀ (n : Nat) (σ : cS) (v4 : Int32) (v6 : Int32) (H : Heap) (locs : List Loc) (ls : Array Slot), WB g A s.heap mIds ad (mE g ad σ) H locs → lv_has ls 10 [(0, .ref (ad 999)), (1, .int v1), (2, .int v2), (3, .int v3), (4, .int v4), (5, .int v5), (6, .int v6)] → m_weigh_90 v1 v2 v3 v5 K n σ v4 v6 = some res → W p l e (rm_ 4 93) s m args below meth c H locs 0 0 Q (F0 m 90 ls []) := by
  have hx := X.1.1
  have hb := X.1.2.1
  intro n
  induction n with
  | zero =>
    intro σ v4 v6 H locs ls hW hl hf
    rw [m_weigh_90] at hf
    cases hf
  | succ n ih =>
    intro σ v4 v6 H locs ls hW hl hf
    rw [m_weigh_90] at hf
    refine lv_iload hx hb dX3_weigh_90 (lv_at hl 6 rfl) ?_
    refine lv_bipush (v := 30) hx hb dX3_weigh_92 (by decide) ?_
    refine lv_icmp_ge (tgt := 165) hx hb dX3_weigh_94 (by decide) (fun c_17 => ?_) (fun c_17 => ?_)
    · replace hf := ip hf c_17
      exact hK _ _ _ _ _ hW (lv_sub hl [0, 1, 2, 3, 4, 5] rfl) hf
    · replace hf := ine hf c_17
      refine lv_aload_n hx hb dX3_weigh_97 rfl (lv_at hl 0 rfl) ?_
      refine lv_iload hx hb dX3_weigh_98 (lv_at hl 5 rfl) ?_
      refine lv_iload hx hb dX3_weigh_100 (lv_at hl 6 rfl) ?_
      refine lv_iload_n hx hb dX3_weigh_102 rfl (lv_at hl 1 rfl) ?_
      obtain ⟨⟨σ_20, r_19⟩, h_18, hf⟩ := bd_e hf
      refine k_doesFit X hW had h_18 (by decide) hl (Nat.le_of_ble_eq_true rfl) dX3_weigh_103 (fun H locs hW => ?_)
      refine lv_if_eq (tgt := 159) hx hb dX3_weigh_106 (by decide) (fun c_21 => ?_) (fun c_21 => ?_)
      · replace hf := ip hf c_21
        refine lv_iinc (v := (v6 + 1)) (lv' := [(6, .int (v6 + 1)), (0, .ref (ad 999)), (1, .int v1), (2, .int v2), (3, .int v3), (4, .int v4), (5, .int v5)]) hx hb dX3_weigh_159 hl (k := 6) rfl (ii_v _ _ _ (by decide)) (by decide) rfl (fun ls hl => ?_)
        refine lv_goto (tgt := 90) hx hb dX3_weigh_162 (by decide) ?_
        exact ih _ _ _ _ _ _ hW (lv_sub hl [1, 2, 3, 4, 5, 6, 0] rfl) hf
      · replace hf := ine hf c_21
        refine lv_iinc (v := (v4 + 1)) (lv' := [(4, .int (v4 + 1)), (0, .ref (ad 999)), (1, .int v1), (2, .int v2), (3, .int v3), (5, .int v5), (6, .int v6)]) hx hb dX3_weigh_109 hl (k := 4) rfl (ii_v _ _ _ (by decide)) (by decide) rfl (fun ls hl => ?_)
        refine lv_iconst (v := 0) hx hb dX3_weigh_112 (by decide) ?_
        refine lv_istore (lv' := [(7, .int 0), (4, .int (v4 + 1)), (0, .ref (ad 999)), (1, .int v1), (2, .int v2), (3, .int v3), (5, .int v5), (6, .int v6)]) hx hb dX3_weigh_113 hl (by decide) rfl (fun ls hl => ?_)
        refine wm_weigh_115 X had (fun σ_25 H locs ls hW hl hf => ?_) _ _ _ _ _ _ hW (lv_sub hl [2, 3, 4, 5, 1, 6, 7, 0] rfl) hf
        refine lv_iinc (v := (v6 + 1)) (lv' := [(6, .int (v6 + 1)), (0, .ref (ad 999)), (1, .int v1), (2, .int v2), (3, .int v3), (4, .int (v4 + 1)), (5, .int v5)]) hx hb dX3_weigh_159 hl (k := 6) rfl (ii_v _ _ _ (by decide)) (by decide) rfl (fun ls hl => ?_)
        refine lv_goto (tgt := 90) hx hb dX3_weigh_162 (by decide) ?_
        exact ih _ _ _ _ _ _ hW (lv_sub hl [1, 2, 3, 4, 5, 6, 0] rfl) hf
noncomputable def m_weigh_76 {ρ : Type} (v1 : Int32) (v2 : Int32) (v3 : Int32) (K : cS → Int32 → Option ρ) : Nat → cS → Int32 → Int32 → Option ρ
  | 0, _, _, _ => none
  | n + 1, σ, v4, v5 => if (σ.1 1 (ix 0)) ≤ v5 then (K σ v4) else (m_weigh_90 v1 v2 v3 v5 (fun σ_26 v_27 => (m_weigh_76 v1 v2 v3 K n σ_26 v_27 (v5 + 1))) FU σ v4 0)
set_option maxHeartbeats 4000000 in
theorem wm_weigh_76 {p : Program} {l : Launch} {e : Env} {s : State} {m : MethodId} {args : Array Value} {below : List Frame} {meth : Method} {c : Code} {g : gG} {A : Nat → Prop} {ad : Nat → Nat} (X : MX p s m args meth c cX3_weigh 10 RX3 (some .int) g A) (had : mI ad) {ρ : Type} {res : ρ} {Q : State → Prop} {v1 : Int32} {v2 : Int32} {v3 : Int32}  {K : cS → Int32 → Option ρ}
    (hK : ∀ (σ : cS) (k4 : Int32) (H : Heap) (locs : List Loc) (ls : Array Slot), WB g A s.heap mIds ad (mE g ad σ) H locs → lv_has ls 10 [(0, .ref (ad 999)), (3, .int v3), (4, .int k4)] → K σ k4 = some res → W p l e (rm_ 4 93) s m args below meth c H locs 0 0 Q (F0 m 171 ls [])) :
    ∀ (n : Nat) (σ : cS) (v4 : Int32) (v5 : Int32) (H : Heap) (locs : List Loc) (ls : Array Slot), WB g A s.heap mIds ad (mE g ad σ) H locs → lv_has ls 10 [(0, .ref (ad 999)), (1, .int v1), (2, .int v2), (3, .int v3), (4, .int v4), (5, .int v5)] → m_weigh_76 v1 v2 v3 K n σ v4 v5 = some res → W p l e (rm_ 4 93) s m args below meth c H locs 0 0 Q (F0 m 76 ls []) := by
  have hx := X.1.1
  have hb := X.1.2.1
  intro n
  induction n with
  | zero =>
    intro σ v4 v5 H locs ls hW hl hf
    rw [m_weigh_76] at hf
    cases hf
  | succ n ih =>
    intro σ v4 v5 H locs ls hW hl hf
    rw [m_weigh_76] at hf
    refine lv_iload hx hb dX3_weigh_76 (lv_at hl 5 rfl) ?_
    refine lv_aload_n hx hb dX3_weigh_78 rfl (lv_at hl 0 rfl) ?_
    refine mg_1 X hW dX3_weigh_79 ?_
    refine lv_iconst (v := 0) hx hb dX3_weigh_82 (by decide) ?_
    refine ml_1 X hW (by decide) dX3_weigh_83 ?_
    refine lv_icmp_ge (tgt := 171) hx hb dX3_weigh_84 (by decide) (fun c_16 => ?_) (fun c_16 => ?_)
    · replace hf := ip hf c_16
      exact hK _ _ _ _ _ hW (lv_sub hl [0, 3, 4] rfl) hf
    · replace hf := ine hf c_16
      refine lv_iconst (v := 0) hx hb dX3_weigh_87 (by decide) ?_
      refine lv_istore (lv' := [(6, .int 0), (0, .ref (ad 999)), (1, .int v1), (2, .int v2), (3, .int v3), (4, .int v4), (5, .int v5)]) hx hb dX3_weigh_88 hl (by decide) rfl (fun ls hl => ?_)
      refine wm_weigh_90 X had (fun σ_26 v_27 H locs ls hW hl hf => ?_) _ _ _ _ _ _ _ hW (lv_sub hl [1, 2, 3, 4, 5, 6, 0] rfl) hf
      refine lv_iinc (v := (v5 + 1)) (lv' := [(5, .int (v5 + 1)), (0, .ref (ad 999)), (1, .int v1), (2, .int v2), (3, .int v3), (4, .int v_27)]) hx hb dX3_weigh_165 hl (k := 5) rfl (ii_v _ _ _ (by decide)) (by decide) rfl (fun ls hl => ?_)
      refine lv_goto (tgt := 76) hx hb dX3_weigh_168 (by decide) ?_
      exact ih _ _ _ _ _ _ hW (lv_sub hl [1, 2, 3, 4, 5, 0] rfl) hf
noncomputable def m_weigh_204 {ρ : Type} (σ : cS) (v3 : Int32) (v4 : Int32) (v5 : Int32) (v6 : Int32) (v7 : Int32) (K : Int32 → Option ρ) : Nat → Int32 → Int32 → Option ρ
  | 0, _, _ => none
  | n + 1, v8, v9 => if 99 < v9 then (K v8) else (gd (inb ((100 * v7) + v9) 1000) (if (σ.1 62 (ix ((100 * v7) + v9))) ≤ v8 then (m_weigh_204 σ v3 v4 v5 v6 v7 K n v8 (v9 + 1)) else (m_weigh_204 σ v3 v4 v5 v6 v7 K n (σ.1 62 (ix ((100 * v7) + v9))) (v9 + 1))))
set_option maxHeartbeats 4000000 in
theorem wm_weigh_204 {p : Program} {l : Launch} {e : Env} {s : State} {m : MethodId} {args : Array Value} {below : List Frame} {meth : Method} {c : Code} {g : gG} {A : Nat → Prop} {ad : Nat → Nat} (X : MX p s m args meth c cX3_weigh 10 RX3 (some .int) g A) (had : mI ad) {ρ : Type} {res : ρ} {Q : State → Prop} {v3 : Int32} {v4 : Int32} {v5 : Int32} {v6 : Int32} {v7 : Int32} {σ : cS}  {K : Int32 → Option ρ}
    (hK : ∀ (k8 : Int32) (H : Heap) (locs : List Loc) (ls : Array Slot), WB g A s.heap mIds ad (mE g ad σ) H locs → lv_has ls 10 [(0, .ref (ad 999)), (3, .int v3), (4, .int v4), (5, .int v5), (6, .int v6), (7, .int v7), (8, .int k8)] → K k8 = some res → W p l e (rm_ 4 93) s m args below meth c H locs 0 0 Q (F0 m 255 ls [])) :
    ∀ (n : Nat) (v8 : Int32) (v9 : Int32) (H : Heap) (locs : List Loc) (ls : Array Slot), WB g A s.heap mIds ad (mE g ad σ) H locs → lv_has ls 10 [(0, .ref (ad 999)), (3, .int v3), (4, .int v4), (5, .int v5), (6, .int v6), (7, .int v7), (8, .int v8), (9, .int v9)] → m_weigh_204 σ v3 v4 v5 v6 v7 K n v8 v9 = some res → W p l e (rm_ 4 93) s m args below meth c H locs 0 0 Q (F0 m 204 ls []) := by
  have hx := X.1.1
  have hb := X.1.2.1
  intro n
  induction n with
  | zero =>
    intro v8 v9 H locs ls hW hl hf
    rw [m_weigh_204] at hf
    cases hf
  | succ n ih =>
    intro v8 v9 H locs ls hW hl hf
    rw [m_weigh_204] at hf
    refine lv_iload hx hb dX3_weigh_204 (lv_at hl 7 rfl) ?_
    refine lv_bipush (v := 99) hx hb dX3_weigh_206 (by decide) ?_
    refine lv_icmp_gt (tgt := 255) hx hb dX3_weigh_208 (by decide) (fun c_32 => ?_) (fun c_32 => ?_)
    · replace hf := ip hf c_32
      exact hK _ _ _ _ hW (lv_sub hl [0, 1, 2, 3, 4, 5, 6] rfl) hf
    · replace hf := ine hf c_32
      refine lv_aload_n hx hb dX3_weigh_211 rfl (lv_at hl 0 rfl) ?_
      refine mg_62 X hW dX3_weigh_212 ?_
      refine lv_bipush (v := 100) hx hb dX3_weigh_215 (by decide) ?_
      refine lv_iload hx hb dX3_weigh_217 (lv_at hl 5 rfl) ?_
      refine lv_imul hx hb dX3_weigh_219 ?_
      refine lv_iload hx hb dX3_weigh_220 (lv_at hl 7 rfl) ?_
      refine lv_iadd hx hb dX3_weigh_222 ?_
      obtain ⟨h_33, hf⟩ := gd_e hf
      refine ml_62 X hW h_33 dX3_weigh_223 ?_
      refine lv_iload hx hb dX3_weigh_224 (lv_at hl 6 rfl) ?_
      refine lv_icmp_le (tgt := 245) hx hb dX3_weigh_226 (by decide) (fun c_34 => ?_) (fun c_34 => ?_)
      · replace hf := ip hf c_34
        refine lv_iload hx hb dX3_weigh_245 (lv_at hl 6 rfl) ?_
        refine lv_istore (lv' := [(8, .int v8), (0, .ref (ad 999)), (3, .int v3), (4, .int v4), (5, .int v5), (6, .int v6), (7, .int v7), (9, .int v9)]) hx hb dX3_weigh_247 hl (by decide) rfl (fun ls hl => ?_)
        refine lv_iinc (v := (v9 + 1)) (lv' := [(9, .int (v9 + 1)), (8, .int v8), (0, .ref (ad 999)), (3, .int v3), (4, .int v4), (5, .int v5), (6, .int v6), (7, .int v7)]) hx hb dX3_weigh_249 hl (k := 7) rfl (ii_v _ _ _ (by decide)) (by decide) rfl (fun ls hl => ?_)
        refine lv_goto (tgt := 204) hx hb dX3_weigh_252 (by decide) ?_
        exact ih _ _ _ _ _ hW (lv_sub hl [2, 3, 4, 5, 6, 7, 1, 0] rfl) hf
      · replace hf := ine hf c_34
        refine lv_aload_n hx hb dX3_weigh_229 rfl (lv_at hl 0 rfl) ?_
        refine mg_62 X hW dX3_weigh_230 ?_
        refine lv_bipush (v := 100) hx hb dX3_weigh_233 (by decide) ?_
        refine lv_iload hx hb dX3_weigh_235 (lv_at hl 5 rfl) ?_
        refine lv_imul hx hb dX3_weigh_237 ?_
        refine lv_iload hx hb dX3_weigh_238 (lv_at hl 7 rfl) ?_
        refine lv_iadd hx hb dX3_weigh_240 ?_
        refine ml_62 X hW h_33 dX3_weigh_241 ?_
        refine lv_goto (tgt := 247) hx hb dX3_weigh_242 (by decide) ?_
        refine lv_istore (lv' := [(8, .int (σ.1 62 (ix ((100 * v7) + v9)))), (0, .ref (ad 999)), (3, .int v3), (4, .int v4), (5, .int v5), (6, .int v6), (7, .int v7), (9, .int v9)]) hx hb dX3_weigh_247 hl (by decide) rfl (fun ls hl => ?_)
        refine lv_iinc (v := (v9 + 1)) (lv' := [(9, .int (v9 + 1)), (8, .int (σ.1 62 (ix ((100 * v7) + v9)))), (0, .ref (ad 999)), (3, .int v3), (4, .int v4), (5, .int v5), (6, .int v6), (7, .int v7)]) hx hb dX3_weigh_249 hl (k := 7) rfl (ii_v _ _ _ (by decide)) (by decide) rfl (fun ls hl => ?_)
        refine lv_goto (tgt := 204) hx hb dX3_weigh_252 (by decide) ?_
        exact ih _ _ _ _ _ hW (lv_sub hl [2, 3, 4, 5, 6, 7, 1, 0] rfl) hf
noncomputable def m_weigh_182 {ρ : Type} (σ : cS) (v3 : Int32) (v4 : Int32) (K : Int32 → Int32 → Option ρ) : Nat → Int32 → Int32 → Int32 → Option ρ
  | 0, _, _, _ => none
  | n + 1, v5, v6, v7 => if (σ.1 1 (ix 0)) ≤ v7 then (K v5 v6) else (if v4 ≤ 0 then (K v5 v6) else (m_weigh_204 σ v3 v4 v5 v6 v7 (fun v_35 => (if v5 = (-2) then (m_weigh_182 σ v3 v4 K n v7 v_35 (v7 + 1)) else (if v6 ≤ v_35 then (m_weigh_182 σ v3 v4 K n v5 v6 (v7 + 1)) else (m_weigh_182 σ v3 v4 K n v7 v_35 (v7 + 1))))) FU 0 0))
set_option maxHeartbeats 4000000 in
theorem wm_weigh_182 {p : Program} {l : Launch} {e : Env} {s : State} {m : MethodId} {args : Array Value} {below : List Frame} {meth : Method} {c : Code} {g : gG} {A : Nat → Prop} {ad : Nat → Nat} (X : MX p s m args meth c cX3_weigh 10 RX3 (some .int) g A) (had : mI ad) {ρ : Type} {res : ρ} {Q : State → Prop} {v3 : Int32} {v4 : Int32} {σ : cS}  {K : Int32 → Int32 → Option ρ}
    (hK : ∀ (k5 : Int32) (k6 : Int32) (H : Heap) (locs : List Loc) (ls : Array Slot), WB g A s.heap mIds ad (mE g ad σ) H locs → lv_has ls 10 [(3, .int v3), (5, .int k5), (6, .int k6)] → K k5 k6 = some res → W p l e (rm_ 4 93) s m args below meth c H locs 0 0 Q (F0 m 283 ls [])) :
    ∀ (n : Nat) (v5 : Int32) (v6 : Int32) (v7 : Int32) (H : Heap) (locs : List Loc) (ls : Array Slot), WB g A s.heap mIds ad (mE g ad σ) H locs → lv_has ls 10 [(0, .ref (ad 999)), (3, .int v3), (4, .int v4), (5, .int v5), (6, .int v6), (7, .int v7)] → m_weigh_182 σ v3 v4 K n v5 v6 v7 = some res → W p l e (rm_ 4 93) s m args below meth c H locs 0 0 Q (F0 m 182 ls []) := by
  have hx := X.1.1
  have hb := X.1.2.1
  intro n
  induction n with
  | zero =>
    intro v5 v6 v7 H locs ls hW hl hf
    rw [m_weigh_182] at hf
    cases hf
  | succ n ih =>
    intro v5 v6 v7 H locs ls hW hl hf
    rw [m_weigh_182] at hf
    refine lv_iload hx hb dX3_weigh_182 (lv_at hl 5 rfl) ?_
    refine lv_aload_n hx hb dX3_weigh_184 rfl (lv_at hl 0 rfl) ?_
    refine mg_1 X hW dX3_weigh_185 ?_
    refine lv_iconst (v := 0) hx hb dX3_weigh_188 (by decide) ?_
    refine ml_1 X hW (by decide) dX3_weigh_189 ?_
    refine lv_icmp_ge (tgt := 283) hx hb dX3_weigh_190 (by decide) (fun c_30 => ?_) (fun c_30 => ?_)
    · replace hf := ip hf c_30
      exact hK _ _ _ _ _ hW (lv_sub hl [1, 3, 4] rfl) hf
    · replace hf := ine hf c_30
      refine lv_iload hx hb dX3_weigh_193 (lv_at hl 2 rfl) ?_
      refine lv_if_le (tgt := 283) hx hb dX3_weigh_195 (by decide) (fun c_31 => ?_) (fun c_31 => ?_)
      · replace hf := ip hf c_31
        exact hK _ _ _ _ _ hW (lv_sub hl [1, 3, 4] rfl) hf
      · replace hf := ine hf c_31
        refine lv_iconst (v := 0) hx hb dX3_weigh_198 (by decide) ?_
        refine lv_istore (lv' := [(8, .int 0), (0, .ref (ad 999)), (3, .int v3), (4, .int v4), (5, .int v5), (6, .int v6), (7, .int v7)]) hx hb dX3_weigh_199 hl (by decide) rfl (fun ls hl => ?_)
        refine lv_iconst (v := 0) hx hb dX3_weigh_201 (by decide) ?_
        refine lv_istore (lv' := [(9, .int 0), (8, .int 0), (0, .ref (ad 999)), (3, .int v3), (4, .int v4), (5, .int v5), (6, .int v6), (7, .int v7)]) hx hb dX3_weigh_202 hl (by decide) rfl (fun ls hl => ?_)
        refine wm_weigh_204 X had (fun v_35 H locs ls hW hl hf => ?_) _ _ _ _ _ _ hW (lv_sub hl [2, 3, 4, 5, 6, 7, 1, 0] rfl) hf
        refine lv_iload hx hb dX3_weigh_255 (lv_at hl 3 rfl) ?_
        refine lv_bipush (v := (-2)) hx hb dX3_weigh_257 (by decide) ?_
        refine lv_icmp_eq (tgt := 269) hx hb dX3_weigh_259 (by decide) (fun c_36 => ?_) (fun c_36 => ?_)
        · replace hf := ip hf c_36
          refine lv_iload hx hb dX3_weigh_269 (lv_at hl 5 rfl) ?_
          refine lv_istore (lv' := [(5, .int v7), (0, .ref (ad 999)), (3, .int v3), (4, .int v4), (6, .int v6), (7, .int v7), (8, .int v_35)]) hx hb dX3_weigh_271 hl (by decide) rfl (fun ls hl => ?_)
          refine lv_iload hx hb dX3_weigh_273 (lv_at hl 6 rfl) ?_
          refine lv_istore (lv' := [(6, .int v_35), (5, .int v7), (0, .ref (ad 999)), (3, .int v3), (4, .int v4), (7, .int v7), (8, .int v_35)]) hx hb dX3_weigh_275 hl (by decide) rfl (fun ls hl => ?_)
          refine lv_iinc (v := (v7 + 1)) (lv' := [(7, .int (v7 + 1)), (6, .int v_35), (5, .int v7), (0, .ref (ad 999)), (3, .int v3), (4, .int v4), (8, .int v_35)]) hx hb dX3_weigh_277 hl (k := 5) rfl (ii_v _ _ _ (by decide)) (by decide) rfl (fun ls hl => ?_)
          refine lv_goto (tgt := 182) hx hb dX3_weigh_280 (by decide) ?_
          exact ih _ _ _ _ _ _ hW (lv_sub hl [3, 4, 5, 2, 1, 0] rfl) hf
        · replace hf := ine hf c_36
          refine lv_iload hx hb dX3_weigh_262 (lv_at hl 6 rfl) ?_
          refine lv_iload hx hb dX3_weigh_264 (lv_at hl 4 rfl) ?_
          refine lv_icmp_ge (tgt := 277) hx hb dX3_weigh_266 (by decide) (fun c_37 => ?_) (fun c_37 => ?_)
          · replace hf := ip hf c_37
            refine lv_iinc (v := (v7 + 1)) (lv' := [(7, .int (v7 + 1)), (0, .ref (ad 999)), (3, .int v3), (4, .int v4), (5, .int v5), (6, .int v6), (8, .int v_35)]) hx hb dX3_weigh_277 hl (k := 5) rfl (ii_v _ _ _ (by decide)) (by decide) rfl (fun ls hl => ?_)
            refine lv_goto (tgt := 182) hx hb dX3_weigh_280 (by decide) ?_
            exact ih _ _ _ _ _ _ hW (lv_sub hl [1, 2, 3, 4, 5, 0] rfl) hf
          · replace hf := ine hf c_37
            refine lv_iload hx hb dX3_weigh_269 (lv_at hl 5 rfl) ?_
            refine lv_istore (lv' := [(5, .int v7), (0, .ref (ad 999)), (3, .int v3), (4, .int v4), (6, .int v6), (7, .int v7), (8, .int v_35)]) hx hb dX3_weigh_271 hl (by decide) rfl (fun ls hl => ?_)
            refine lv_iload hx hb dX3_weigh_273 (lv_at hl 6 rfl) ?_
            refine lv_istore (lv' := [(6, .int v_35), (5, .int v7), (0, .ref (ad 999)), (3, .int v3), (4, .int v4), (7, .int v7), (8, .int v_35)]) hx hb dX3_weigh_275 hl (by decide) rfl (fun ls hl => ?_)
            refine lv_iinc (v := (v7 + 1)) (lv' := [(7, .int (v7 + 1)), (6, .int v_35), (5, .int v7), (0, .ref (ad 999)), (3, .int v3), (4, .int v4), (8, .int v_35)]) hx hb dX3_weigh_277 hl (k := 5) rfl (ii_v _ _ _ (by decide)) (by decide) rfl (fun ls hl => ?_)
            refine lv_goto (tgt := 182) hx hb dX3_weigh_280 (by decide) ?_
            exact ih _ _ _ _ _ _ hW (lv_sub hl [3, 4, 5, 2, 1, 0] rfl) hf
noncomputable def m_weigh (σ : cS) (v1 : Int32) (v2 : Int32) (v3 : Int32) : Option (cS × Int32) :=
  ((m_isStrip σ).bind fun r_2 => if r_2 = 0 then (some (σ, (-1))) else (((m_in v1.toInt64 1 99).bind fun r_5 => if r_5 = 0 then (some (σ, (-1))) else (((m_in v2.toInt64 0 30).bind fun r_8 => if r_8 = 0 then (some (σ, (-1))) else (((m_in v3.toInt64 0 1).bind fun r_11 => if r_11 = 0 then (some (σ, (-1))) else (m_weigh_46 v1 v2 v3 (fun σ_15 => (m_weigh_76 v1 v2 v3 (fun σ_28 v_29 => (m_weigh_182 σ_28 v3 v_29 (fun v_38 v_39 => (if v3 = 0 then (some (σ_28, v_38)) else (some (σ_28, v_39)))) FU (-2) (-2) 0)) FU σ_15 0 0)) FU σ 0))))))))
set_option maxHeartbeats 4000000 in
theorem wb_weigh {p : Program} {l : Launch} {e : Env} {s : State} {m : MethodId} {args : Array Value} {below : List Frame} {meth : Method} {c : Code} {g : gG} {A : Nat → Prop} {ad : Nat → Nat} (X : MX p s m args meth c cX3_weigh 10 RX3 (some .int) g A) (had : mI ad) {σr : cS} {r : Int32} {σ : cS} {v1 : Int32} {v2 : Int32} {v3 : Int32}  {H : Heap} {locs : List Loc} {ls : Array Slot} (hW : WB g A s.heap mIds ad (mE g ad σ) H locs) (hl : lv_has ls 10 [(0, .ref (ad 999)), (1, .int v1), (2, .int v2), (3, .int v3)]) (hf : m_weigh σ v1 v2 v3 = some (σr, r)) : W p l e (rm_ 4 93) s m args below meth c H locs 0 0 (Qm below g mIds ad (mE g ad σr) (some (.int r)) A args s) (F0 m 0 ls []) := by
  have hx := X.1.1
  have hb := X.1.2.1
  unfold m_weigh at hf
  refine lv_aload_n hx hb dX3_weigh_0 rfl (lv_at hl 0 rfl) ?_
  obtain ⟨r_2, h_1, hf⟩ := bd_e hf
  refine k_isStrip X hW had h_1 (by decide) hl (Nat.le_of_ble_eq_true rfl) dX3_weigh_1 (fun H locs hW => ?_)
  refine lv_if_eq (tgt := 41) hx hb dX3_weigh_4 (by decide) (fun c_3 => ?_) (fun c_3 => ?_)
  · replace hf := ip hf c_3
    refine lv_iconst (v := (-1)) hx hb dX3_weigh_41 (by decide) ?_
    exact m_iret X hW hf dX3_weigh_42
  · replace hf := ine hf c_3
    refine lv_iload_n hx hb dX3_weigh_7 rfl (lv_at hl 1 rfl) ?_
    refine lv_i2l (v := v1.toInt64) hx hb dX3_weigh_8 rfl ?_
    refine lv_lconst (v := 1) hx hb dX3_weigh_9 (by decide) ?_
    refine lv_ldc2 (v := 99) hx hb X.1.2.2.2.1 (X.1.2.2.2.2 _ q1677) dX3_weigh_10 ?_
    obtain ⟨r_5, h_4, hf⟩ := bd_e hf
    refine k_in X hW h_4 (by decide) hl (Nat.le_of_ble_eq_true rfl) dX3_weigh_13 (fun H locs hW => ?_)
    refine lv_if_eq (tgt := 41) hx hb dX3_weigh_16 (by decide) (fun c_6 => ?_) (fun c_6 => ?_)
    · replace hf := ip hf c_6
      refine lv_iconst (v := (-1)) hx hb dX3_weigh_41 (by decide) ?_
      exact m_iret X hW hf dX3_weigh_42
    · replace hf := ine hf c_6
      refine lv_iload_n hx hb dX3_weigh_19 rfl (lv_at hl 2 rfl) ?_
      refine lv_i2l (v := v2.toInt64) hx hb dX3_weigh_20 rfl ?_
      refine lv_lconst (v := 0) hx hb dX3_weigh_21 (by decide) ?_
      refine lv_ldc2 (v := 30) hx hb X.1.2.2.2.1 (X.1.2.2.2.2 _ q1770) dX3_weigh_22 ?_
      obtain ⟨r_8, h_7, hf⟩ := bd_e hf
      refine k_in X hW h_7 (by decide) hl (Nat.le_of_ble_eq_true rfl) dX3_weigh_25 (fun H locs hW => ?_)
      refine lv_if_eq (tgt := 41) hx hb dX3_weigh_28 (by decide) (fun c_9 => ?_) (fun c_9 => ?_)
      · replace hf := ip hf c_9
        refine lv_iconst (v := (-1)) hx hb dX3_weigh_41 (by decide) ?_
        exact m_iret X hW hf dX3_weigh_42
      · replace hf := ine hf c_9
        refine lv_iload_n hx hb dX3_weigh_31 rfl (lv_at hl 3 rfl) ?_
        refine lv_i2l (v := v3.toInt64) hx hb dX3_weigh_32 rfl ?_
        refine lv_lconst (v := 0) hx hb dX3_weigh_33 (by decide) ?_
        refine lv_lconst (v := 1) hx hb dX3_weigh_34 (by decide) ?_
        obtain ⟨r_11, h_10, hf⟩ := bd_e hf
        refine k_in X hW h_10 (by decide) hl (Nat.le_of_ble_eq_true rfl) dX3_weigh_35 (fun H locs hW => ?_)
        refine lv_if_ne (tgt := 43) hx hb dX3_weigh_38 (by decide) (fun c_12 => ?_) (fun c_12 => ?_)
        · replace hf := ine hf c_12
          refine lv_iconst (v := 0) hx hb dX3_weigh_43 (by decide) ?_
          refine lv_istore (lv' := [(4, .int 0), (0, .ref (ad 999)), (1, .int v1), (2, .int v2), (3, .int v3)]) hx hb dX3_weigh_44 hl (by decide) rfl (fun ls hl => ?_)
          refine wm_weigh_46 X had (fun σ_15 H locs ls hW hl hf => ?_) _ _ _ _ _ _ hW (lv_sub hl [1, 2, 3, 4, 0] rfl) hf
          refine lv_iconst (v := 0) hx hb dX3_weigh_70 (by decide) ?_
          refine lv_istore (lv' := [(4, .int 0), (0, .ref (ad 999)), (1, .int v1), (2, .int v2), (3, .int v3)]) hx hb dX3_weigh_71 hl (by decide) rfl (fun ls hl => ?_)
          refine lv_iconst (v := 0) hx hb dX3_weigh_73 (by decide) ?_
          refine lv_istore (lv' := [(5, .int 0), (4, .int 0), (0, .ref (ad 999)), (1, .int v1), (2, .int v2), (3, .int v3)]) hx hb dX3_weigh_74 hl (by decide) rfl (fun ls hl => ?_)
          refine wm_weigh_76 X had (fun σ_28 v_29 H locs ls hW hl hf => ?_) _ _ _ _ _ _ _ hW (lv_sub hl [2, 3, 4, 5, 1, 0] rfl) hf
          refine lv_bipush (v := (-2)) hx hb dX3_weigh_171 (by decide) ?_
          refine lv_istore (lv' := [(5, .int (-2)), (0, .ref (ad 999)), (3, .int v3), (4, .int v_29)]) hx hb dX3_weigh_173 hl (by decide) rfl (fun ls hl => ?_)
          refine lv_bipush (v := (-2)) hx hb dX3_weigh_175 (by decide) ?_
          refine lv_istore (lv' := [(6, .int (-2)), (5, .int (-2)), (0, .ref (ad 999)), (3, .int v3), (4, .int v_29)]) hx hb dX3_weigh_177 hl (by decide) rfl (fun ls hl => ?_)
          refine lv_iconst (v := 0) hx hb dX3_weigh_179 (by decide) ?_
          refine lv_istore (lv' := [(7, .int 0), (6, .int (-2)), (5, .int (-2)), (0, .ref (ad 999)), (3, .int v3), (4, .int v_29)]) hx hb dX3_weigh_180 hl (by decide) rfl (fun ls hl => ?_)
          refine wm_weigh_182 X had (fun v_38 v_39 H locs ls hW hl hf => ?_) _ _ _ _ _ _ _ hW (lv_sub hl [3, 4, 5, 2, 1, 0] rfl) hf
          refine lv_iload_n hx hb dX3_weigh_283 rfl (lv_at hl 0 rfl) ?_
          refine lv_if_ne (tgt := 292) hx hb dX3_weigh_284 (by decide) (fun c_40 => ?_) (fun c_40 => ?_)
          · replace hf := ine hf c_40
            refine lv_iload hx hb dX3_weigh_292 (lv_at hl 2 rfl) ?_
            exact m_iret X hW hf dX3_weigh_294
          · replace hf := ip hf c_40
            refine lv_iload hx hb dX3_weigh_287 (lv_at hl 1 rfl) ?_
            refine lv_goto (tgt := 294) hx hb dX3_weigh_289 (by decide) ?_
            exact m_iret X hW hf dX3_weigh_294
        · replace hf := ip hf c_12
          refine lv_iconst (v := (-1)) hx hb dX3_weigh_41 (by decide) ?_
          exact m_iret X hW hf dX3_weigh_42
theorem w_weigh (l : Launch) {g : gG} {ad : Nat → Nat} (had : mI ad) {σr : cS} {r : Int32} {σ : cS} {v1 : Int32} {v2 : Int32} {v3 : Int32}  (hf : m_weigh σ v1 v2 v3 = some (σr, r)) : MM l yX3_weigh cX3_weigh 10 (some .int) 4 93 g ad σ σr [.ref (ad 999), .int v1, .int v2, .int v3] (some (.int r)) :=
  MC.of (by decide) mIds_nd had (Nat.le_of_ble_eq_true rfl) (fun p e s m below meth c A ls X hW hl => wb_weigh X had hW hl hf)
-- ownNights
noncomputable def m_ownNights_6 {ρ : Type} (v1 : Int32) (v2 : Int32) (v3 : Int32) (v4 : Int32) (K : cS → Int32 → Option ρ) : Nat → cS → Int32 → Int32 → Option ρ
  | 0, _, _, _ => none
  | n + 1, σ, v5, v6 => if v3 ≤ v6 then (K σ v5) else (((if v6 = v4 then (some ((1 <<< (v1 &&& 31)))) else (some (0)) : Option (Int32)).bind fun t_2 => (((m_goesNight (si σ 1 (ix 4) ((σ.1 1 (ix 4)) ||| t_2))).bind fun (σ_6, r_5) => ((m_sideOf σ_6 v2).bind fun r_8 => gd (inb v2 8) (if r_8 = (σ_6.1 8 (ix v2)) then (m_ownNights_6 v1 v2 v3 v4 K n σ_6 (v5 + 1) (v6 + 1)) else (m_ownNights_6 v1 v2 v3 v4 K n σ_6 (v5 + 0) (v6 + 1))))))))
set_option maxHeartbeats 4000000 in
theorem wm_ownNights_6 {p : Program} {l : Launch} {e : Env} {s : State} {m : MethodId} {args : Array Value} {below : List Frame} {meth : Method} {c : Code} {g : gG} {A : Nat → Prop} {ad : Nat → Nat} (X : MX p s m args meth c cX3_ownNights 7 RX3 (some .int) g A) (had : mI ad) {ρ : Type} {res : ρ} {Q : State → Prop} {v1 : Int32} {v2 : Int32} {v3 : Int32} {v4 : Int32}  {K : cS → Int32 → Option ρ}
    (hK : ∀ (σ : cS) (k5 : Int32) (H : Heap) (locs : List Loc) (ls : Array Slot), WB g A s.heap mIds ad (mE g ad σ) H locs → lv_has ls 7 [(0, .ref (ad 999)), (5, .int k5)] → K σ k5 = some res → W p l e (rm_ 8 177) s m args below meth c H locs 0 0 Q (F0 m 70 ls [])) :
    ∀ (n : Nat) (σ : cS) (v5 : Int32) (v6 : Int32) (H : Heap) (locs : List Loc) (ls : Array Slot), WB g A s.heap mIds ad (mE g ad σ) H locs → lv_has ls 7 [(0, .ref (ad 999)), (1, .int v1), (2, .int v2), (3, .int v3), (4, .int v4), (5, .int v5), (6, .int v6)] → m_ownNights_6 v1 v2 v3 v4 K n σ v5 v6 = some res → W p l e (rm_ 8 177) s m args below meth c H locs 0 0 Q (F0 m 6 ls []) := by
  have hx := X.1.1
  have hb := X.1.2.1
  intro n
  induction n with
  | zero =>
    intro σ v5 v6 H locs ls hW hl hf
    rw [m_ownNights_6] at hf
    cases hf
  | succ n ih =>
    intro σ v5 v6 H locs ls hW hl hf
    rw [m_ownNights_6] at hf
    refine lv_iload hx hb dX3_ownNights_6 (lv_at hl 6 rfl) ?_
    refine lv_iload_n hx hb dX3_ownNights_8 rfl (lv_at hl 3 rfl) ?_
    refine lv_icmp_ge (tgt := 70) hx hb dX3_ownNights_9 (by decide) (fun c_1 => ?_) (fun c_1 => ?_)
    · replace hf := ip hf c_1
      exact hK _ _ _ _ _ hW (lv_sub hl [0, 5] rfl) hf
    · replace hf := ine hf c_1
      refine lv_aload_n hx hb dX3_ownNights_12 rfl (lv_at hl 0 rfl) ?_
      refine mg_1 X hW dX3_ownNights_13 ?_
      refine lv_iconst (v := 4) hx hb dX3_ownNights_16 (by decide) ?_
      refine lv_dup2_11 hx hb dX3_ownNights_17 rfl rfl ?_
      refine ml_1 X hW (by decide) dX3_ownNights_18 ?_
      refine lv_iload hx hb dX3_ownNights_19 (lv_at hl 6 rfl) ?_
      refine lv_iload hx hb dX3_ownNights_21 (lv_at hl 4 rfl) ?_
      obtain ⟨t_2, hD_3, hf⟩ := bd_e hf
      have hJ : ∀ (H : Heap) (locs : List Loc) (ls : Array Slot), WB g A s.heap mIds ad (mE g ad σ) H locs → lv_has ls 7 [(0, .ref (ad 999)), (1, .int v1), (2, .int v2), (3, .int v3), (4, .int v4), (5, .int v5), (6, .int v6)] → W p l e (rm_ 8 177) s m args below meth c H locs 0 0 Q (F0 m 33 ls [.int t_2, .int (σ.1 1 (ix 4)), .int 4, .ref (ad 1)]) := by
        intro H locs ls hW hl
        refine lv_ior hx hb dX3_ownNights_33 ?_
        refine ms_1 X hW (by decide) dX3_ownNights_34 (fun H locs hW => ?_)
        refine lv_aload_n hx hb dX3_ownNights_35 rfl (lv_at hl 0 rfl) ?_
        obtain ⟨⟨σ_6, r_5⟩, h_4, hf⟩ := bd_e hf
        refine k_goesNight X hW had h_4 (by decide) hl (Nat.le_of_ble_eq_true rfl) dX3_ownNights_36 (fun H locs hW => ?_)
        refine lv_pop hx hb dX3_ownNights_39 rfl ?_
        refine lv_iload hx hb dX3_ownNights_40 (lv_at hl 5 rfl) ?_
        refine lv_aload_n hx hb dX3_ownNights_42 rfl (lv_at hl 0 rfl) ?_
        refine lv_iload_n hx hb dX3_ownNights_43 rfl (lv_at hl 2 rfl) ?_
        obtain ⟨r_8, h_7, hf⟩ := bd_e hf
        refine k_sideOf X hW had h_7 (by decide) hl (Nat.le_of_ble_eq_true rfl) dX3_ownNights_44 (fun H locs hW => ?_)
        refine lv_aload_n hx hb dX3_ownNights_47 rfl (lv_at hl 0 rfl) ?_
        refine mg_8 X hW dX3_ownNights_48 ?_
        refine lv_iload_n hx hb dX3_ownNights_51 rfl (lv_at hl 2 rfl) ?_
        obtain ⟨h_9, hf⟩ := gd_e hf
        refine ml_8 X hW h_9 dX3_ownNights_52 ?_
        refine lv_icmp_ne (tgt := 60) hx hb dX3_ownNights_53 (by decide) (fun c_10 => ?_) (fun c_10 => ?_)
        · replace hf := ine hf c_10
          refine lv_iconst (v := 0) hx hb dX3_ownNights_60 (by decide) ?_
          refine lv_iadd hx hb dX3_ownNights_61 ?_
          refine lv_istore (lv' := [(5, .int (v5 + 0)), (0, .ref (ad 999)), (1, .int v1), (2, .int v2), (3, .int v3), (4, .int v4), (6, .int v6)]) hx hb dX3_ownNights_62 hl (by decide) rfl (fun ls hl => ?_)
          refine lv_iinc (v := (v6 + 1)) (lv' := [(6, .int (v6 + 1)), (5, .int (v5 + 0)), (0, .ref (ad 999)), (1, .int v1), (2, .int v2), (3, .int v3), (4, .int v4)]) hx hb dX3_ownNights_64 hl (k := 6) rfl (ii_v _ _ _ (by decide)) (by decide) rfl (fun ls hl => ?_)
          refine lv_goto (tgt := 6) hx hb dX3_ownNights_67 (by decide) ?_
          exact ih _ _ _ _ _ _ hW (lv_sub hl [2, 3, 4, 5, 6, 1, 0] rfl) hf
        · replace hf := ip hf c_10
          refine lv_iconst (v := 1) hx hb dX3_ownNights_56 (by decide) ?_
          refine lv_goto (tgt := 61) hx hb dX3_ownNights_57 (by decide) ?_
          refine lv_iadd hx hb dX3_ownNights_61 ?_
          refine lv_istore (lv' := [(5, .int (v5 + 1)), (0, .ref (ad 999)), (1, .int v1), (2, .int v2), (3, .int v3), (4, .int v4), (6, .int v6)]) hx hb dX3_ownNights_62 hl (by decide) rfl (fun ls hl => ?_)
          refine lv_iinc (v := (v6 + 1)) (lv' := [(6, .int (v6 + 1)), (5, .int (v5 + 1)), (0, .ref (ad 999)), (1, .int v1), (2, .int v2), (3, .int v3), (4, .int v4)]) hx hb dX3_ownNights_64 hl (k := 6) rfl (ii_v _ _ _ (by decide)) (by decide) rfl (fun ls hl => ?_)
          refine lv_goto (tgt := 6) hx hb dX3_ownNights_67 (by decide) ?_
          exact ih _ _ _ _ _ _ hW (lv_sub hl [2, 3, 4, 5, 6, 1, 0] rfl) hf
      clear hf
      refine lv_icmp_ne (tgt := 32) hx hb dX3_ownNights_23 (by decide) (fun c_11 => ?_) (fun c_11 => ?_)
      · replace hD_3 := ine hD_3 c_11
        refine lv_iconst (v := 0) hx hb dX3_ownNights_32 (by decide) ?_
        cases hD_3
        exact hJ _ _ _ hW (lv_sub hl [0, 1, 2, 3, 4, 5, 6] rfl)
      · replace hD_3 := ip hD_3 c_11
        refine lv_iconst (v := 1) hx hb dX3_ownNights_26 (by decide) ?_
        refine lv_iload_n hx hb dX3_ownNights_27 rfl (lv_at hl 1 rfl) ?_
        refine lv_ishl hx hb dX3_ownNights_28 ?_
        refine lv_goto (tgt := 33) hx hb dX3_ownNights_29 (by decide) ?_
        cases hD_3
        exact hJ _ _ _ hW (lv_sub hl [0, 1, 2, 3, 4, 5, 6] rfl)
noncomputable def m_ownNights (σ : cS) (v1 : Int32) (v2 : Int32) (v3 : Int32) (v4 : Int32) : Option (cS × Int32) :=
  m_ownNights_6 v1 v2 v3 v4 (fun σ_12 v_13 => (((m_laysBack σ_12).bind fun σ_15 => some (σ_15, v_13)))) FU σ 0 0
set_option maxHeartbeats 4000000 in
theorem wb_ownNights {p : Program} {l : Launch} {e : Env} {s : State} {m : MethodId} {args : Array Value} {below : List Frame} {meth : Method} {c : Code} {g : gG} {A : Nat → Prop} {ad : Nat → Nat} (X : MX p s m args meth c cX3_ownNights 7 RX3 (some .int) g A) (had : mI ad) {σr : cS} {r : Int32} {σ : cS} {v1 : Int32} {v2 : Int32} {v3 : Int32} {v4 : Int32}  {H : Heap} {locs : List Loc} {ls : Array Slot} (hW : WB g A s.heap mIds ad (mE g ad σ) H locs) (hl : lv_has ls 7 [(0, .ref (ad 999)), (1, .int v1), (2, .int v2), (3, .int v3), (4, .int v4)]) (hf : m_ownNights σ v1 v2 v3 v4 = some (σr, r)) : W p l e (rm_ 8 177) s m args below meth c H locs 0 0 (Qm below g mIds ad (mE g ad σr) (some (.int r)) A args s) (F0 m 0 ls []) := by
  have hx := X.1.1
  have hb := X.1.2.1
  unfold m_ownNights at hf
  refine lv_iconst (v := 0) hx hb dX3_ownNights_0 (by decide) ?_
  refine lv_istore (lv' := [(5, .int 0), (0, .ref (ad 999)), (1, .int v1), (2, .int v2), (3, .int v3), (4, .int v4)]) hx hb dX3_ownNights_1 hl (by decide) rfl (fun ls hl => ?_)
  refine lv_iconst (v := 0) hx hb dX3_ownNights_3 (by decide) ?_
  refine lv_istore (lv' := [(6, .int 0), (5, .int 0), (0, .ref (ad 999)), (1, .int v1), (2, .int v2), (3, .int v3), (4, .int v4)]) hx hb dX3_ownNights_4 hl (by decide) rfl (fun ls hl => ?_)
  refine wm_ownNights_6 X had (fun σ_12 v_13 H locs ls hW hl hf => ?_) _ _ _ _ _ _ _ hW (lv_sub hl [2, 3, 4, 5, 6, 1, 0] rfl) hf
  refine lv_aload_n hx hb dX3_ownNights_70 rfl (lv_at hl 0 rfl) ?_
  obtain ⟨σ_15, h_14, hf⟩ := bd_e hf
  refine k_laysBack X hW had h_14 (by decide) hl (Nat.le_of_ble_eq_true rfl) dX3_ownNights_71 (fun H locs hW => ?_)
  refine lv_iload hx hb dX3_ownNights_74 (lv_at hl 1 rfl) ?_
  exact m_iret X hW hf dX3_ownNights_76
theorem w_ownNights (l : Launch) {g : gG} {ad : Nat → Nat} (had : mI ad) {σr : cS} {r : Int32} {σ : cS} {v1 : Int32} {v2 : Int32} {v3 : Int32} {v4 : Int32}  (hf : m_ownNights σ v1 v2 v3 v4 = some (σr, r)) : MM l yX3_ownNights cX3_ownNights 7 (some .int) 8 177 g ad σ σr [.ref (ad 999), .int v1, .int v2, .int v3, .int v4] (some (.int r)) :=
  MC.of (by decide) mIds_nd had (Nat.le_of_ble_eq_true rfl) (fun p e s m below meth c A ls X hW hl => wb_ownNights X had hW hl hf)
theorem k_ownNights {p : Program} {l : Launch} {e : Env} {R : Room} {s : State} {m : MethodId} {args : Array Value} {below : List Frame} {meth : Method} {c : Code} {H : Heap} {locs : List Loc} {Q : State → Prop} {cc : ByteArray} {nL : Nat} {ret : Option FieldType} {g : gG} {A : Nat → Prop} {ad : Nat → Nat} {pc : Nat} {ls : Array Slot} {rest : List Value} {lv : List (Nat × Value)} {σr : cS} {r : Int32} {σ : cS} {v1 : Int32} {v2 : Int32} {v3 : Int32} {v4 : Int32} (X : MX p s m args meth c cc nL RX3 ret g A) (hW : WB g A s.heap mIds ad (mE g ad σ) H locs) (had : mI ad)  (hf : m_ownNights σ v1 v2 v3 v4 = some (σr, r)) (hR : 9 ≤ R.frames ∧ 203 ≤ R.locals) (hl : lv_has ls nL lv) (hcat : (rest.map fun v => v.category).sum ≤ 8) (hdg : decode cc pc = .ok (.invokevirtual 545, 3)) (kk : ∀ (H1 : Heap) (l1 : List Loc), WB g A s.heap mIds ad (mE g ad σr) H1 l1 → W p l e R s m args below meth c H1 l1 0 0 Q (F0 m (pc + 3) ls (.int r :: rest))) : W p l e R s m args below meth c H locs 0 0 Q (F0 m pc ls (.int v4 :: .int v3 :: .int v2 :: .int v1 :: .ref (ad 999) :: rest)) :=
  r_callV X hW Sub.all (w_ownNights l had hf) (lw_V q1792 q1794 qs116 q126 q1795) ⟨rfl, by decide, by decide, by decide +kernel⟩ m_999 mE_o rfl (n := 4) hR hl rfl rfl hcat ⟨Nat.zero_le _, Nat.zero_le _⟩ hdg kk
-- crust
noncomputable def m_crust_64 {ρ : Type} (v1 : Int32) (v2 : Int32) (v3 : Int32) (v4 : Int32) (K : cS → Int32 → Int32 → Option ρ) : Nat → cS → Int32 → Int32 → Int32 → Option ρ
  | 0, _, _, _, _ => none
  | n + 1, σ, v5, v6, v7 => if v7 < 0 then (K σ v5 v6) else (((m_isBaked σ v1).bind fun r_20 => if r_20 = 0 then (((m_ownNights σ v1 v2 v3 v7).bind fun (σ_24, r_23) => ((if r_23 ≤ v6 then (some (v5)) else (some (v7)) : Option (Int32)).bind fun t_25 => (if r_23 ≤ v6 then (m_crust_64 v1 v2 v3 v4 K n σ_24 t_25 v6 (v7 + (-1))) else (m_crust_64 v1 v2 v3 v4 K n σ_24 t_25 r_23 (v7 + (-1))))))) else (K σ v5 v6)))
set_option maxHeartbeats 4000000 in
theorem wm_crust_64 {p : Program} {l : Launch} {e : Env} {s : State} {m : MethodId} {args : Array Value} {below : List Frame} {meth : Method} {c : Code} {g : gG} {A : Nat → Prop} {ad : Nat → Nat} (X : MX p s m args meth c cX3_crust 9 RX3 (some .int) g A) (had : mI ad) {ρ : Type} {res : ρ} {Q : State → Prop} {v1 : Int32} {v2 : Int32} {v3 : Int32} {v4 : Int32}  {K : cS → Int32 → Int32 → Option ρ}
    (hK : ∀ (σ : cS) (k5 : Int32) (k6 : Int32) (H : Heap) (locs : List Loc) (ls : Array Slot), WB g A s.heap mIds ad (mE g ad σ) H locs → lv_has ls 9 [(0, .ref (ad 999)), (4, .int v4), (5, .int k5), (6, .int k6)] → K σ k5 k6 = some res → W p l e (rm_ 9 203) s m args below meth c H locs 0 0 Q (F0 m 126 ls [])) :
    ∀ (n : Nat) (σ : cS) (v5 : Int32) (v6 : Int32) (v7 : Int32) (H : Heap) (locs : List Loc) (ls : Array Slot), WB g A s.heap mIds ad (mE g ad σ) H locs → lv_has ls 9 [(0, .ref (ad 999)), (1, .int v1), (2, .int v2), (3, .int v3), (4, .int v4), (5, .int v5), (6, .int v6), (7, .int v7)] → m_crust_64 v1 v2 v3 v4 K n σ v5 v6 v7 = some res → W p l e (rm_ 9 203) s m args below meth c H locs 0 0 Q (F0 m 64 ls []) := by
  have hx := X.1.1
  have hb := X.1.2.1
  intro n
  induction n with
  | zero =>
    intro σ v5 v6 v7 H locs ls hW hl hf
    rw [m_crust_64] at hf
    cases hf
  | succ n ih =>
    intro σ v5 v6 v7 H locs ls hW hl hf
    rw [m_crust_64] at hf
    refine lv_iload hx hb dX3_crust_64 (lv_at hl 7 rfl) ?_
    refine lv_if_lt (tgt := 126) hx hb dX3_crust_66 (by decide) (fun c_18 => ?_) (fun c_18 => ?_)
    · replace hf := ip hf c_18
      exact hK _ _ _ _ _ _ hW (lv_sub hl [0, 4, 5, 6] rfl) hf
    · replace hf := ine hf c_18
      refine lv_aload_n hx hb dX3_crust_69 rfl (lv_at hl 0 rfl) ?_
      refine lv_iload_n hx hb dX3_crust_70 rfl (lv_at hl 1 rfl) ?_
      obtain ⟨r_20, h_19, hf⟩ := bd_e hf
      refine k_isBaked X hW had h_19 (by decide) hl (Nat.le_of_ble_eq_true rfl) dX3_crust_71 (fun H locs hW => ?_)
      refine lv_if_ne (tgt := 126) hx hb dX3_crust_74 (by decide) (fun c_21 => ?_) (fun c_21 => ?_)
      · replace hf := ine hf c_21
        exact hK _ _ _ _ _ _ hW (lv_sub hl [0, 4, 5, 6] rfl) hf
      · replace hf := ip hf c_21
        refine lv_aload_n hx hb dX3_crust_77 rfl (lv_at hl 0 rfl) ?_
        refine lv_iload_n hx hb dX3_crust_78 rfl (lv_at hl 1 rfl) ?_
        refine lv_iload_n hx hb dX3_crust_79 rfl (lv_at hl 2 rfl) ?_
        refine lv_iload_n hx hb dX3_crust_80 rfl (lv_at hl 3 rfl) ?_
        refine lv_iload hx hb dX3_crust_81 (lv_at hl 7 rfl) ?_
        obtain ⟨⟨σ_24, r_23⟩, h_22, hf⟩ := bd_e hf
        refine k_ownNights X hW had h_22 (by decide) hl (Nat.le_of_ble_eq_true rfl) dX3_crust_83 (fun H locs hW => ?_)
        refine lv_istore (lv' := [(8, .int r_23), (0, .ref (ad 999)), (1, .int v1), (2, .int v2), (3, .int v3), (4, .int v4), (5, .int v5), (6, .int v6), (7, .int v7)]) hx hb dX3_crust_86 hl (by decide) rfl (fun ls hl => ?_)
        refine lv_iload hx hb dX3_crust_88 (lv_at hl 0 rfl) ?_
        refine lv_iload hx hb dX3_crust_90 (lv_at hl 7 rfl) ?_
        obtain ⟨t_25, hD_26, hf⟩ := bd_e hf
        have hJ : ∀ (H : Heap) (locs : List Loc) (ls : Array Slot), WB g A s.heap mIds ad (mE g ad σ_24) H locs → lv_has ls 9 [(0, .ref (ad 999)), (1, .int v1), (2, .int v2), (3, .int v3), (4, .int v4), (6, .int v6), (7, .int v7), (8, .int r_23)] → W p l e (rm_ 9 203) s m args below meth c H locs 0 0 Q (F0 m 102 ls [.int t_25]) := by
          intro H locs ls hW hl
          refine lv_istore (lv' := [(5, .int t_25), (0, .ref (ad 999)), (1, .int v1), (2, .int v2), (3, .int v3), (4, .int v4), (6, .int v6), (7, .int v7), (8, .int r_23)]) hx hb dX3_crust_102 hl (by decide) rfl (fun ls hl => ?_)
          refine lv_iload hx hb dX3_crust_104 (lv_at hl 8 rfl) ?_
          refine lv_iload hx hb dX3_crust_106 (lv_at hl 6 rfl) ?_
          refine lv_icmp_le (tgt := 116) hx hb dX3_crust_108 (by decide) (fun c_27 => ?_) (fun c_27 => ?_)
          · replace hf := ip hf c_27
            refine lv_iload hx hb dX3_crust_116 (lv_at hl 6 rfl) ?_
            refine lv_istore (lv' := [(6, .int v6), (5, .int t_25), (0, .ref (ad 999)), (1, .int v1), (2, .int v2), (3, .int v3), (4, .int v4), (7, .int v7), (8, .int r_23)]) hx hb dX3_crust_118 hl (by decide) rfl (fun ls hl => ?_)
            refine lv_iinc (v := (v7 + (-1))) (lv' := [(7, .int (v7 + (-1))), (6, .int v6), (5, .int t_25), (0, .ref (ad 999)), (1, .int v1), (2, .int v2), (3, .int v3), (4, .int v4), (8, .int r_23)]) hx hb dX3_crust_120 hl (k := 7) rfl (ii_v _ _ _ (by decide)) (by decide) rfl (fun ls hl => ?_)
            refine lv_goto (tgt := 64) hx hb dX3_crust_123 (by decide) ?_
            exact ih _ _ _ _ _ _ _ hW (lv_sub hl [3, 4, 5, 6, 7, 2, 1, 0] rfl) hf
          · replace hf := ine hf c_27
            refine lv_iload hx hb dX3_crust_111 (lv_at hl 8 rfl) ?_
            refine lv_goto (tgt := 118) hx hb dX3_crust_113 (by decide) ?_
            refine lv_istore (lv' := [(6, .int r_23), (5, .int t_25), (0, .ref (ad 999)), (1, .int v1), (2, .int v2), (3, .int v3), (4, .int v4), (7, .int v7), (8, .int r_23)]) hx hb dX3_crust_118 hl (by decide) rfl (fun ls hl => ?_)
            refine lv_iinc (v := (v7 + (-1))) (lv' := [(7, .int (v7 + (-1))), (6, .int r_23), (5, .int t_25), (0, .ref (ad 999)), (1, .int v1), (2, .int v2), (3, .int v3), (4, .int v4), (8, .int r_23)]) hx hb dX3_crust_120 hl (k := 7) rfl (ii_v _ _ _ (by decide)) (by decide) rfl (fun ls hl => ?_)
            refine lv_goto (tgt := 64) hx hb dX3_crust_123 (by decide) ?_
            exact ih _ _ _ _ _ _ _ hW (lv_sub hl [3, 4, 5, 6, 7, 2, 1, 0] rfl) hf
        clear hf
        refine lv_icmp_le (tgt := 100) hx hb dX3_crust_92 (by decide) (fun c_28 => ?_) (fun c_28 => ?_)
        · replace hD_26 := ip hD_26 c_28
          refine lv_iload hx hb dX3_crust_100 (lv_at hl 6 rfl) ?_
          cases hD_26
          exact hJ _ _ _ hW (lv_sub hl [1, 2, 3, 4, 5, 7, 8, 0] rfl)
        · replace hD_26 := ine hD_26 c_28
          refine lv_iload hx hb dX3_crust_95 (lv_at hl 8 rfl) ?_
          refine lv_goto (tgt := 102) hx hb dX3_crust_97 (by decide) ?_
          cases hD_26
          exact hJ _ _ _ hW (lv_sub hl [1, 2, 3, 4, 5, 7, 8, 0] rfl)
noncomputable def m_crust (σ : cS) (v1 : Int32) (v2 : Int32) (v3 : Int32) (v4 : Int32) : Option (cS × Int32) :=
  ((m_isMile σ v1).bind fun r_2 => if r_2 = 0 then (some (σ, (-2))) else (((m_isVillage σ v2).bind fun r_5 => if r_5 = 0 then (some (σ, (-2))) else (((m_in v3.toInt64 1 60).bind fun r_8 => if r_8 = 0 then (some (σ, (-2))) else (((m_in v4.toInt64 0 1).bind fun r_11 => if r_11 = 0 then (some (σ, (-2))) else (((m_keepsAll σ).bind fun σ_14 => ((m_ownNights σ_14 v1 v2 v3 (-1)).bind fun (σ_17, r_16) => m_crust_64 v1 v2 v3 v4 (fun σ_29 v_30 v_31 => (if v4 = 1 then (some (σ_29, v_31)) else (if v_30 = (-1) then (some (σ_29, (-1))) else (some (σ_29, ((σ_29.1 1 (ix 5)) + v_30)))))) FU σ_17 (-1) r_16 (v3 - 1)))))))))))
set_option maxHeartbeats 4000000 in
theorem wb_crust {p : Program} {l : Launch} {e : Env} {s : State} {m : MethodId} {args : Array Value} {below : List Frame} {meth : Method} {c : Code} {g : gG} {A : Nat → Prop} {ad : Nat → Nat} (X : MX p s m args meth c cX3_crust 9 RX3 (some .int) g A) (had : mI ad) {σr : cS} {r : Int32} {σ : cS} {v1 : Int32} {v2 : Int32} {v3 : Int32} {v4 : Int32}  {H : Heap} {locs : List Loc} {ls : Array Slot} (hW : WB g A s.heap mIds ad (mE g ad σ) H locs) (hl : lv_has ls 9 [(0, .ref (ad 999)), (1, .int v1), (2, .int v2), (3, .int v3), (4, .int v4)]) (hf : m_crust σ v1 v2 v3 v4 = some (σr, r)) : W p l e (rm_ 9 203) s m args below meth c H locs 0 0 (Qm below g mIds ad (mE g ad σr) (some (.int r)) A args s) (F0 m 0 ls []) := by
  have hx := X.1.1
  have hb := X.1.2.1
  unfold m_crust at hf
  refine lv_aload_n hx hb dX3_crust_0 rfl (lv_at hl 0 rfl) ?_
  refine lv_iload_n hx hb dX3_crust_1 rfl (lv_at hl 1 rfl) ?_
  obtain ⟨r_2, h_1, hf⟩ := bd_e hf
  refine k_isMile X hW had h_1 (by decide) hl (Nat.le_of_ble_eq_true rfl) dX3_crust_2 (fun H locs hW => ?_)
  refine lv_if_eq (tgt := 39) hx hb dX3_crust_5 (by decide) (fun c_3 => ?_) (fun c_3 => ?_)
  · replace hf := ip hf c_3
    refine lv_bipush (v := (-2)) hx hb dX3_crust_39 (by decide) ?_
    exact m_iret X hW hf dX3_crust_41
  · replace hf := ine hf c_3
    refine lv_aload_n hx hb dX3_crust_8 rfl (lv_at hl 0 rfl) ?_
    refine lv_iload_n hx hb dX3_crust_9 rfl (lv_at hl 2 rfl) ?_
    obtain ⟨r_5, h_4, hf⟩ := bd_e hf
    refine k_isVillage X hW had h_4 (by decide) hl (Nat.le_of_ble_eq_true rfl) dX3_crust_10 (fun H locs hW => ?_)
    refine lv_if_eq (tgt := 39) hx hb dX3_crust_13 (by decide) (fun c_6 => ?_) (fun c_6 => ?_)
    · replace hf := ip hf c_6
      refine lv_bipush (v := (-2)) hx hb dX3_crust_39 (by decide) ?_
      exact m_iret X hW hf dX3_crust_41
    · replace hf := ine hf c_6
      refine lv_iload_n hx hb dX3_crust_16 rfl (lv_at hl 3 rfl) ?_
      refine lv_i2l (v := v3.toInt64) hx hb dX3_crust_17 rfl ?_
      refine lv_lconst (v := 1) hx hb dX3_crust_18 (by decide) ?_
      refine lv_ldc2 (v := 60) hx hb X.1.2.2.2.1 (X.1.2.2.2.2 _ q1791) dX3_crust_19 ?_
      obtain ⟨r_8, h_7, hf⟩ := bd_e hf
      refine k_in X hW h_7 (by decide) hl (Nat.le_of_ble_eq_true rfl) dX3_crust_22 (fun H locs hW => ?_)
      refine lv_if_eq (tgt := 39) hx hb dX3_crust_25 (by decide) (fun c_9 => ?_) (fun c_9 => ?_)
      · replace hf := ip hf c_9
        refine lv_bipush (v := (-2)) hx hb dX3_crust_39 (by decide) ?_
        exact m_iret X hW hf dX3_crust_41
      · replace hf := ine hf c_9
        refine lv_iload hx hb dX3_crust_28 (lv_at hl 4 rfl) ?_
        refine lv_i2l (v := v4.toInt64) hx hb dX3_crust_30 rfl ?_
        refine lv_lconst (v := 0) hx hb dX3_crust_31 (by decide) ?_
        refine lv_lconst (v := 1) hx hb dX3_crust_32 (by decide) ?_
        obtain ⟨r_11, h_10, hf⟩ := bd_e hf
        refine k_in X hW h_10 (by decide) hl (Nat.le_of_ble_eq_true rfl) dX3_crust_33 (fun H locs hW => ?_)
        refine lv_if_ne (tgt := 42) hx hb dX3_crust_36 (by decide) (fun c_12 => ?_) (fun c_12 => ?_)
        · replace hf := ine hf c_12
          refine lv_aload_n hx hb dX3_crust_42 rfl (lv_at hl 0 rfl) ?_
          obtain ⟨σ_14, h_13, hf⟩ := bd_e hf
          refine k_keepsAll X hW had h_13 (by decide) hl (Nat.le_of_ble_eq_true rfl) dX3_crust_43 (fun H locs hW => ?_)
          refine lv_iconst (v := (-1)) hx hb dX3_crust_46 (by decide) ?_
          refine lv_istore (lv' := [(5, .int (-1)), (0, .ref (ad 999)), (1, .int v1), (2, .int v2), (3, .int v3), (4, .int v4)]) hx hb dX3_crust_47 hl (by decide) rfl (fun ls hl => ?_)
          refine lv_aload_n hx hb dX3_crust_49 rfl (lv_at hl 1 rfl) ?_
          refine lv_iload_n hx hb dX3_crust_50 rfl (lv_at hl 2 rfl) ?_
          refine lv_iload_n hx hb dX3_crust_51 rfl (lv_at hl 3 rfl) ?_
          refine lv_iload_n hx hb dX3_crust_52 rfl (lv_at hl 4 rfl) ?_
          refine lv_iconst (v := (-1)) hx hb dX3_crust_53 (by decide) ?_
          obtain ⟨⟨σ_17, r_16⟩, h_15, hf⟩ := bd_e hf
          refine k_ownNights X hW had h_15 (by decide) hl (Nat.le_of_ble_eq_true rfl) dX3_crust_54 (fun H locs hW => ?_)
          refine lv_istore (lv' := [(6, .int r_16), (5, .int (-1)), (0, .ref (ad 999)), (1, .int v1), (2, .int v2), (3, .int v3), (4, .int v4)]) hx hb dX3_crust_57 hl (by decide) rfl (fun ls hl => ?_)
          refine lv_iload_n hx hb dX3_crust_59 rfl (lv_at hl 5 rfl) ?_
          refine lv_iconst (v := 1) hx hb dX3_crust_60 (by decide) ?_
          refine lv_isub hx hb dX3_crust_61 ?_
          refine lv_istore (lv' := [(7, .int (v3 - 1)), (6, .int r_16), (5, .int (-1)), (0, .ref (ad 999)), (1, .int v1), (2, .int v2), (3, .int v3), (4, .int v4)]) hx hb dX3_crust_62 hl (by decide) rfl (fun ls hl => ?_)
          refine wm_crust_64 X had (fun σ_29 v_30 v_31 H locs ls hW hl hf => ?_) _ _ _ _ _ _ _ _ hW (lv_sub hl [3, 4, 5, 6, 7, 2, 1, 0] rfl) hf
          refine lv_iload hx hb dX3_crust_126 (lv_at hl 1 rfl) ?_
          refine lv_iconst (v := 1) hx hb dX3_crust_128 (by decide) ?_
          refine lv_icmp_ne (tgt := 137) hx hb dX3_crust_129 (by decide) (fun c_32 => ?_) (fun c_32 => ?_)
          · replace hf := ine hf c_32
            refine lv_iload hx hb dX3_crust_137 (lv_at hl 2 rfl) ?_
            refine lv_iconst (v := (-1)) hx hb dX3_crust_139 (by decide) ?_
            refine lv_icmp_ne (tgt := 147) hx hb dX3_crust_140 (by decide) (fun c_33 => ?_) (fun c_33 => ?_)
            · replace hf := ine hf c_33
              refine lv_aload_n hx hb dX3_crust_147 rfl (lv_at hl 0 rfl) ?_
              refine mg_1 X hW dX3_crust_148 ?_
              refine lv_iconst (v := 5) hx hb dX3_crust_151 (by decide) ?_
              refine ml_1 X hW (by decide) dX3_crust_152 ?_
              refine lv_iload hx hb dX3_crust_153 (lv_at hl 2 rfl) ?_
              refine lv_iadd hx hb dX3_crust_155 ?_
              exact m_iret X hW hf dX3_crust_156
            · replace hf := ip hf c_33
              refine lv_iconst (v := (-1)) hx hb dX3_crust_143 (by decide) ?_
              refine lv_goto (tgt := 156) hx hb dX3_crust_144 (by decide) ?_
              exact m_iret X hW hf dX3_crust_156
          · replace hf := ip hf c_32
            refine lv_iload hx hb dX3_crust_132 (lv_at hl 3 rfl) ?_
            refine lv_goto (tgt := 156) hx hb dX3_crust_134 (by decide) ?_
            exact m_iret X hW hf dX3_crust_156
        · replace hf := ip hf c_12
          refine lv_bipush (v := (-2)) hx hb dX3_crust_39 (by decide) ?_
          exact m_iret X hW hf dX3_crust_41
theorem w_crust (l : Launch) {g : gG} {ad : Nat → Nat} (had : mI ad) {σr : cS} {r : Int32} {σ : cS} {v1 : Int32} {v2 : Int32} {v3 : Int32} {v4 : Int32}  (hf : m_crust σ v1 v2 v3 v4 = some (σr, r)) : MM l yX3_crust cX3_crust 9 (some .int) 9 203 g ad σ σr [.ref (ad 999), .int v1, .int v2, .int v3, .int v4] (some (.int r)) :=
  MC.of (by decide) mIds_nd had (Nat.le_of_ble_eq_true rfl) (fun p e s m below meth c A ls X hW hl => wb_crust X had hW hl hf)
-- peace
noncomputable def m_peace_62 {ρ : Type} (v1 : Int32) (v2 : Int32) (v3 : Int32) (K : cS → Int32 → Option ρ) : Nat → cS → Int32 → Int32 → Option ρ
  | 0, _, _, _ => none
  | n + 1, σ, v4, v5 => if v3 < v5 then (K σ v4) else (if (v5 &&& (v3 ^^^ (-1))) = 0 then (if v4 = (-2) then (((m_goes (si σ 1 (ix 4) ((σ.1 1 (ix 4)) ||| v5)) v1).bind fun (σ_17, r_16) => ((if r_16 = 0 then (some (v5)) else (some (v4)) : Option (Int32)).bind fun t_18 => (((m_laysBack σ_17).bind fun σ_21 => m_peace_62 v1 v2 v3 K n σ_21 t_18 (v5 + 1)))))) else (((m_bits v5).bind fun r_24 => ((m_bits v4).bind fun r_26 => if r_26 ≤ r_24 then (m_peace_62 v1 v2 v3 K n σ v4 (v5 + 1)) else (((m_goes (si σ 1 (ix 4) ((σ.1 1 (ix 4)) ||| v5)) v1).bind fun (σ_30, r_29) => ((if r_29 = 0 then (some (v5)) else (some (v4)) : Option (Int32)).bind fun t_31 => (((m_laysBack σ_30).bind fun σ_34 => m_peace_62 v1 v2 v3 K n σ_34 t_31 (v5 + 1)))))))))) else (m_peace_62 v1 v2 v3 K n σ v4 (v5 + 1)))
set_option maxHeartbeats 4000000 in
theorem wm_peace_62 {p : Program} {l : Launch} {e : Env} {s : State} {m : MethodId} {args : Array Value} {below : List Frame} {meth : Method} {c : Code} {g : gG} {A : Nat → Prop} {ad : Nat → Nat} (X : MX p s m args meth c cX3_peace 6 RX3 (some .int) g A) (had : mI ad) {ρ : Type} {res : ρ} {Q : State → Prop} {v1 : Int32} {v2 : Int32} {v3 : Int32}  {K : cS → Int32 → Option ρ}
    (hK : ∀ (σ : cS) (k4 : Int32) (H : Heap) (locs : List Loc) (ls : Array Slot), WB g A s.heap mIds ad (mE g ad σ) H locs → lv_has ls 6 [(2, .int v2), (4, .int k4)] → K σ k4 = some res → W p l e (rm_ 9 200) s m args below meth c H locs 0 0 Q (F0 m 135 ls [])) :
    ∀ (n : Nat) (σ : cS) (v4 : Int32) (v5 : Int32) (H : Heap) (locs : List Loc) (ls : Array Slot), WB g A s.heap mIds ad (mE g ad σ) H locs → lv_has ls 6 [(0, .ref (ad 999)), (1, .int v1), (2, .int v2), (3, .int v3), (4, .int v4), (5, .int v5)] → m_peace_62 v1 v2 v3 K n σ v4 v5 = some res → W p l e (rm_ 9 200) s m args below meth c H locs 0 0 Q (F0 m 62 ls []) := by
  have hx := X.1.1
  have hb := X.1.2.1
  intro n
  induction n with
  | zero =>
    intro σ v4 v5 H locs ls hW hl hf
    rw [m_peace_62] at hf
    cases hf
  | succ n ih =>
    intro σ v4 v5 H locs ls hW hl hf
    rw [m_peace_62] at hf
    refine lv_iload hx hb dX3_peace_62 (lv_at hl 5 rfl) ?_
    refine lv_iload_n hx hb dX3_peace_64 rfl (lv_at hl 3 rfl) ?_
    refine lv_icmp_gt (tgt := 135) hx hb dX3_peace_65 (by decide) (fun c_12 => ?_) (fun c_12 => ?_)
    · replace hf := ip hf c_12
      exact hK _ _ _ _ _ hW (lv_sub hl [2, 4] rfl) hf
    · replace hf := ine hf c_12
      refine lv_iload hx hb dX3_peace_68 (lv_at hl 5 rfl) ?_
      refine lv_iload_n hx hb dX3_peace_70 rfl (lv_at hl 3 rfl) ?_
      refine lv_iconst (v := (-1)) hx hb dX3_peace_71 (by decide) ?_
      refine lv_ixor hx hb dX3_peace_72 ?_
      refine lv_iand hx hb dX3_peace_73 ?_
      refine lv_if_ne (tgt := 129) hx hb dX3_peace_74 (by decide) (fun c_13 => ?_) (fun c_13 => ?_)
      · replace hf := ine hf c_13
        refine lv_iinc (v := (v5 + 1)) (lv' := [(5, .int (v5 + 1)), (0, .ref (ad 999)), (1, .int v1), (2, .int v2), (3, .int v3), (4, .int v4)]) hx hb dX3_peace_129 hl (k := 5) rfl (ii_v _ _ _ (by decide)) (by decide) rfl (fun ls hl => ?_)
        refine lv_goto (tgt := 62) hx hb dX3_peace_132 (by decide) ?_
        exact ih _ _ _ _ _ _ hW (lv_sub hl [1, 2, 3, 4, 5, 0] rfl) hf
      · replace hf := ip hf c_13
        refine lv_iload hx hb dX3_peace_77 (lv_at hl 4 rfl) ?_
        refine lv_bipush (v := (-2)) hx hb dX3_peace_79 (by decide) ?_
        refine lv_icmp_eq (tgt := 97) hx hb dX3_peace_81 (by decide) (fun c_14 => ?_) (fun c_14 => ?_)
        · replace hf := ip hf c_14
          refine lv_aload_n hx hb dX3_peace_97 rfl (lv_at hl 0 rfl) ?_
          refine mg_1 X hW dX3_peace_98 ?_
          refine lv_iconst (v := 4) hx hb dX3_peace_101 (by decide) ?_
          refine lv_dup2_11 hx hb dX3_peace_102 rfl rfl ?_
          refine ml_1 X hW (by decide) dX3_peace_103 ?_
          refine lv_iload hx hb dX3_peace_104 (lv_at hl 5 rfl) ?_
          refine lv_ior hx hb dX3_peace_106 ?_
          refine ms_1 X hW (by decide) dX3_peace_107 (fun H locs hW => ?_)
          refine lv_aload_n hx hb dX3_peace_108 rfl (lv_at hl 0 rfl) ?_
          refine lv_iload_n hx hb dX3_peace_109 rfl (lv_at hl 1 rfl) ?_
          obtain ⟨⟨σ_17, r_16⟩, h_15, hf⟩ := bd_e hf
          refine k_goes X hW had h_15 (by decide) hl (Nat.le_of_ble_eq_true rfl) dX3_peace_110 (fun H locs hW => ?_)
          obtain ⟨t_18, hD_19, hf⟩ := bd_e hf
          have hJ : ∀ (H : Heap) (locs : List Loc) (ls : Array Slot), WB g A s.heap mIds ad (mE g ad σ_17) H locs → lv_has ls 6 [(0, .ref (ad 999)), (1, .int v1), (2, .int v2), (3, .int v3), (5, .int v5)] → W p l e (rm_ 9 200) s m args below meth c H locs 0 0 Q (F0 m 123 ls [.int t_18]) := by
            intro H locs ls hW hl
            refine lv_istore (lv' := [(4, .int t_18), (0, .ref (ad 999)), (1, .int v1), (2, .int v2), (3, .int v3), (5, .int v5)]) hx hb dX3_peace_123 hl (by decide) rfl (fun ls hl => ?_)
            refine lv_aload_n hx hb dX3_peace_125 rfl (lv_at hl 1 rfl) ?_
            obtain ⟨σ_21, h_20, hf⟩ := bd_e hf
            refine k_laysBack X hW had h_20 (by decide) hl (Nat.le_of_ble_eq_true rfl) dX3_peace_126 (fun H locs hW => ?_)
            refine lv_iinc (v := (v5 + 1)) (lv' := [(5, .int (v5 + 1)), (4, .int t_18), (0, .ref (ad 999)), (1, .int v1), (2, .int v2), (3, .int v3)]) hx hb dX3_peace_129 hl (k := 5) rfl (ii_v _ _ _ (by decide)) (by decide) rfl (fun ls hl => ?_)
            refine lv_goto (tgt := 62) hx hb dX3_peace_132 (by decide) ?_
            exact ih _ _ _ _ _ _ hW (lv_sub hl [2, 3, 4, 5, 1, 0] rfl) hf
          clear hf
          refine lv_if_ne (tgt := 121) hx hb dX3_peace_113 (by decide) (fun c_22 => ?_) (fun c_22 => ?_)
          · replace hD_19 := ine hD_19 c_22
            refine lv_iload hx hb dX3_peace_121 (lv_at hl 4 rfl) ?_
            cases hD_19
            exact hJ _ _ _ hW (lv_sub hl [0, 1, 2, 3, 5] rfl)
          · replace hD_19 := ip hD_19 c_22
            refine lv_iload hx hb dX3_peace_116 (lv_at hl 5 rfl) ?_
            refine lv_goto (tgt := 123) hx hb dX3_peace_118 (by decide) ?_
            cases hD_19
            exact hJ _ _ _ hW (lv_sub hl [0, 1, 2, 3, 5] rfl)
        · replace hf := ine hf c_14
          refine lv_iload hx hb dX3_peace_84 (lv_at hl 5 rfl) ?_
          obtain ⟨r_24, h_23, hf⟩ := bd_e hf
          refine k_bits X hW h_23 (by decide) hl (Nat.le_of_ble_eq_true rfl) dX3_peace_86 (fun H locs hW => ?_)
          refine lv_iload hx hb dX3_peace_89 (lv_at hl 4 rfl) ?_
          obtain ⟨r_26, h_25, hf⟩ := bd_e hf
          refine k_bits X hW h_25 (by decide) hl (Nat.le_of_ble_eq_true rfl) dX3_peace_91 (fun H locs hW => ?_)
          refine lv_icmp_ge (tgt := 129) hx hb dX3_peace_94 (by decide) (fun c_27 => ?_) (fun c_27 => ?_)
          · replace hf := ip hf c_27
            refine lv_iinc (v := (v5 + 1)) (lv' := [(5, .int (v5 + 1)), (0, .ref (ad 999)), (1, .int v1), (2, .int v2), (3, .int v3), (4, .int v4)]) hx hb dX3_peace_129 hl (k := 5) rfl (ii_v _ _ _ (by decide)) (by decide) rfl (fun ls hl => ?_)
            refine lv_goto (tgt := 62) hx hb dX3_peace_132 (by decide) ?_
            exact ih _ _ _ _ _ _ hW (lv_sub hl [1, 2, 3, 4, 5, 0] rfl) hf
          · replace hf := ine hf c_27
            refine lv_aload_n hx hb dX3_peace_97 rfl (lv_at hl 0 rfl) ?_
            refine mg_1 X hW dX3_peace_98 ?_
            refine lv_iconst (v := 4) hx hb dX3_peace_101 (by decide) ?_
            refine lv_dup2_11 hx hb dX3_peace_102 rfl rfl ?_
            refine ml_1 X hW (by decide) dX3_peace_103 ?_
            refine lv_iload hx hb dX3_peace_104 (lv_at hl 5 rfl) ?_
            refine lv_ior hx hb dX3_peace_106 ?_
            refine ms_1 X hW (by decide) dX3_peace_107 (fun H locs hW => ?_)
            refine lv_aload_n hx hb dX3_peace_108 rfl (lv_at hl 0 rfl) ?_
            refine lv_iload_n hx hb dX3_peace_109 rfl (lv_at hl 1 rfl) ?_
            obtain ⟨⟨σ_30, r_29⟩, h_28, hf⟩ := bd_e hf
            refine k_goes X hW had h_28 (by decide) hl (Nat.le_of_ble_eq_true rfl) dX3_peace_110 (fun H locs hW => ?_)
            obtain ⟨t_31, hD_32, hf⟩ := bd_e hf
            have hJ : ∀ (H : Heap) (locs : List Loc) (ls : Array Slot), WB g A s.heap mIds ad (mE g ad σ_30) H locs → lv_has ls 6 [(0, .ref (ad 999)), (1, .int v1), (2, .int v2), (3, .int v3), (5, .int v5)] → W p l e (rm_ 9 200) s m args below meth c H locs 0 0 Q (F0 m 123 ls [.int t_31]) := by
              intro H locs ls hW hl
              refine lv_istore (lv' := [(4, .int t_31), (0, .ref (ad 999)), (1, .int v1), (2, .int v2), (3, .int v3), (5, .int v5)]) hx hb dX3_peace_123 hl (by decide) rfl (fun ls hl => ?_)
              refine lv_aload_n hx hb dX3_peace_125 rfl (lv_at hl 1 rfl) ?_
              obtain ⟨σ_34, h_33, hf⟩ := bd_e hf
              refine k_laysBack X hW had h_33 (by decide) hl (Nat.le_of_ble_eq_true rfl) dX3_peace_126 (fun H locs hW => ?_)
              refine lv_iinc (v := (v5 + 1)) (lv' := [(5, .int (v5 + 1)), (4, .int t_31), (0, .ref (ad 999)), (1, .int v1), (2, .int v2), (3, .int v3)]) hx hb dX3_peace_129 hl (k := 5) rfl (ii_v _ _ _ (by decide)) (by decide) rfl (fun ls hl => ?_)
              refine lv_goto (tgt := 62) hx hb dX3_peace_132 (by decide) ?_
              exact ih _ _ _ _ _ _ hW (lv_sub hl [2, 3, 4, 5, 1, 0] rfl) hf
            clear hf
            refine lv_if_ne (tgt := 121) hx hb dX3_peace_113 (by decide) (fun c_35 => ?_) (fun c_35 => ?_)
            · replace hD_32 := ine hD_32 c_35
              refine lv_iload hx hb dX3_peace_121 (lv_at hl 4 rfl) ?_
              cases hD_32
              exact hJ _ _ _ hW (lv_sub hl [0, 1, 2, 3, 5] rfl)
            · replace hD_32 := ip hD_32 c_35
              refine lv_iload hx hb dX3_peace_116 (lv_at hl 5 rfl) ?_
              refine lv_goto (tgt := 123) hx hb dX3_peace_118 (by decide) ?_
              cases hD_32
              exact hJ _ _ _ hW (lv_sub hl [0, 1, 2, 3, 5] rfl)
noncomputable def m_peace (σ : cS) (v1 : Int32) (v2 : Int32) : Option (cS × Int32) :=
  ((m_isStrip σ).bind fun r_2 => if r_2 = 0 then (some (σ, (-1))) else (((m_in v1.toInt64 1 60).bind fun r_5 => if r_5 = 0 then (some (σ, (-1))) else (((m_in v2.toInt64 0 1).bind fun r_8 => if r_8 = 0 then (some (σ, (-1))) else (((m_keepsAll σ).bind fun σ_11 => m_peace_62 v1 v2 (((1 <<< ((σ.1 1 (ix 0)) &&& 31)) - 1) &&& ((σ.1 1 (ix 4)) ^^^ (-1))) (fun σ_36 v_37 => (if v_37 = (-2) then (some (σ_36, v_37)) else (if v2 = 1 then (some (σ_36, v_37)) else (((m_bits v_37).bind fun r_41 => some (σ_36, r_41)))))) FU σ_11 (-2) 0)))))))
set_option maxHeartbeats 4000000 in
theorem wb_peace {p : Program} {l : Launch} {e : Env} {s : State} {m : MethodId} {args : Array Value} {below : List Frame} {meth : Method} {c : Code} {g : gG} {A : Nat → Prop} {ad : Nat → Nat} (X : MX p s m args meth c cX3_peace 6 RX3 (some .int) g A) (had : mI ad) {σr : cS} {r : Int32} {σ : cS} {v1 : Int32} {v2 : Int32}  {H : Heap} {locs : List Loc} {ls : Array Slot} (hW : WB g A s.heap mIds ad (mE g ad σ) H locs) (hl : lv_has ls 6 [(0, .ref (ad 999)), (1, .int v1), (2, .int v2)]) (hf : m_peace σ v1 v2 = some (σr, r)) : W p l e (rm_ 9 200) s m args below meth c H locs 0 0 (Qm below g mIds ad (mE g ad σr) (some (.int r)) A args s) (F0 m 0 ls []) := by
  have hx := X.1.1
  have hb := X.1.2.1
  unfold m_peace at hf
  refine lv_aload_n hx hb dX3_peace_0 rfl (lv_at hl 0 rfl) ?_
  obtain ⟨r_2, h_1, hf⟩ := bd_e hf
  refine k_isStrip X hW had h_1 (by decide) hl (Nat.le_of_ble_eq_true rfl) dX3_peace_1 (fun H locs hW => ?_)
  refine lv_if_eq (tgt := 29) hx hb dX3_peace_4 (by decide) (fun c_3 => ?_) (fun c_3 => ?_)
  · replace hf := ip hf c_3
    refine lv_iconst (v := (-1)) hx hb dX3_peace_29 (by decide) ?_
    exact m_iret X hW hf dX3_peace_30
  · replace hf := ine hf c_3
    refine lv_iload_n hx hb dX3_peace_7 rfl (lv_at hl 1 rfl) ?_
    refine lv_i2l (v := v1.toInt64) hx hb dX3_peace_8 rfl ?_
    refine lv_lconst (v := 1) hx hb dX3_peace_9 (by decide) ?_
    refine lv_ldc2 (v := 60) hx hb X.1.2.2.2.1 (X.1.2.2.2.2 _ q1791) dX3_peace_10 ?_
    obtain ⟨r_5, h_4, hf⟩ := bd_e hf
    refine k_in X hW h_4 (by decide) hl (Nat.le_of_ble_eq_true rfl) dX3_peace_13 (fun H locs hW => ?_)
    refine lv_if_eq (tgt := 29) hx hb dX3_peace_16 (by decide) (fun c_6 => ?_) (fun c_6 => ?_)
    · replace hf := ip hf c_6
      refine lv_iconst (v := (-1)) hx hb dX3_peace_29 (by decide) ?_
      exact m_iret X hW hf dX3_peace_30
    · replace hf := ine hf c_6
      refine lv_iload_n hx hb dX3_peace_19 rfl (lv_at hl 2 rfl) ?_
      refine lv_i2l (v := v2.toInt64) hx hb dX3_peace_20 rfl ?_
      refine lv_lconst (v := 0) hx hb dX3_peace_21 (by decide) ?_
      refine lv_lconst (v := 1) hx hb dX3_peace_22 (by decide) ?_
      obtain ⟨r_8, h_7, hf⟩ := bd_e hf
      refine k_in X hW h_7 (by decide) hl (Nat.le_of_ble_eq_true rfl) dX3_peace_23 (fun H locs hW => ?_)
      refine lv_if_ne (tgt := 31) hx hb dX3_peace_26 (by decide) (fun c_9 => ?_) (fun c_9 => ?_)
      · replace hf := ine hf c_9
        refine lv_iconst (v := 1) hx hb dX3_peace_31 (by decide) ?_
        refine lv_aload_n hx hb dX3_peace_32 rfl (lv_at hl 0 rfl) ?_
        refine mg_1 X hW dX3_peace_33 ?_
        refine lv_iconst (v := 0) hx hb dX3_peace_36 (by decide) ?_
        refine ml_1 X hW (by decide) dX3_peace_37 ?_
        refine lv_ishl hx hb dX3_peace_38 ?_
        refine lv_iconst (v := 1) hx hb dX3_peace_39 (by decide) ?_
        refine lv_isub hx hb dX3_peace_40 ?_
        refine lv_aload_n hx hb dX3_peace_41 rfl (lv_at hl 0 rfl) ?_
        refine mg_1 X hW dX3_peace_42 ?_
        refine lv_iconst (v := 4) hx hb dX3_peace_45 (by decide) ?_
        refine ml_1 X hW (by decide) dX3_peace_46 ?_
        refine lv_iconst (v := (-1)) hx hb dX3_peace_47 (by decide) ?_
        refine lv_ixor hx hb dX3_peace_48 ?_
        refine lv_iand hx hb dX3_peace_49 ?_
        refine lv_istore_n (lv' := [(3, .int (((1 <<< ((σ.1 1 (ix 0)) &&& 31)) - 1) &&& ((σ.1 1 (ix 4)) ^^^ (-1)))), (0, .ref (ad 999)), (1, .int v1), (2, .int v2)]) hx hb dX3_peace_50 rfl hl (by decide) rfl (fun ls hl => ?_)
        refine lv_bipush (v := (-2)) hx hb dX3_peace_51 (by decide) ?_
        refine lv_istore (lv' := [(4, .int (-2)), (3, .int (((1 <<< ((σ.1 1 (ix 0)) &&& 31)) - 1) &&& ((σ.1 1 (ix 4)) ^^^ (-1)))), (0, .ref (ad 999)), (1, .int v1), (2, .int v2)]) hx hb dX3_peace_53 hl (by decide) rfl (fun ls hl => ?_)
        refine lv_aload_n hx hb dX3_peace_55 rfl (lv_at hl 2 rfl) ?_
        obtain ⟨σ_11, h_10, hf⟩ := bd_e hf
        refine k_keepsAll X hW had h_10 (by decide) hl (Nat.le_of_ble_eq_true rfl) dX3_peace_56 (fun H locs hW => ?_)
        refine lv_iconst (v := 0) hx hb dX3_peace_59 (by decide) ?_
        refine lv_istore (lv' := [(5, .int 0), (4, .int (-2)), (3, .int (((1 <<< ((σ.1 1 (ix 0)) &&& 31)) - 1) &&& ((σ.1 1 (ix 4)) ^^^ (-1)))), (0, .ref (ad 999)), (1, .int v1), (2, .int v2)]) hx hb dX3_peace_60 hl (by decide) rfl (fun ls hl => ?_)
        refine wm_peace_62 X had (fun σ_36 v_37 H locs ls hW hl hf => ?_) _ _ _ _ _ _ _ hW (lv_sub hl [3, 4, 5, 2, 1, 0] rfl) hf
        refine lv_iload hx hb dX3_peace_135 (lv_at hl 1 rfl) ?_
        refine lv_bipush (v := (-2)) hx hb dX3_peace_137 (by decide) ?_
        refine lv_icmp_eq (tgt := 147) hx hb dX3_peace_139 (by decide) (fun c_38 => ?_) (fun c_38 => ?_)
        · replace hf := ip hf c_38
          refine lv_iload hx hb dX3_peace_147 (lv_at hl 1 rfl) ?_
          refine lv_goto (tgt := 157) hx hb dX3_peace_149 (by decide) ?_
          exact m_iret X hW hf dX3_peace_157
        · replace hf := ine hf c_38
          refine lv_iload_n hx hb dX3_peace_142 rfl (lv_at hl 0 rfl) ?_
          refine lv_iconst (v := 1) hx hb dX3_peace_143 (by decide) ?_
          refine lv_icmp_ne (tgt := 152) hx hb dX3_peace_144 (by decide) (fun c_39 => ?_) (fun c_39 => ?_)
          · replace hf := ine hf c_39
            refine lv_iload hx hb dX3_peace_152 (lv_at hl 1 rfl) ?_
            obtain ⟨r_41, h_40, hf⟩ := bd_e hf
            refine k_bits X hW h_40 (by decide) hl (Nat.le_of_ble_eq_true rfl) dX3_peace_154 (fun H locs hW => ?_)
            exact m_iret X hW hf dX3_peace_157
          · replace hf := ip hf c_39
            refine lv_iload hx hb dX3_peace_147 (lv_at hl 1 rfl) ?_
            refine lv_goto (tgt := 157) hx hb dX3_peace_149 (by decide) ?_
            exact m_iret X hW hf dX3_peace_157
      · replace hf := ip hf c_9
        refine lv_iconst (v := (-1)) hx hb dX3_peace_29 (by decide) ?_
        exact m_iret X hW hf dX3_peace_30
theorem w_peace (l : Launch) {g : gG} {ad : Nat → Nat} (had : mI ad) {σr : cS} {r : Int32} {σ : cS} {v1 : Int32} {v2 : Int32}  (hf : m_peace σ v1 v2 = some (σr, r)) : MM l yX3_peace cX3_peace 6 (some .int) 9 200 g ad σ σr [.ref (ad 999), .int v1, .int v2] (some (.int r)) :=
  MC.of (by decide) mIds_nd had (Nat.le_of_ble_eq_true rfl) (fun p e s m below meth c A ls X hW hl => wb_peace X had hW hl hf)
-- part
noncomputable def m_part_23 {ρ : Type} (σ : cS) (v1 : Int32) (K : Int32 → Option ρ) : Nat → Int32 → Int32 → Option ρ
  | 0, _, _ => none
  | n + 1, v2, v3 => if (σ.1 1 (ix 0)) ≤ v3 then (K v2) else (gd (inb v3 10) (m_part_23 σ v1 K n (v2 + ((σ.1 2 (ix v3)) + 20)) (v3 + 1)))
set_option maxHeartbeats 4000000 in
theorem wm_part_23 {p : Program} {l : Launch} {e : Env} {s : State} {m : MethodId} {args : Array Value} {below : List Frame} {meth : Method} {c : Code} {g : gG} {A : Nat → Prop} {ad : Nat → Nat} (X : MX p s m args meth c cX3_part 7 RX3 (some .int) g A) (had : mI ad) {ρ : Type} {res : ρ} {Q : State → Prop} {v1 : Int32} {σ : cS}  {K : Int32 → Option ρ}
    (hK : ∀ (k2 : Int32) (H : Heap) (locs : List Loc) (ls : Array Slot), WB g A s.heap mIds ad (mE g ad σ) H locs → lv_has ls 7 [(0, .ref (ad 999)), (1, .int v1), (2, .int k2)] → K k2 = some res → W p l e (rm_ 2 45) s m args below meth c H locs 0 0 Q (F0 m 51 ls [])) :
    ∀ (n : Nat) (v2 : Int32) (v3 : Int32) (H : Heap) (locs : List Loc) (ls : Array Slot), WB g A s.heap mIds ad (mE g ad σ) H locs → lv_has ls 7 [(0, .ref (ad 999)), (1, .int v1), (2, .int v2), (3, .int v3)] → m_part_23 σ v1 K n v2 v3 = some res → W p l e (rm_ 2 45) s m args below meth c H locs 0 0 Q (F0 m 23 ls []) := by
  have hx := X.1.1
  have hb := X.1.2.1
  intro n
  induction n with
  | zero =>
    intro v2 v3 H locs ls hW hl hf
    rw [m_part_23] at hf
    cases hf
  | succ n ih =>
    intro v2 v3 H locs ls hW hl hf
    rw [m_part_23] at hf
    refine lv_iload_n hx hb dX3_part_23 rfl (lv_at hl 3 rfl) ?_
    refine lv_aload_n hx hb dX3_part_24 rfl (lv_at hl 0 rfl) ?_
    refine mg_1 X hW dX3_part_25 ?_
    refine lv_iconst (v := 0) hx hb dX3_part_28 (by decide) ?_
    refine ml_1 X hW (by decide) dX3_part_29 ?_
    refine lv_icmp_ge (tgt := 51) hx hb dX3_part_30 (by decide) (fun c_7 => ?_) (fun c_7 => ?_)
    · replace hf := ip hf c_7
      exact hK _ _ _ _ hW (lv_sub hl [0, 1, 2] rfl) hf
    · replace hf := ine hf c_7
      refine lv_iload_n hx hb dX3_part_33 rfl (lv_at hl 2 rfl) ?_
      refine lv_aload_n hx hb dX3_part_34 rfl (lv_at hl 0 rfl) ?_
      refine mg_2 X hW dX3_part_35 ?_
      refine lv_iload_n hx hb dX3_part_38 rfl (lv_at hl 3 rfl) ?_
      obtain ⟨h_8, hf⟩ := gd_e hf
      refine ml_2 X hW h_8 dX3_part_39 ?_
      refine lv_bipush (v := 20) hx hb dX3_part_40 (by decide) ?_
      refine lv_iadd hx hb dX3_part_42 ?_
      refine lv_iadd hx hb dX3_part_43 ?_
      refine lv_istore_n (lv' := [(2, .int (v2 + ((σ.1 2 (ix v3)) + 20))), (0, .ref (ad 999)), (1, .int v1), (3, .int v3)]) hx hb dX3_part_44 rfl hl (by decide) rfl (fun ls hl => ?_)
      refine lv_iinc (v := (v3 + 1)) (lv' := [(3, .int (v3 + 1)), (2, .int (v2 + ((σ.1 2 (ix v3)) + 20))), (0, .ref (ad 999)), (1, .int v1)]) hx hb dX3_part_45 hl (k := 3) rfl (ii_v _ _ _ (by decide)) (by decide) rfl (fun ls hl => ?_)
      refine lv_goto (tgt := 23) hx hb dX3_part_48 (by decide) ?_
      exact ih _ _ _ _ _ hW (lv_sub hl [2, 3, 1, 0] rfl) hf
noncomputable def m_part_67 {ρ : Type} (σ : cS) (v1 : Int32) (v2 : Int32) (v3 : Int32) (K : Int32 → Option ρ) : Nat → Int32 → Int32 → Option ρ
  | 0, _, _ => none
  | n + 1, v4, v5 => if v4 = 0 then (K v5) else (gd (nz v4) (m_part_67 σ v1 v2 v3 K n (v5 - v5 / v4 * v4) v4))
set_option maxHeartbeats 4000000 in
theorem wm_part_67 {p : Program} {l : Launch} {e : Env} {s : State} {m : MethodId} {args : Array Value} {below : List Frame} {meth : Method} {c : Code} {g : gG} {A : Nat → Prop} {ad : Nat → Nat} (X : MX p s m args meth c cX3_part 7 RX3 (some .int) g A) (had : mI ad) {ρ : Type} {res : ρ} {Q : State → Prop} {v1 : Int32} {v2 : Int32} {v3 : Int32} {σ : cS}  {K : Int32 → Option ρ}
    (hK : ∀ (k5 : Int32) (H : Heap) (locs : List Loc) (ls : Array Slot), WB g A s.heap mIds ad (mE g ad σ) H locs → lv_has ls 7 [(1, .int v1), (2, .int v2), (3, .int v3), (5, .int k5)] → K k5 = some res → W p l e (rm_ 2 45) s m args below meth c H locs 0 0 Q (F0 m 90 ls [])) :
    ∀ (n : Nat) (v4 : Int32) (v5 : Int32) (H : Heap) (locs : List Loc) (ls : Array Slot), WB g A s.heap mIds ad (mE g ad σ) H locs → lv_has ls 7 [(1, .int v1), (2, .int v2), (3, .int v3), (4, .int v4), (5, .int v5)] → m_part_67 σ v1 v2 v3 K n v4 v5 = some res → W p l e (rm_ 2 45) s m args below meth c H locs 0 0 Q (F0 m 67 ls []) := by
  have hx := X.1.1
  have hb := X.1.2.1
  intro n
  induction n with
  | zero =>
    intro v4 v5 H locs ls hW hl hf
    rw [m_part_67] at hf
    cases hf
  | succ n ih =>
    intro v4 v5 H locs ls hW hl hf
    rw [m_part_67] at hf
    refine lv_iload hx hb dX3_part_67 (lv_at hl 3 rfl) ?_
    refine lv_if_eq (tgt := 90) hx hb dX3_part_69 (by decide) (fun c_10 => ?_) (fun c_10 => ?_)
    · replace hf := ip hf c_10
      exact hK _ _ _ _ hW (lv_sub hl [0, 1, 2, 4] rfl) hf
    · replace hf := ine hf c_10
      refine lv_iload hx hb dX3_part_72 (lv_at hl 4 rfl) ?_
      refine lv_iload hx hb dX3_part_74 (lv_at hl 3 rfl) ?_
      obtain ⟨z_11, hf⟩ := gd_e hf
      refine lv_irem hx hb dX3_part_76 (nz_e z_11) ?_
      refine lv_istore (lv' := [(6, .int (v5 - v5 / v4 * v4)), (1, .int v1), (2, .int v2), (3, .int v3), (4, .int v4), (5, .int v5)]) hx hb dX3_part_77 hl (by decide) rfl (fun ls hl => ?_)
      refine lv_iload hx hb dX3_part_79 (lv_at hl 4 rfl) ?_
      refine lv_istore (lv' := [(5, .int v4), (6, .int (v5 - v5 / v4 * v4)), (1, .int v1), (2, .int v2), (3, .int v3), (4, .int v4)]) hx hb dX3_part_81 hl (by decide) rfl (fun ls hl => ?_)
      refine lv_iload hx hb dX3_part_83 (lv_at hl 1 rfl) ?_
      refine lv_istore (lv' := [(4, .int (v5 - v5 / v4 * v4)), (5, .int v4), (6, .int (v5 - v5 / v4 * v4)), (1, .int v1), (2, .int v2), (3, .int v3)]) hx hb dX3_part_85 hl (by decide) rfl (fun ls hl => ?_)
      refine lv_goto (tgt := 67) hx hb dX3_part_87 (by decide) ?_
      exact ih _ _ _ _ _ hW (lv_sub hl [3, 4, 5, 0, 1] rfl) hf
noncomputable def m_part (σ : cS) (v1 : Int32) : Option (Int32) :=
  ((m_isStrip σ).bind fun r_2 => if r_2 = 0 then (some (-1)) else (((m_in v1.toInt64 0 1).bind fun r_5 => if r_5 = 0 then (some (-1)) else (m_part_23 σ v1 (fun v_9 => (m_part_67 σ v1 v_9 (41 * (σ.1 1 (ix 0))) (fun v_12 => (if v1 = 0 then (gd (nz v_12) (some (v_9 / v_12))) else (gd (nz v_12) (some ((41 * (σ.1 1 (ix 0))) / v_12))))) FU v_9 (41 * (σ.1 1 (ix 0))))) FU 0 0))))
set_option maxHeartbeats 4000000 in
theorem wb_part {p : Program} {l : Launch} {e : Env} {s : State} {m : MethodId} {args : Array Value} {below : List Frame} {meth : Method} {c : Code} {g : gG} {A : Nat → Prop} {ad : Nat → Nat} (X : MX p s m args meth c cX3_part 7 RX3 (some .int) g A) (had : mI ad) {r : Int32} {σ : cS} {v1 : Int32}  {H : Heap} {locs : List Loc} {ls : Array Slot} (hW : WB g A s.heap mIds ad (mE g ad σ) H locs) (hl : lv_has ls 7 [(0, .ref (ad 999)), (1, .int v1)]) (hf : m_part σ v1 = some r) : W p l e (rm_ 2 45) s m args below meth c H locs 0 0 (Qm below g mIds ad (mE g ad σ) (some (.int r)) A args s) (F0 m 0 ls []) := by
  have hx := X.1.1
  have hb := X.1.2.1
  unfold m_part at hf
  refine lv_aload_n hx hb dX3_part_0 rfl (lv_at hl 0 rfl) ?_
  obtain ⟨r_2, h_1, hf⟩ := bd_e hf
  refine k_isStrip X hW had h_1 (by decide) hl (Nat.le_of_ble_eq_true rfl) dX3_part_1 (fun H locs hW => ?_)
  refine lv_if_eq (tgt := 17) hx hb dX3_part_4 (by decide) (fun c_3 => ?_) (fun c_3 => ?_)
  · replace hf := ip hf c_3
    refine lv_iconst (v := (-1)) hx hb dX3_part_17 (by decide) ?_
    exact p_iret X hW hf dX3_part_18
  · replace hf := ine hf c_3
    refine lv_iload_n hx hb dX3_part_7 rfl (lv_at hl 1 rfl) ?_
    refine lv_i2l (v := v1.toInt64) hx hb dX3_part_8 rfl ?_
    refine lv_lconst (v := 0) hx hb dX3_part_9 (by decide) ?_
    refine lv_lconst (v := 1) hx hb dX3_part_10 (by decide) ?_
    obtain ⟨r_5, h_4, hf⟩ := bd_e hf
    refine k_in X hW h_4 (by decide) hl (Nat.le_of_ble_eq_true rfl) dX3_part_11 (fun H locs hW => ?_)
    refine lv_if_ne (tgt := 19) hx hb dX3_part_14 (by decide) (fun c_6 => ?_) (fun c_6 => ?_)
    · replace hf := ine hf c_6
      refine lv_iconst (v := 0) hx hb dX3_part_19 (by decide) ?_
      refine lv_istore_n (lv' := [(2, .int 0), (0, .ref (ad 999)), (1, .int v1)]) hx hb dX3_part_20 rfl hl (by decide) rfl (fun ls hl => ?_)
      refine lv_iconst (v := 0) hx hb dX3_part_21 (by decide) ?_
      refine lv_istore_n (lv' := [(3, .int 0), (2, .int 0), (0, .ref (ad 999)), (1, .int v1)]) hx hb dX3_part_22 rfl hl (by decide) rfl (fun ls hl => ?_)
      refine wm_part_23 X had (fun v_9 H locs ls hW hl hf => ?_) _ _ _ _ _ _ hW (lv_sub hl [2, 3, 1, 0] rfl) hf
      refine lv_bipush (v := 41) hx hb dX3_part_51 (by decide) ?_
      refine lv_aload_n hx hb dX3_part_53 rfl (lv_at hl 0 rfl) ?_
      refine mg_1 X hW dX3_part_54 ?_
      refine lv_iconst (v := 0) hx hb dX3_part_57 (by decide) ?_
      refine ml_1 X hW (by decide) dX3_part_58 ?_
      refine lv_imul hx hb dX3_part_59 ?_
      refine lv_istore_n (lv' := [(3, .int (41 * (σ.1 1 (ix 0)))), (0, .ref (ad 999)), (1, .int v1), (2, .int v_9)]) hx hb dX3_part_60 rfl hl (by decide) rfl (fun ls hl => ?_)
      refine lv_iload_n hx hb dX3_part_61 rfl (lv_at hl 3 rfl) ?_
      refine lv_istore (lv' := [(4, .int v_9), (3, .int (41 * (σ.1 1 (ix 0)))), (0, .ref (ad 999)), (1, .int v1), (2, .int v_9)]) hx hb dX3_part_62 hl (by decide) rfl (fun ls hl => ?_)
      refine lv_iload_n hx hb dX3_part_64 rfl (lv_at hl 1 rfl) ?_
      refine lv_istore (lv' := [(5, .int (41 * (σ.1 1 (ix 0)))), (4, .int v_9), (3, .int (41 * (σ.1 1 (ix 0)))), (0, .ref (ad 999)), (1, .int v1), (2, .int v_9)]) hx hb dX3_part_65 hl (by decide) rfl (fun ls hl => ?_)
      refine wm_part_67 X had (fun v_12 H locs ls hW hl hf => ?_) _ _ _ _ _ _ hW (lv_sub hl [4, 5, 2, 1, 0] rfl) hf
      refine lv_iload_n hx hb dX3_part_90 rfl (lv_at hl 0 rfl) ?_
      refine lv_if_ne (tgt := 101) hx hb dX3_part_91 (by decide) (fun c_13 => ?_) (fun c_13 => ?_)
      · replace hf := ine hf c_13
        refine lv_iload_n hx hb dX3_part_101 rfl (lv_at hl 2 rfl) ?_
        refine lv_iload hx hb dX3_part_102 (lv_at hl 3 rfl) ?_
        obtain ⟨z_14, hf⟩ := gd_e hf
        refine lv_idiv hx hb dX3_part_104 (nz_e z_14) ?_
        exact p_iret X hW hf dX3_part_105
      · replace hf := ip hf c_13
        refine lv_iload_n hx hb dX3_part_94 rfl (lv_at hl 1 rfl) ?_
        refine lv_iload hx hb dX3_part_95 (lv_at hl 3 rfl) ?_
        obtain ⟨z_15, hf⟩ := gd_e hf
        refine lv_idiv hx hb dX3_part_97 (nz_e z_15) ?_
        refine lv_goto (tgt := 105) hx hb dX3_part_98 (by decide) ?_
        exact p_iret X hW hf dX3_part_105
    · replace hf := ip hf c_6
      refine lv_iconst (v := (-1)) hx hb dX3_part_17 (by decide) ?_
      exact p_iret X hW hf dX3_part_18
theorem w_part (l : Launch) {g : gG} {ad : Nat → Nat} (had : mI ad) {r : Int32} {σ : cS} {v1 : Int32}  (hf : m_part σ v1 = some r) : MM l yX3_part cX3_part 7 (some .int) 2 45 g ad σ σ [.ref (ad 999), .int v1] (some (.int r)) :=
  MC.of (by decide) mIds_nd had (Nat.le_of_ble_eq_true rfl) (fun p e s m below meth c A ls X hW hl => wb_part X had hW hl hf)
-- seed
noncomputable def m_seed (σ : cS) (v1 : Int32) : Option (cS × Int32) :=
  if 0 ≤ v1 then (some ((si σ 1 (ix 7) v1), (σ.1 1 (ix 7)))) else (some (σ, (-1)))
set_option maxHeartbeats 4000000 in
theorem wb_seed {p : Program} {l : Launch} {e : Env} {s : State} {m : MethodId} {args : Array Value} {below : List Frame} {meth : Method} {c : Code} {g : gG} {A : Nat → Prop} {ad : Nat → Nat} (X : MX p s m args meth c cX3_seed 3 RX3 (some .int) g A) (had : mI ad) {σr : cS} {r : Int32} {σ : cS} {v1 : Int32}  {H : Heap} {locs : List Loc} {ls : Array Slot} (hW : WB g A s.heap mIds ad (mE g ad σ) H locs) (hl : lv_has ls 3 [(0, .ref (ad 999)), (1, .int v1)]) (hf : m_seed σ v1 = some (σr, r)) : W p l e (rm_ 1 20) s m args below meth c H locs 0 0 (Qm below g mIds ad (mE g ad σr) (some (.int r)) A args s) (F0 m 0 ls []) := by
  have hx := X.1.1
  have hb := X.1.2.1
  unfold m_seed at hf
  refine lv_iload_n hx hb dX3_seed_0 rfl (lv_at hl 1 rfl) ?_
  refine lv_if_ge (tgt := 6) hx hb dX3_seed_1 (by decide) (fun c_1 => ?_) (fun c_1 => ?_)
  · replace hf := ip hf c_1
    refine lv_aload_n hx hb dX3_seed_6 rfl (lv_at hl 0 rfl) ?_
    refine mg_1 X hW dX3_seed_7 ?_
    refine lv_bipush (v := 7) hx hb dX3_seed_10 (by decide) ?_
    refine ml_1 X hW (by decide) dX3_seed_12 ?_
    refine lv_istore_n (lv' := [(2, .int (σ.1 1 (ix 7))), (0, .ref (ad 999)), (1, .int v1)]) hx hb dX3_seed_13 rfl hl (by decide) rfl (fun ls hl => ?_)
    refine lv_aload_n hx hb dX3_seed_14 rfl (lv_at hl 1 rfl) ?_
    refine mg_1 X hW dX3_seed_15 ?_
    refine lv_bipush (v := 7) hx hb dX3_seed_18 (by decide) ?_
    refine lv_iload_n hx hb dX3_seed_20 rfl (lv_at hl 2 rfl) ?_
    refine ms_1 X hW (by decide) dX3_seed_21 (fun H locs hW => ?_)
    refine lv_iload_n hx hb dX3_seed_22 rfl (lv_at hl 0 rfl) ?_
    exact m_iret X hW hf dX3_seed_23
  · replace hf := ine hf c_1
    refine lv_iconst (v := (-1)) hx hb dX3_seed_4 (by decide) ?_
    exact m_iret X hW hf dX3_seed_5
theorem w_seed (l : Launch) {g : gG} {ad : Nat → Nat} (had : mI ad) {σr : cS} {r : Int32} {σ : cS} {v1 : Int32}  (hf : m_seed σ v1 = some (σr, r)) : MM l yX3_seed cX3_seed 3 (some .int) 1 20 g ad σ σr [.ref (ad 999), .int v1] (some (.int r)) :=
  MC.of (by decide) mIds_nd had (Nat.le_of_ble_eq_true rfl) (fun p e s m below meth c A ls X hW hl => wb_seed X had hW hl hf)
-- draws
noncomputable def m_draws (σ : cS) (v1 : Int32) : Option (cS × Int32) :=
  gd (nz v1) (some ((si σ 1 (ix 7) (((((σ.1 1 (ix 7)).toInt64 * 1103515245) + 12345) - (((σ.1 1 (ix 7)).toInt64 * 1103515245) + 12345) / 2147483648 * 2147483648).toInt32)), ((((si σ 1 (ix 7) (((((σ.1 1 (ix 7)).toInt64 * 1103515245) + 12345) - (((σ.1 1 (ix 7)).toInt64 * 1103515245) + 12345) / 2147483648 * 2147483648).toInt32)).1 1 (ix 7)) / 65536) - (((si σ 1 (ix 7) (((((σ.1 1 (ix 7)).toInt64 * 1103515245) + 12345) - (((σ.1 1 (ix 7)).toInt64 * 1103515245) + 12345) / 2147483648 * 2147483648).toInt32)).1 1 (ix 7)) / 65536) / v1 * v1)))
set_option maxHeartbeats 4000000 in
theorem wb_draws {p : Program} {l : Launch} {e : Env} {s : State} {m : MethodId} {args : Array Value} {below : List Frame} {meth : Method} {c : Code} {g : gG} {A : Nat → Prop} {ad : Nat → Nat} (X : MX p s m args meth c cX3_draws 2 RX3 (some .int) g A) (had : mI ad) {σr : cS} {r : Int32} {σ : cS} {v1 : Int32}  {H : Heap} {locs : List Loc} {ls : Array Slot} (hW : WB g A s.heap mIds ad (mE g ad σ) H locs) (hl : lv_has ls 2 [(0, .ref (ad 999)), (1, .int v1)]) (hf : m_draws σ v1 = some (σr, r)) : W p l e (rm_ 1 20) s m args below meth c H locs 0 0 (Qm below g mIds ad (mE g ad σr) (some (.int r)) A args s) (F0 m 0 ls []) := by
  have hx := X.1.1
  have hb := X.1.2.1
  unfold m_draws at hf
  refine lv_aload_n hx hb dX3_draws_0 rfl (lv_at hl 0 rfl) ?_
  refine mg_1 X hW dX3_draws_1 ?_
  refine lv_bipush (v := 7) hx hb dX3_draws_4 (by decide) ?_
  refine lv_aload_n hx hb dX3_draws_6 rfl (lv_at hl 0 rfl) ?_
  refine mg_1 X hW dX3_draws_7 ?_
  refine lv_bipush (v := 7) hx hb dX3_draws_10 (by decide) ?_
  refine ml_1 X hW (by decide) dX3_draws_12 ?_
  refine lv_i2l (v := (σ.1 1 (ix 7)).toInt64) hx hb dX3_draws_13 rfl ?_
  refine lv_ldc2 (v := 1103515245) hx hb X.1.2.2.2.1 (X.1.2.2.2.2 _ q1817) dX3_draws_14 ?_
  refine lv_lmul hx hb dX3_draws_17 ?_
  refine lv_ldc2 (v := 12345) hx hb X.1.2.2.2.1 (X.1.2.2.2.2 _ q1818) dX3_draws_18 ?_
  refine lv_ladd hx hb dX3_draws_21 ?_
  refine lv_ldc2 (v := 2147483648) hx hb X.1.2.2.2.1 (X.1.2.2.2.2 _ q1819) dX3_draws_22 ?_
  refine lv_lrem hx hb dX3_draws_25 (by decide) ?_
  refine lv_l2i (v := ((((σ.1 1 (ix 7)).toInt64 * 1103515245) + 12345) - (((σ.1 1 (ix 7)).toInt64 * 1103515245) + 12345) / 2147483648 * 2147483648).toInt32) hx hb dX3_draws_26 rfl ?_
  refine ms_1 X hW (by decide) dX3_draws_27 (fun H locs hW => ?_)
  refine lv_aload_n hx hb dX3_draws_28 rfl (lv_at hl 0 rfl) ?_
  refine mg_1 X hW dX3_draws_29 ?_
  refine lv_bipush (v := 7) hx hb dX3_draws_32 (by decide) ?_
  refine ml_1 X hW (by decide) dX3_draws_34 ?_
  refine lv_ldcw (v := 65536) hx hb X.1.2.2.2.1 (X.1.2.2.2.2 _ q1820) dX3_draws_35 ?_
  refine lv_idiv hx hb dX3_draws_38 (by decide) ?_
  refine lv_iload_n hx hb dX3_draws_39 rfl (lv_at hl 1 rfl) ?_
  obtain ⟨z_1, hf⟩ := gd_e hf
  refine lv_irem hx hb dX3_draws_40 (nz_e z_1) ?_
  exact m_iret X hW hf dX3_draws_41
theorem w_draws (l : Launch) {g : gG} {ad : Nat → Nat} (had : mI ad) {σr : cS} {r : Int32} {σ : cS} {v1 : Int32}  (hf : m_draws σ v1 = some (σr, r)) : MM l yX3_draws cX3_draws 2 (some .int) 1 20 g ad σ σr [.ref (ad 999), .int v1] (some (.int r)) :=
  MC.of (by decide) mIds_nd had (Nat.le_of_ble_eq_true rfl) (fun p e s m below meth c A ls X hW hl => wb_draws X had hW hl hf)
theorem k_draws {p : Program} {l : Launch} {e : Env} {R : Room} {s : State} {m : MethodId} {args : Array Value} {below : List Frame} {meth : Method} {c : Code} {H : Heap} {locs : List Loc} {Q : State → Prop} {cc : ByteArray} {nL : Nat} {ret : Option FieldType} {g : gG} {A : Nat → Prop} {ad : Nat → Nat} {pc : Nat} {ls : Array Slot} {rest : List Value} {lv : List (Nat × Value)} {σr : cS} {r : Int32} {σ : cS} {v1 : Int32} (X : MX p s m args meth c cc nL RX3 ret g A) (hW : WB g A s.heap mIds ad (mE g ad σ) H locs) (had : mI ad)  (hf : m_draws σ v1 = some (σr, r)) (hR : 2 ≤ R.frames ∧ 41 ≤ R.locals) (hl : lv_has ls nL lv) (hcat : (rest.map fun v => v.category).sum ≤ 8) (hdg : decode cc pc = .ok (.invokevirtual 558, 3)) (kk : ∀ (H1 : Heap) (l1 : List Loc), WB g A s.heap mIds ad (mE g ad σr) H1 l1 → W p l e R s m args below meth c H1 l1 0 0 Q (F0 m (pc + 3) ls (.int r :: rest))) : W p l e R s m args below meth c H locs 0 0 Q (F0 m pc ls (.int v1 :: .ref (ad 999) :: rest)) :=
  r_callV X hW Sub.all (w_draws l had hf) (lw_V q1813 q1815 qs117 q126 q1816) ⟨rfl, by decide, by decide, by decide +kernel⟩ m_999 mE_o rfl (n := 1) hR hl rfl rfl hcat ⟨Nat.zero_le _, Nat.zero_le _⟩ hdg kk
-- summers
noncomputable def m_summers_98 {ρ : Type} (v1 : Int32) (v2 : Int32) (v3 : Int32) (v4 : Int32) (v7 : Int32) (v8 : Int32) (K : cS → Int32 → Option ρ) : Nat → cS → Int32 → Int32 → Option ρ
  | 0, _, _, _ => none
  | n + 1, σ, v6, v9 => if v2 ≤ v9 then (K σ v6) else (((m_draws σ 10).bind fun (σ_21, r_20) => ((m_nightOf σ_21 r_20).bind fun (σ_24, r_23) => m_summers_98 v1 v2 v3 v4 v7 v8 K n σ_24 (v6 + r_23) (v9 + 1))))
set_option maxHeartbeats 4000000 in
theorem wm_summers_98 {p : Program} {l : Launch} {e : Env} {s : State} {m : MethodId} {args : Array Value} {below : List Frame} {meth : Method} {c : Code} {g : gG} {A : Nat → Prop} {ad : Nat → Nat} (X : MX p s m args meth c cX3_summers 10 RX3 (some .int) g A) (had : mI ad) {ρ : Type} {res : ρ} {Q : State → Prop} {v1 : Int32} {v2 : Int32} {v3 : Int32} {v4 : Int32} {v7 : Int32} {v8 : Int32}  {K : cS → Int32 → Option ρ}
    (hK : ∀ (σ : cS) (k6 : Int32) (H : Heap) (locs : List Loc) (ls : Array Slot), WB g A s.heap mIds ad (mE g ad σ) H locs → lv_has ls 10 [(0, .ref (ad 999)), (1, .int v1), (2, .int v2), (3, .int v3), (4, .int v4), (6, .int k6), (7, .int v7), (8, .int v8)] → K σ k6 = some res → W p l e (rm_ 7 157) s m args below meth c H locs 0 0 Q (F0 m 125 ls [])) :
    ∀ (n : Nat) (σ : cS) (v6 : Int32) (v9 : Int32) (H : Heap) (locs : List Loc) (ls : Array Slot), WB g A s.heap mIds ad (mE g ad σ) H locs → lv_has ls 10 [(0, .ref (ad 999)), (1, .int v1), (2, .int v2), (3, .int v3), (4, .int v4), (6, .int v6), (7, .int v7), (8, .int v8), (9, .int v9)] → m_summers_98 v1 v2 v3 v4 v7 v8 K n σ v6 v9 = some res → W p l e (rm_ 7 157) s m args below meth c H locs 0 0 Q (F0 m 98 ls []) := by
  have hx := X.1.1
  have hb := X.1.2.1
  intro n
  induction n with
  | zero =>
    intro σ v6 v9 H locs ls hW hl hf
    rw [m_summers_98] at hf
    cases hf
  | succ n ih =>
    intro σ v6 v9 H locs ls hW hl hf
    rw [m_summers_98] at hf
    refine lv_iload hx hb dX3_summers_98 (lv_at hl 8 rfl) ?_
    refine lv_iload_n hx hb dX3_summers_100 rfl (lv_at hl 2 rfl) ?_
    refine lv_icmp_ge (tgt := 125) hx hb dX3_summers_101 (by decide) (fun c_18 => ?_) (fun c_18 => ?_)
    · replace hf := ip hf c_18
      exact hK _ _ _ _ _ hW (lv_sub hl [0, 1, 2, 3, 4, 5, 6, 7] rfl) hf
    · replace hf := ine hf c_18
      refine lv_iload hx hb dX3_summers_104 (lv_at hl 5 rfl) ?_
      refine lv_aload_n hx hb dX3_summers_106 rfl (lv_at hl 0 rfl) ?_
      refine lv_aload_n hx hb dX3_summers_107 rfl (lv_at hl 0 rfl) ?_
      refine lv_bipush (v := 10) hx hb dX3_summers_108 (by decide) ?_
      obtain ⟨⟨σ_21, r_20⟩, h_19, hf⟩ := bd_e hf
      refine k_draws X hW had h_19 (by decide) hl (Nat.le_of_ble_eq_true rfl) dX3_summers_110 (fun H locs hW => ?_)
      obtain ⟨⟨σ_24, r_23⟩, h_22, hf⟩ := bd_e hf
      refine k_nightOf X hW had h_22 (by decide) hl (Nat.le_of_ble_eq_true rfl) dX3_summers_113 (fun H locs hW => ?_)
      refine lv_iadd hx hb dX3_summers_116 ?_
      refine lv_istore (lv' := [(6, .int (v6 + r_23)), (0, .ref (ad 999)), (1, .int v1), (2, .int v2), (3, .int v3), (4, .int v4), (7, .int v7), (8, .int v8), (9, .int v9)]) hx hb dX3_summers_117 hl (by decide) rfl (fun ls hl => ?_)
      refine lv_iinc (v := (v9 + 1)) (lv' := [(9, .int (v9 + 1)), (6, .int (v6 + r_23)), (0, .ref (ad 999)), (1, .int v1), (2, .int v2), (3, .int v3), (4, .int v4), (7, .int v7), (8, .int v8)]) hx hb dX3_summers_119 hl (k := 8) rfl (ii_v _ _ _ (by decide)) (by decide) rfl (fun ls hl => ?_)
      refine lv_goto (tgt := 98) hx hb dX3_summers_122 (by decide) ?_
      exact ih _ _ _ _ _ _ hW (lv_sub hl [2, 3, 4, 5, 6, 1, 7, 8, 0] rfl) hf
noncomputable def m_summers_128 {ρ : Type} (σ : cS) (v1 : Int32) (v2 : Int32) (v3 : Int32) (v4 : Int32) (v6 : Int32) (v8 : Int32) (K : Int32 → Option ρ) : Nat → Int32 → Int32 → Option ρ
  | 0, _, _ => none
  | n + 1, v7, v9 => if (σ.1 1 (ix 0)) ≤ v9 then (K v7) else (gd (inb v9 10) (if (σ.1 2 (ix v9)) ≤ (σ.1 63 (ix v9)) then (m_summers_128 σ v1 v2 v3 v4 v6 v8 K n (v7 + ((σ.1 63 (ix v9)) - (σ.1 2 (ix v9)))) (v9 + 1)) else (m_summers_128 σ v1 v2 v3 v4 v6 v8 K n (v7 + ((σ.1 2 (ix v9)) - (σ.1 63 (ix v9)))) (v9 + 1))))
set_option maxHeartbeats 4000000 in
theorem wm_summers_128 {p : Program} {l : Launch} {e : Env} {s : State} {m : MethodId} {args : Array Value} {below : List Frame} {meth : Method} {c : Code} {g : gG} {A : Nat → Prop} {ad : Nat → Nat} (X : MX p s m args meth c cX3_summers 10 RX3 (some .int) g A) (had : mI ad) {ρ : Type} {res : ρ} {Q : State → Prop} {v1 : Int32} {v2 : Int32} {v3 : Int32} {v4 : Int32} {v6 : Int32} {v8 : Int32} {σ : cS}  {K : Int32 → Option ρ}
    (hK : ∀ (k7 : Int32) (H : Heap) (locs : List Loc) (ls : Array Slot), WB g A s.heap mIds ad (mE g ad σ) H locs → lv_has ls 10 [(0, .ref (ad 999)), (1, .int v1), (2, .int v2), (3, .int v3), (4, .int v4), (6, .int v6), (7, .int k7), (8, .int v8)] → K k7 = some res → W p l e (rm_ 7 157) s m args below meth c H locs 0 0 Q (F0 m 200 ls [])) :
    ∀ (n : Nat) (v7 : Int32) (v9 : Int32) (H : Heap) (locs : List Loc) (ls : Array Slot), WB g A s.heap mIds ad (mE g ad σ) H locs → lv_has ls 10 [(0, .ref (ad 999)), (1, .int v1), (2, .int v2), (3, .int v3), (4, .int v4), (6, .int v6), (7, .int v7), (8, .int v8), (9, .int v9)] → m_summers_128 σ v1 v2 v3 v4 v6 v8 K n v7 v9 = some res → W p l e (rm_ 7 157) s m args below meth c H locs 0 0 Q (F0 m 128 ls []) := by
  have hx := X.1.1
  have hb := X.1.2.1
  intro n
  induction n with
  | zero =>
    intro v7 v9 H locs ls hW hl hf
    rw [m_summers_128] at hf
    cases hf
  | succ n ih =>
    intro v7 v9 H locs ls hW hl hf
    rw [m_summers_128] at hf
    refine lv_iload hx hb dX3_summers_128 (lv_at hl 8 rfl) ?_
    refine lv_aload_n hx hb dX3_summers_130 rfl (lv_at hl 0 rfl) ?_
    refine mg_1 X hW dX3_summers_131 ?_
    refine lv_iconst (v := 0) hx hb dX3_summers_134 (by decide) ?_
    refine ml_1 X hW (by decide) dX3_summers_135 ?_
    refine lv_icmp_ge (tgt := 200) hx hb dX3_summers_136 (by decide) (fun c_27 => ?_) (fun c_27 => ?_)
    · replace hf := ip hf c_27
      exact hK _ _ _ _ hW (lv_sub hl [0, 1, 2, 3, 4, 5, 6, 7] rfl) hf
    · replace hf := ine hf c_27
      refine lv_iload hx hb dX3_summers_139 (lv_at hl 6 rfl) ?_
      refine lv_aload_n hx hb dX3_summers_141 rfl (lv_at hl 0 rfl) ?_
      refine mg_2 X hW dX3_summers_142 ?_
      refine lv_iload hx hb dX3_summers_145 (lv_at hl 8 rfl) ?_
      obtain ⟨h_28, hf⟩ := gd_e hf
      refine ml_2 X hW h_28 dX3_summers_147 ?_
      refine lv_aload_n hx hb dX3_summers_148 rfl (lv_at hl 0 rfl) ?_
      refine mg_63 X hW dX3_summers_149 ?_
      refine lv_iload hx hb dX3_summers_152 (lv_at hl 8 rfl) ?_
      refine ml_63 X hW h_28 dX3_summers_154 ?_
      refine lv_icmp_le (tgt := 176) hx hb dX3_summers_155 (by decide) (fun c_29 => ?_) (fun c_29 => ?_)
      · replace hf := ip hf c_29
        refine lv_aload_n hx hb dX3_summers_176 rfl (lv_at hl 0 rfl) ?_
        refine mg_63 X hW dX3_summers_177 ?_
        refine lv_iload hx hb dX3_summers_180 (lv_at hl 8 rfl) ?_
        refine ml_63 X hW h_28 dX3_summers_182 ?_
        refine lv_aload_n hx hb dX3_summers_183 rfl (lv_at hl 0 rfl) ?_
        refine mg_2 X hW dX3_summers_184 ?_
        refine lv_iload hx hb dX3_summers_187 (lv_at hl 8 rfl) ?_
        refine ml_2 X hW h_28 dX3_summers_189 ?_
        refine lv_isub hx hb dX3_summers_190 ?_
        refine lv_iadd hx hb dX3_summers_191 ?_
        refine lv_istore (lv' := [(7, .int (v7 + ((σ.1 63 (ix v9)) - (σ.1 2 (ix v9))))), (0, .ref (ad 999)), (1, .int v1), (2, .int v2), (3, .int v3), (4, .int v4), (6, .int v6), (8, .int v8), (9, .int v9)]) hx hb dX3_summers_192 hl (by decide) rfl (fun ls hl => ?_)
        refine lv_iinc (v := (v9 + 1)) (lv' := [(9, .int (v9 + 1)), (7, .int (v7 + ((σ.1 63 (ix v9)) - (σ.1 2 (ix v9))))), (0, .ref (ad 999)), (1, .int v1), (2, .int v2), (3, .int v3), (4, .int v4), (6, .int v6), (8, .int v8)]) hx hb dX3_summers_194 hl (k := 8) rfl (ii_v _ _ _ (by decide)) (by decide) rfl (fun ls hl => ?_)
        refine lv_goto (tgt := 128) hx hb dX3_summers_197 (by decide) ?_
        exact ih _ _ _ _ _ hW (lv_sub hl [2, 3, 4, 5, 6, 7, 1, 8, 0] rfl) hf
      · replace hf := ine hf c_29
        refine lv_aload_n hx hb dX3_summers_158 rfl (lv_at hl 0 rfl) ?_
        refine mg_2 X hW dX3_summers_159 ?_
        refine lv_iload hx hb dX3_summers_162 (lv_at hl 8 rfl) ?_
        refine ml_2 X hW h_28 dX3_summers_164 ?_
        refine lv_aload_n hx hb dX3_summers_165 rfl (lv_at hl 0 rfl) ?_
        refine mg_63 X hW dX3_summers_166 ?_
        refine lv_iload hx hb dX3_summers_169 (lv_at hl 8 rfl) ?_
        refine ml_63 X hW h_28 dX3_summers_171 ?_
        refine lv_isub hx hb dX3_summers_172 ?_
        refine lv_goto (tgt := 191) hx hb dX3_summers_173 (by decide) ?_
        refine lv_iadd hx hb dX3_summers_191 ?_
        refine lv_istore (lv' := [(7, .int (v7 + ((σ.1 2 (ix v9)) - (σ.1 63 (ix v9))))), (0, .ref (ad 999)), (1, .int v1), (2, .int v2), (3, .int v3), (4, .int v4), (6, .int v6), (8, .int v8), (9, .int v9)]) hx hb dX3_summers_192 hl (by decide) rfl (fun ls hl => ?_)
        refine lv_iinc (v := (v9 + 1)) (lv' := [(9, .int (v9 + 1)), (7, .int (v7 + ((σ.1 2 (ix v9)) - (σ.1 63 (ix v9))))), (0, .ref (ad 999)), (1, .int v1), (2, .int v2), (3, .int v3), (4, .int v4), (6, .int v6), (8, .int v8)]) hx hb dX3_summers_194 hl (k := 8) rfl (ii_v _ _ _ (by decide)) (by decide) rfl (fun ls hl => ?_)
        refine lv_goto (tgt := 128) hx hb dX3_summers_197 (by decide) ?_
        exact ih _ _ _ _ _ hW (lv_sub hl [2, 3, 4, 5, 6, 7, 1, 8, 0] rfl) hf
noncomputable def m_summers_80 {ρ : Type} (v1 : Int32) (v2 : Int32) (v3 : Int32) (v4 : Int32) (K : cS → Int32 → Int32 → Option ρ) : Nat → cS → Int32 → Int32 → Int32 → Int32 → Option ρ
  | 0, _, _, _, _, _ => none
  | n + 1, σ, v5, v6, v7, v8 => if v1 ≤ v8 then (K σ v6 v7) else (m_summers_98 v1 v2 v3 v4 v7 v8 (fun σ_25 v_26 => (m_summers_128 σ_25 v1 v2 v3 v4 v_26 v8 (fun v_30 => (((m_laysBack σ_25).bind fun σ_32 => m_summers_80 v1 v2 v3 v4 K n σ_32 (σ_25.1 1 (ix 7)) v_26 v_30 (v8 + 1)))) FU v7 0)) FU (si σ 1 (ix 7) v5) v6 0)
set_option maxHeartbeats 4000000 in
theorem wm_summers_80 {p : Program} {l : Launch} {e : Env} {s : State} {m : MethodId} {args : Array Value} {below : List Frame} {meth : Method} {c : Code} {g : gG} {A : Nat → Prop} {ad : Nat → Nat} (X : MX p s m args meth c cX3_summers 10 RX3 (some .int) g A) (had : mI ad) {ρ : Type} {res : ρ} {Q : State → Prop} {v1 : Int32} {v2 : Int32} {v3 : Int32} {v4 : Int32}  {K : cS → Int32 → Int32 → Option ρ}
    (hK : ∀ (σ : cS) (k6 : Int32) (k7 : Int32) (H : Heap) (locs : List Loc) (ls : Array Slot), WB g A s.heap mIds ad (mE g ad σ) H locs → lv_has ls 10 [(0, .ref (ad 999)), (3, .int v3), (4, .int v4), (6, .int k6), (7, .int k7)] → K σ k6 k7 = some res → W p l e (rm_ 7 157) s m args below meth c H locs 0 0 Q (F0 m 219 ls [])) :
    ∀ (n : Nat) (σ : cS) (v5 : Int32) (v6 : Int32) (v7 : Int32) (v8 : Int32) (H : Heap) (locs : List Loc) (ls : Array Slot), WB g A s.heap mIds ad (mE g ad σ) H locs → lv_has ls 10 [(0, .ref (ad 999)), (1, .int v1), (2, .int v2), (3, .int v3), (4, .int v4), (5, .int v5), (6, .int v6), (7, .int v7), (8, .int v8)] → m_summers_80 v1 v2 v3 v4 K n σ v5 v6 v7 v8 = some res → W p l e (rm_ 7 157) s m args below meth c H locs 0 0 Q (F0 m 80 ls []) := by
  have hx := X.1.1
  have hb := X.1.2.1
  intro n
  induction n with
  | zero =>
    intro σ v5 v6 v7 v8 H locs ls hW hl hf
    rw [m_summers_80] at hf
    cases hf
  | succ n ih =>
    intro σ v5 v6 v7 v8 H locs ls hW hl hf
    rw [m_summers_80] at hf
    refine lv_iload hx hb dX3_summers_80 (lv_at hl 8 rfl) ?_
    refine lv_iload_n hx hb dX3_summers_82 rfl (lv_at hl 1 rfl) ?_
    refine lv_icmp_ge (tgt := 219) hx hb dX3_summers_83 (by decide) (fun c_17 => ?_) (fun c_17 => ?_)
    · replace hf := ip hf c_17
      exact hK _ _ _ _ _ _ hW (lv_sub hl [0, 3, 4, 6, 7] rfl) hf
    · replace hf := ine hf c_17
      refine lv_aload_n hx hb dX3_summers_86 rfl (lv_at hl 0 rfl) ?_
      refine mg_1 X hW dX3_summers_87 ?_
      refine lv_bipush (v := 7) hx hb dX3_summers_90 (by decide) ?_
      refine lv_iload hx hb dX3_summers_92 (lv_at hl 5 rfl) ?_
      refine ms_1 X hW (by decide) dX3_summers_94 (fun H locs hW => ?_)
      refine lv_iconst (v := 0) hx hb dX3_summers_95 (by decide) ?_
      refine lv_istore (lv' := [(9, .int 0), (0, .ref (ad 999)), (1, .int v1), (2, .int v2), (3, .int v3), (4, .int v4), (5, .int v5), (6, .int v6), (7, .int v7), (8, .int v8)]) hx hb dX3_summers_96 hl (by decide) rfl (fun ls hl => ?_)
      refine wm_summers_98 X had (fun σ_25 v_26 H locs ls hW hl hf => ?_) _ _ _ _ _ _ _ hW (lv_sub hl [1, 2, 3, 4, 5, 7, 8, 9, 0] rfl) hf
      refine lv_iconst (v := 0) hx hb dX3_summers_125 (by decide) ?_
      refine lv_istore (lv' := [(9, .int 0), (0, .ref (ad 999)), (1, .int v1), (2, .int v2), (3, .int v3), (4, .int v4), (6, .int v_26), (7, .int v7), (8, .int v8)]) hx hb dX3_summers_126 hl (by decide) rfl (fun ls hl => ?_)
      refine wm_summers_128 X had (fun v_30 H locs ls hW hl hf => ?_) _ _ _ _ _ _ hW (lv_sub hl [1, 2, 3, 4, 5, 6, 7, 8, 0] rfl) hf
      refine lv_aload_n hx hb dX3_summers_200 rfl (lv_at hl 0 rfl) ?_
      refine mg_1 X hW dX3_summers_201 ?_
      refine lv_bipush (v := 7) hx hb dX3_summers_204 (by decide) ?_
      refine ml_1 X hW (by decide) dX3_summers_206 ?_
      refine lv_istore (lv' := [(5, .int (σ_25.1 1 (ix 7))), (0, .ref (ad 999)), (1, .int v1), (2, .int v2), (3, .int v3), (4, .int v4), (6, .int v_26), (7, .int v_30), (8, .int v8)]) hx hb dX3_summers_207 hl (by decide) rfl (fun ls hl => ?_)
      refine lv_aload_n hx hb dX3_summers_209 rfl (lv_at hl 1 rfl) ?_
      obtain ⟨σ_32, h_31, hf⟩ := bd_e hf
      refine k_laysBack X hW had h_31 (by decide) hl (Nat.le_of_ble_eq_true rfl) dX3_summers_210 (fun H locs hW => ?_)
      refine lv_iinc (v := (v8 + 1)) (lv' := [(8, .int (v8 + 1)), (5, .int (σ_25.1 1 (ix 7))), (0, .ref (ad 999)), (1, .int v1), (2, .int v2), (3, .int v3), (4, .int v4), (6, .int v_26), (7, .int v_30)]) hx hb dX3_summers_213 hl (k := 8) rfl (ii_v _ _ _ (by decide)) (by decide) rfl (fun ls hl => ?_)
      refine lv_goto (tgt := 80) hx hb dX3_summers_216 (by decide) ?_
      exact ih _ _ _ _ _ _ _ _ hW (lv_sub hl [2, 3, 4, 5, 6, 1, 7, 8, 0] rfl) hf
noncomputable def m_summers (σ : cS) (v1 : Int32) (v2 : Int32) (v3 : Int32) : Option (cS × Int32) :=
  ((m_isStrip σ).bind fun r_2 => if r_2 = 0 then (some (σ, (-1))) else (((m_in v1.toInt64 1 10).bind fun r_5 => if r_5 = 0 then (some (σ, (-1))) else (((m_in v2.toInt64 1 60).bind fun r_8 => if r_8 = 0 then (some (σ, (-1))) else (((m_in v3.toInt64 0 1).bind fun r_11 => if r_11 = 0 then (some (σ, (-1))) else (((m_keepsAll σ).bind fun σ_14 => ((m_copies σ_14 2 63).bind fun σ_16 => m_summers_80 v1 v2 v3 (σ.1 1 (ix 7)) (fun σ_33 v_34 v_35 => (if v3 = 0 then (some ((si σ_33 1 (ix 7) (σ.1 1 (ix 7))), v_34)) else (some ((si σ_33 1 (ix 7) (σ.1 1 (ix 7))), v_35)))) FU σ_16 (σ.1 1 (ix 7)) 0 0 0))))))))))
set_option maxHeartbeats 4000000 in
theorem wb_summers {p : Program} {l : Launch} {e : Env} {s : State} {m : MethodId} {args : Array Value} {below : List Frame} {meth : Method} {c : Code} {g : gG} {A : Nat → Prop} {ad : Nat → Nat} (X : MX p s m args meth c cX3_summers 10 RX3 (some .int) g A) (had : mI ad) {σr : cS} {r : Int32} {σ : cS} {v1 : Int32} {v2 : Int32} {v3 : Int32}  {H : Heap} {locs : List Loc} {ls : Array Slot} (hW : WB g A s.heap mIds ad (mE g ad σ) H locs) (hl : lv_has ls 10 [(0, .ref (ad 999)), (1, .int v1), (2, .int v2), (3, .int v3)]) (hf : m_summers σ v1 v2 v3 = some (σr, r)) : W p l e (rm_ 7 157) s m args below meth c H locs 0 0 (Qm below g mIds ad (mE g ad σr) (some (.int r)) A args s) (F0 m 0 ls []) := by
  have hx := X.1.1
  have hb := X.1.2.1
  unfold m_summers at hf
  refine lv_aload_n hx hb dX3_summers_0 rfl (lv_at hl 0 rfl) ?_
  obtain ⟨r_2, h_1, hf⟩ := bd_e hf
  refine k_isStrip X hW had h_1 (by decide) hl (Nat.le_of_ble_eq_true rfl) dX3_summers_1 (fun H locs hW => ?_)
  refine lv_if_eq (tgt := 41) hx hb dX3_summers_4 (by decide) (fun c_3 => ?_) (fun c_3 => ?_)
  · replace hf := ip hf c_3
    refine lv_iconst (v := (-1)) hx hb dX3_summers_41 (by decide) ?_
    exact m_iret X hW hf dX3_summers_42
  · replace hf := ine hf c_3
    refine lv_iload_n hx hb dX3_summers_7 rfl (lv_at hl 1 rfl) ?_
    refine lv_i2l (v := v1.toInt64) hx hb dX3_summers_8 rfl ?_
    refine lv_lconst (v := 1) hx hb dX3_summers_9 (by decide) ?_
    refine lv_ldc2 (v := 10) hx hb X.1.2.2.2.1 (X.1.2.2.2.2 _ q1812) dX3_summers_10 ?_
    obtain ⟨r_5, h_4, hf⟩ := bd_e hf
    refine k_in X hW h_4 (by decide) hl (Nat.le_of_ble_eq_true rfl) dX3_summers_13 (fun H locs hW => ?_)
    refine lv_if_eq (tgt := 41) hx hb dX3_summers_16 (by decide) (fun c_6 => ?_) (fun c_6 => ?_)
    · replace hf := ip hf c_6
      refine lv_iconst (v := (-1)) hx hb dX3_summers_41 (by decide) ?_
      exact m_iret X hW hf dX3_summers_42
    · replace hf := ine hf c_6
      refine lv_iload_n hx hb dX3_summers_19 rfl (lv_at hl 2 rfl) ?_
      refine lv_i2l (v := v2.toInt64) hx hb dX3_summers_20 rfl ?_
      refine lv_lconst (v := 1) hx hb dX3_summers_21 (by decide) ?_
      refine lv_ldc2 (v := 60) hx hb X.1.2.2.2.1 (X.1.2.2.2.2 _ q1791) dX3_summers_22 ?_
      obtain ⟨r_8, h_7, hf⟩ := bd_e hf
      refine k_in X hW h_7 (by decide) hl (Nat.le_of_ble_eq_true rfl) dX3_summers_25 (fun H locs hW => ?_)
      refine lv_if_eq (tgt := 41) hx hb dX3_summers_28 (by decide) (fun c_9 => ?_) (fun c_9 => ?_)
      · replace hf := ip hf c_9
        refine lv_iconst (v := (-1)) hx hb dX3_summers_41 (by decide) ?_
        exact m_iret X hW hf dX3_summers_42
      · replace hf := ine hf c_9
        refine lv_iload_n hx hb dX3_summers_31 rfl (lv_at hl 3 rfl) ?_
        refine lv_i2l (v := v3.toInt64) hx hb dX3_summers_32 rfl ?_
        refine lv_lconst (v := 0) hx hb dX3_summers_33 (by decide) ?_
        refine lv_lconst (v := 1) hx hb dX3_summers_34 (by decide) ?_
        obtain ⟨r_11, h_10, hf⟩ := bd_e hf
        refine k_in X hW h_10 (by decide) hl (Nat.le_of_ble_eq_true rfl) dX3_summers_35 (fun H locs hW => ?_)
        refine lv_if_ne (tgt := 43) hx hb dX3_summers_38 (by decide) (fun c_12 => ?_) (fun c_12 => ?_)
        · replace hf := ine hf c_12
          refine lv_aload_n hx hb dX3_summers_43 rfl (lv_at hl 0 rfl) ?_
          refine mg_1 X hW dX3_summers_44 ?_
          refine lv_bipush (v := 7) hx hb dX3_summers_47 (by decide) ?_
          refine ml_1 X hW (by decide) dX3_summers_49 ?_
          refine lv_istore (lv' := [(4, .int (σ.1 1 (ix 7))), (0, .ref (ad 999)), (1, .int v1), (2, .int v2), (3, .int v3)]) hx hb dX3_summers_50 hl (by decide) rfl (fun ls hl => ?_)
          refine lv_iload hx hb dX3_summers_52 (lv_at hl 0 rfl) ?_
          refine lv_istore (lv' := [(5, .int (σ.1 1 (ix 7))), (4, .int (σ.1 1 (ix 7))), (0, .ref (ad 999)), (1, .int v1), (2, .int v2), (3, .int v3)]) hx hb dX3_summers_54 hl (by decide) rfl (fun ls hl => ?_)
          refine lv_iconst (v := 0) hx hb dX3_summers_56 (by decide) ?_
          refine lv_istore (lv' := [(6, .int 0), (5, .int (σ.1 1 (ix 7))), (4, .int (σ.1 1 (ix 7))), (0, .ref (ad 999)), (1, .int v1), (2, .int v2), (3, .int v3)]) hx hb dX3_summers_57 hl (by decide) rfl (fun ls hl => ?_)
          refine lv_iconst (v := 0) hx hb dX3_summers_59 (by decide) ?_
          refine lv_istore (lv' := [(7, .int 0), (6, .int 0), (5, .int (σ.1 1 (ix 7))), (4, .int (σ.1 1 (ix 7))), (0, .ref (ad 999)), (1, .int v1), (2, .int v2), (3, .int v3)]) hx hb dX3_summers_60 hl (by decide) rfl (fun ls hl => ?_)
          refine lv_aload_n hx hb dX3_summers_62 rfl (lv_at hl 4 rfl) ?_
          obtain ⟨σ_14, h_13, hf⟩ := bd_e hf
          refine k_keepsAll X hW had h_13 (by decide) hl (Nat.le_of_ble_eq_true rfl) dX3_summers_63 (fun H locs hW => ?_)
          refine lv_aload_n hx hb dX3_summers_66 rfl (lv_at hl 4 rfl) ?_
          refine mg_2 X hW dX3_summers_67 ?_
          refine lv_aload_n hx hb dX3_summers_70 rfl (lv_at hl 4 rfl) ?_
          refine mg_63 X hW dX3_summers_71 ?_
          obtain ⟨σ_16, h_15, hf⟩ := bd_e hf
          refine k_copies X hW had m_2 rfl m_63 rfl h_15 (by decide) hl (Nat.le_of_ble_eq_true rfl) dX3_summers_74 (fun H locs hW => ?_)
          refine lv_iconst (v := 0) hx hb dX3_summers_77 (by decide) ?_
          refine lv_istore (lv' := [(8, .int 0), (7, .int 0), (6, .int 0), (5, .int (σ.1 1 (ix 7))), (4, .int (σ.1 1 (ix 7))), (0, .ref (ad 999)), (1, .int v1), (2, .int v2), (3, .int v3)]) hx hb dX3_summers_78 hl (by decide) rfl (fun ls hl => ?_)
          refine wm_summers_80 X had (fun σ_33 v_34 v_35 H locs ls hW hl hf => ?_) _ _ _ _ _ _ _ _ _ hW (lv_sub hl [5, 6, 7, 8, 4, 3, 2, 1, 0] rfl) hf
          refine lv_aload_n hx hb dX3_summers_219 rfl (lv_at hl 0 rfl) ?_
          refine mg_1 X hW dX3_summers_220 ?_
          refine lv_bipush (v := 7) hx hb dX3_summers_223 (by decide) ?_
          refine lv_iload hx hb dX3_summers_225 (lv_at hl 2 rfl) ?_
          refine ms_1 X hW (by decide) dX3_summers_227 (fun H locs hW => ?_)
          refine lv_iload_n hx hb dX3_summers_228 rfl (lv_at hl 1 rfl) ?_
          refine lv_if_ne (tgt := 237) hx hb dX3_summers_229 (by decide) (fun c_36 => ?_) (fun c_36 => ?_)
          · replace hf := ine hf c_36
            refine lv_iload hx hb dX3_summers_237 (lv_at hl 4 rfl) ?_
            exact m_iret X hW hf dX3_summers_239
          · replace hf := ip hf c_36
            refine lv_iload hx hb dX3_summers_232 (lv_at hl 3 rfl) ?_
            refine lv_goto (tgt := 239) hx hb dX3_summers_234 (by decide) ?_
            exact m_iret X hW hf dX3_summers_239
        · replace hf := ip hf c_12
          refine lv_iconst (v := (-1)) hx hb dX3_summers_41 (by decide) ?_
          exact m_iret X hW hf dX3_summers_42
theorem w_summers (l : Launch) {g : gG} {ad : Nat → Nat} (had : mI ad) {σr : cS} {r : Int32} {σ : cS} {v1 : Int32} {v2 : Int32} {v3 : Int32}  (hf : m_summers σ v1 v2 v3 = some (σr, r)) : MM l yX3_summers cX3_summers 10 (some .int) 7 157 g ad σ σr [.ref (ad 999), .int v1, .int v2, .int v3] (some (.int r)) :=
  MC.of (by decide) mIds_nd had (Nat.le_of_ble_eq_true rfl) (fun p e s m below meth c A ls X hW hl => wb_summers X had hW hl hf)
-- crossedAll
noncomputable def m_crossedAll_4 {ρ : Type} (σ : cS) (K : Int32 → Option ρ) : Nat → Int32 → Int32 → Option ρ
  | 0, _, _ => none
  | n + 1, v1, v2 => if (σ.1 1 (ix 2)) ≤ v2 then (K v1) else (gd (inb v2 8) (m_crossedAll_4 σ K n (v1 + (σ.1 9 (ix v2))) (v2 + 1)))
set_option maxHeartbeats 4000000 in
theorem wm_crossedAll_4 {p : Program} {l : Launch} {e : Env} {s : State} {m : MethodId} {args : Array Value} {below : List Frame} {meth : Method} {c : Code} {g : gG} {A : Nat → Prop} {ad : Nat → Nat} (X : MX p s m args meth c cX3_crossedAll 3 RX3 (some .int) g A) (had : mI ad) {ρ : Type} {res : ρ} {Q : State → Prop}  {σ : cS}  {K : Int32 → Option ρ}
    (hK : ∀ (k1 : Int32) (H : Heap) (locs : List Loc) (ls : Array Slot), WB g A s.heap mIds ad (mE g ad σ) H locs → lv_has ls 3 [(1, .int k1)] → K k1 = some res → W p l e (rm_ 1 20) s m args below meth c H locs 0 0 Q (F0 m 29 ls [])) :
    ∀ (n : Nat) (v1 : Int32) (v2 : Int32) (H : Heap) (locs : List Loc) (ls : Array Slot), WB g A s.heap mIds ad (mE g ad σ) H locs → lv_has ls 3 [(0, .ref (ad 999)), (1, .int v1), (2, .int v2)] → m_crossedAll_4 σ K n v1 v2 = some res → W p l e (rm_ 1 20) s m args below meth c H locs 0 0 Q (F0 m 4 ls []) := by
  have hx := X.1.1
  have hb := X.1.2.1
  intro n
  induction n with
  | zero =>
    intro v1 v2 H locs ls hW hl hf
    rw [m_crossedAll_4] at hf
    cases hf
  | succ n ih =>
    intro v1 v2 H locs ls hW hl hf
    rw [m_crossedAll_4] at hf
    refine lv_iload_n hx hb dX3_crossedAll_4 rfl (lv_at hl 2 rfl) ?_
    refine lv_aload_n hx hb dX3_crossedAll_5 rfl (lv_at hl 0 rfl) ?_
    refine mg_1 X hW dX3_crossedAll_6 ?_
    refine lv_iconst (v := 2) hx hb dX3_crossedAll_9 (by decide) ?_
    refine ml_1 X hW (by decide) dX3_crossedAll_10 ?_
    refine lv_icmp_ge (tgt := 29) hx hb dX3_crossedAll_11 (by decide) (fun c_1 => ?_) (fun c_1 => ?_)
    · replace hf := ip hf c_1
      exact hK _ _ _ _ hW (lv_sub hl [1] rfl) hf
    · replace hf := ine hf c_1
      refine lv_iload_n hx hb dX3_crossedAll_14 rfl (lv_at hl 1 rfl) ?_
      refine lv_aload_n hx hb dX3_crossedAll_15 rfl (lv_at hl 0 rfl) ?_
      refine mg_9 X hW dX3_crossedAll_16 ?_
      refine lv_iload_n hx hb dX3_crossedAll_19 rfl (lv_at hl 2 rfl) ?_
      obtain ⟨h_2, hf⟩ := gd_e hf
      refine ml_9 X hW h_2 dX3_crossedAll_20 ?_
      refine lv_iadd hx hb dX3_crossedAll_21 ?_
      refine lv_istore_n (lv' := [(1, .int (v1 + (σ.1 9 (ix v2)))), (0, .ref (ad 999)), (2, .int v2)]) hx hb dX3_crossedAll_22 rfl hl (by decide) rfl (fun ls hl => ?_)
      refine lv_iinc (v := (v2 + 1)) (lv' := [(2, .int (v2 + 1)), (1, .int (v1 + (σ.1 9 (ix v2)))), (0, .ref (ad 999))]) hx hb dX3_crossedAll_23 hl (k := 2) rfl (ii_v _ _ _ (by decide)) (by decide) rfl (fun ls hl => ?_)
      refine lv_goto (tgt := 4) hx hb dX3_crossedAll_26 (by decide) ?_
      exact ih _ _ _ _ _ hW (lv_sub hl [2, 1, 0] rfl) hf
noncomputable def m_crossedAll (σ : cS) : Option (Int32) :=
  m_crossedAll_4 σ (fun v_3 => (some v_3)) FU 0 0
set_option maxHeartbeats 4000000 in
theorem wb_crossedAll {p : Program} {l : Launch} {e : Env} {s : State} {m : MethodId} {args : Array Value} {below : List Frame} {meth : Method} {c : Code} {g : gG} {A : Nat → Prop} {ad : Nat → Nat} (X : MX p s m args meth c cX3_crossedAll 3 RX3 (some .int) g A) (had : mI ad) {r : Int32} {σ : cS}  {H : Heap} {locs : List Loc} {ls : Array Slot} (hW : WB g A s.heap mIds ad (mE g ad σ) H locs) (hl : lv_has ls 3 [(0, .ref (ad 999))]) (hf : m_crossedAll σ = some r) : W p l e (rm_ 1 20) s m args below meth c H locs 0 0 (Qm below g mIds ad (mE g ad σ) (some (.int r)) A args s) (F0 m 0 ls []) := by
  have hx := X.1.1
  have hb := X.1.2.1
  unfold m_crossedAll at hf
  refine lv_iconst (v := 0) hx hb dX3_crossedAll_0 (by decide) ?_
  refine lv_istore_n (lv' := [(1, .int 0), (0, .ref (ad 999))]) hx hb dX3_crossedAll_1 rfl hl (by decide) rfl (fun ls hl => ?_)
  refine lv_iconst (v := 0) hx hb dX3_crossedAll_2 (by decide) ?_
  refine lv_istore_n (lv' := [(2, .int 0), (1, .int 0), (0, .ref (ad 999))]) hx hb dX3_crossedAll_3 rfl hl (by decide) rfl (fun ls hl => ?_)
  refine wm_crossedAll_4 X had (fun v_3 H locs ls hW hl hf => ?_) _ _ _ _ _ _ hW (lv_sub hl [2, 1, 0] rfl) hf
  refine lv_iload_n hx hb dX3_crossedAll_29 rfl (lv_at hl 0 rfl) ?_
  exact p_iret X hW hf dX3_crossedAll_30
theorem w_crossedAll (l : Launch) {g : gG} {ad : Nat → Nat} (had : mI ad) {r : Int32} {σ : cS}  (hf : m_crossedAll σ = some r) : MM l yX3_crossedAll cX3_crossedAll 3 (some .int) 1 20 g ad σ σ [.ref (ad 999)] (some (.int r)) :=
  MC.of (by decide) mIds_nd had (Nat.le_of_ble_eq_true rfl) (fun p e s m below meth c A ls X hW hl => wb_crossedAll X had hW hl hf)
theorem k_crossedAll {p : Program} {l : Launch} {e : Env} {R : Room} {s : State} {m : MethodId} {args : Array Value} {below : List Frame} {meth : Method} {c : Code} {H : Heap} {locs : List Loc} {Q : State → Prop} {cc : ByteArray} {nL : Nat} {ret : Option FieldType} {g : gG} {A : Nat → Prop} {ad : Nat → Nat} {pc : Nat} {ls : Array Slot} {rest : List Value} {lv : List (Nat × Value)} {r : Int32} {σ : cS} (X : MX p s m args meth c cc nL RX3 ret g A) (hW : WB g A s.heap mIds ad (mE g ad σ) H locs) (had : mI ad)  (hf : m_crossedAll σ = some r) (hR : 2 ≤ R.frames ∧ 42 ≤ R.locals) (hl : lv_has ls nL lv) (hcat : (rest.map fun v => v.category).sum ≤ 8) (hdg : decode cc pc = .ok (.invokevirtual 561, 3)) (kk : ∀ (H1 : Heap) (l1 : List Loc), WB g A s.heap mIds ad (mE g ad σ) H1 l1 → W p l e R s m args below meth c H1 l1 0 0 Q (F0 m (pc + 3) ls (.int r :: rest))) : W p l e R s m args below meth c H locs 0 0 Q (F0 m pc ls (.ref (ad 999) :: rest)) :=
  r_callV X hW Sub.all (w_crossedAll l had hf) (lw_V q1825 q1827 qs118 q126 q1828) ⟨rfl, by decide, by decide, by decide +kernel⟩ m_999 mE_o rfl (n := 0) hR hl rfl rfl hcat ⟨Nat.zero_le _, Nat.zero_le _⟩ hdg kk
-- count
noncomputable def m_count (σ : cS) (v1 : Int32) : Option (Int32) :=
  if v1 = 0 then (some (σ.1 1 (ix 0))) else (if v1 = 1 then (some (σ.1 1 (ix 1))) else (if v1 = 2 then (some (σ.1 1 (ix 2))) else (if v1 = 3 then (some (σ.1 1 (ix 3))) else (if v1 = 4 then (some (σ.1 999 31)) else (if v1 = 5 then (some (σ.1 1 (ix 8))) else (if v1 = 6 then (some (σ.1 1 (ix 5))) else (if v1 = 7 then (some (σ.1 1 (ix 4))) else (if v1 = 8 then (((m_crossedAll σ).bind fun r_11 => some r_11)) else (if v1 = 9 then (some (σ.1 1 (ix 6))) else (if v1 = 10 then (some (σ.1 999 51)) else (if v1 = 11 then (some (σ.1 1 (ix 7))) else (if v1 = 12 then (some (σ.1 999 27)) else (some (-1))))))))))))))
set_option maxHeartbeats 4000000 in
theorem wb_count {p : Program} {l : Launch} {e : Env} {s : State} {m : MethodId} {args : Array Value} {below : List Frame} {meth : Method} {c : Code} {g : gG} {A : Nat → Prop} {ad : Nat → Nat} (X : MX p s m args meth c cX3_count 2 RX3 (some .int) g A) (had : mI ad) {r : Int32} {σ : cS} {v1 : Int32}  {H : Heap} {locs : List Loc} {ls : Array Slot} (hW : WB g A s.heap mIds ad (mE g ad σ) H locs) (hl : lv_has ls 2 [(0, .ref (ad 999)), (1, .int v1)]) (hf : m_count σ v1 = some r) : W p l e (rm_ 2 42) s m args below meth c H locs 0 0 (Qm below g mIds ad (mE g ad σ) (some (.int r)) A args s) (F0 m 0 ls []) := by
  have hx := X.1.1
  have hb := X.1.2.1
  unfold m_count at hf
  refine lv_iload_n hx hb dX3_count_0 rfl (lv_at hl 1 rfl) ?_
  by_cases c_1 : v1 = 0
  · replace hf := ip hf c_1
    refine r_tabIn (tgt := 68) (off := 67) (k := 0) hx hb c_1 dX3_count_1 (by decide) (by decide) rfl (by decide) ?_
    refine lv_aload_n hx hb dX3_count_68 rfl (lv_at hl 0 rfl) ?_
    refine mg_1 X hW dX3_count_69 ?_
    refine lv_iconst (v := 0) hx hb dX3_count_72 (by decide) ?_
    refine ml_1 X hW (by decide) dX3_count_73 ?_
    exact p_iret X hW hf dX3_count_74
  · replace hf := ine hf c_1
    by_cases c_2 : v1 = 1
    · replace hf := ip hf c_2
      refine r_tabIn (tgt := 75) (off := 74) (k := 1) hx hb c_2 dX3_count_1 (by decide) (by decide) rfl (by decide) ?_
      refine lv_aload_n hx hb dX3_count_75 rfl (lv_at hl 0 rfl) ?_
      refine mg_1 X hW dX3_count_76 ?_
      refine lv_iconst (v := 1) hx hb dX3_count_79 (by decide) ?_
      refine ml_1 X hW (by decide) dX3_count_80 ?_
      exact p_iret X hW hf dX3_count_81
    · replace hf := ine hf c_2
      by_cases c_3 : v1 = 2
      · replace hf := ip hf c_3
        refine r_tabIn (tgt := 82) (off := 81) (k := 2) hx hb c_3 dX3_count_1 (by decide) (by decide) rfl (by decide) ?_
        refine lv_aload_n hx hb dX3_count_82 rfl (lv_at hl 0 rfl) ?_
        refine mg_1 X hW dX3_count_83 ?_
        refine lv_iconst (v := 2) hx hb dX3_count_86 (by decide) ?_
        refine ml_1 X hW (by decide) dX3_count_87 ?_
        exact p_iret X hW hf dX3_count_88
      · replace hf := ine hf c_3
        by_cases c_4 : v1 = 3
        · replace hf := ip hf c_4
          refine r_tabIn (tgt := 89) (off := 88) (k := 3) hx hb c_4 dX3_count_1 (by decide) (by decide) rfl (by decide) ?_
          refine lv_aload_n hx hb dX3_count_89 rfl (lv_at hl 0 rfl) ?_
          refine mg_1 X hW dX3_count_90 ?_
          refine lv_iconst (v := 3) hx hb dX3_count_93 (by decide) ?_
          refine ml_1 X hW (by decide) dX3_count_94 ?_
          exact p_iret X hW hf dX3_count_95
        · replace hf := ine hf c_4
          by_cases c_5 : v1 = 4
          · replace hf := ip hf c_5
            refine r_tabIn (tgt := 96) (off := 95) (k := 4) hx hb c_5 dX3_count_1 (by decide) (by decide) rfl (by decide) ?_
            refine lv_aload_n hx hb dX3_count_96 rfl (lv_at hl 0 rfl) ?_
            refine mg_31 X hW dX3_count_97 ?_
            exact p_iret X hW hf dX3_count_100
          · replace hf := ine hf c_5
            by_cases c_6 : v1 = 5
            · replace hf := ip hf c_6
              refine r_tabIn (tgt := 101) (off := 100) (k := 5) hx hb c_6 dX3_count_1 (by decide) (by decide) rfl (by decide) ?_
              refine lv_aload_n hx hb dX3_count_101 rfl (lv_at hl 0 rfl) ?_
              refine mg_1 X hW dX3_count_102 ?_
              refine lv_bipush (v := 8) hx hb dX3_count_105 (by decide) ?_
              refine ml_1 X hW (by decide) dX3_count_107 ?_
              exact p_iret X hW hf dX3_count_108
            · replace hf := ine hf c_6
              by_cases c_7 : v1 = 6
              · replace hf := ip hf c_7
                refine r_tabIn (tgt := 109) (off := 108) (k := 6) hx hb c_7 dX3_count_1 (by decide) (by decide) rfl (by decide) ?_
                refine lv_aload_n hx hb dX3_count_109 rfl (lv_at hl 0 rfl) ?_
                refine mg_1 X hW dX3_count_110 ?_
                refine lv_iconst (v := 5) hx hb dX3_count_113 (by decide) ?_
                refine ml_1 X hW (by decide) dX3_count_114 ?_
                exact p_iret X hW hf dX3_count_115
              · replace hf := ine hf c_7
                by_cases c_8 : v1 = 7
                · replace hf := ip hf c_8
                  refine r_tabIn (tgt := 116) (off := 115) (k := 7) hx hb c_8 dX3_count_1 (by decide) (by decide) rfl (by decide) ?_
                  refine lv_aload_n hx hb dX3_count_116 rfl (lv_at hl 0 rfl) ?_
                  refine mg_1 X hW dX3_count_117 ?_
                  refine lv_iconst (v := 4) hx hb dX3_count_120 (by decide) ?_
                  refine ml_1 X hW (by decide) dX3_count_121 ?_
                  exact p_iret X hW hf dX3_count_122
                · replace hf := ine hf c_8
                  by_cases c_9 : v1 = 8
                  · replace hf := ip hf c_9
                    refine r_tabIn (tgt := 123) (off := 122) (k := 8) hx hb c_9 dX3_count_1 (by decide) (by decide) rfl (by decide) ?_
                    refine lv_aload_n hx hb dX3_count_123 rfl (lv_at hl 0 rfl) ?_
                    obtain ⟨r_11, h_10, hf⟩ := bd_e hf
                    refine k_crossedAll X hW had h_10 (by decide) hl (Nat.le_of_ble_eq_true rfl) dX3_count_124 (fun H locs hW => ?_)
                    exact p_iret X hW hf dX3_count_127
                  · replace hf := ine hf c_9
                    by_cases c_12 : v1 = 9
                    · replace hf := ip hf c_12
                      refine r_tabIn (tgt := 128) (off := 127) (k := 9) hx hb c_12 dX3_count_1 (by decide) (by decide) rfl (by decide) ?_
                      refine lv_aload_n hx hb dX3_count_128 rfl (lv_at hl 0 rfl) ?_
                      refine mg_1 X hW dX3_count_129 ?_
                      refine lv_bipush (v := 6) hx hb dX3_count_132 (by decide) ?_
                      refine ml_1 X hW (by decide) dX3_count_134 ?_
                      exact p_iret X hW hf dX3_count_135
                    · replace hf := ine hf c_12
                      by_cases c_13 : v1 = 10
                      · replace hf := ip hf c_13
                        refine r_tabIn (tgt := 136) (off := 135) (k := 10) hx hb c_13 dX3_count_1 (by decide) (by decide) rfl (by decide) ?_
                        refine lv_aload_n hx hb dX3_count_136 rfl (lv_at hl 0 rfl) ?_
                        refine mg_51 X hW dX3_count_137 ?_
                        exact p_iret X hW hf dX3_count_140
                      · replace hf := ine hf c_13
                        by_cases c_14 : v1 = 11
                        · replace hf := ip hf c_14
                          refine r_tabIn (tgt := 141) (off := 140) (k := 11) hx hb c_14 dX3_count_1 (by decide) (by decide) rfl (by decide) ?_
                          refine lv_aload_n hx hb dX3_count_141 rfl (lv_at hl 0 rfl) ?_
                          refine mg_1 X hW dX3_count_142 ?_
                          refine lv_bipush (v := 7) hx hb dX3_count_145 (by decide) ?_
                          refine ml_1 X hW (by decide) dX3_count_147 ?_
                          exact p_iret X hW hf dX3_count_148
                        · replace hf := ine hf c_14
                          by_cases c_15 : v1 = 12
                          · replace hf := ip hf c_15
                            refine r_tabIn (tgt := 149) (off := 148) (k := 12) hx hb c_15 dX3_count_1 (by decide) (by decide) rfl (by decide) ?_
                            refine lv_aload_n hx hb dX3_count_149 rfl (lv_at hl 0 rfl) ?_
                            refine mg_27 X hW dX3_count_150 ?_
                            exact p_iret X hW hf dX3_count_153
                          · replace hf := ine hf c_15
                            refine lv_tableOut (tgt := 154) hx hb dX3_count_1 (by have := lv_neT c_1 (a := 0) rfl; have := lv_neT c_2 (a := 1) rfl; have := lv_neT c_3 (a := 2) rfl; have := lv_neT c_4 (a := 3) rfl; have := lv_neT c_5 (a := 4) rfl; have := lv_neT c_6 (a := 5) rfl; have := lv_neT c_7 (a := 6) rfl; have := lv_neT c_8 (a := 7) rfl; have := lv_neT c_9 (a := 8) rfl; have := lv_neT c_12 (a := 9) rfl; have := lv_neT c_13 (a := 10) rfl; have := lv_neT c_14 (a := 11) rfl; have := lv_neT c_15 (a := 12) rfl; omega) (by decide) ?_
                            refine lv_iconst (v := (-1)) hx hb dX3_count_154 (by decide) ?_
                            exact p_iret X hW hf dX3_count_155
theorem w_count (l : Launch) {g : gG} {ad : Nat → Nat} (had : mI ad) {r : Int32} {σ : cS} {v1 : Int32}  (hf : m_count σ v1 = some r) : MM l yX3_count cX3_count 2 (some .int) 2 42 g ad σ σ [.ref (ad 999), .int v1] (some (.int r)) :=
  MC.of (by decide) mIds_nd had (Nat.le_of_ble_eq_true rfl) (fun p e s m below meth c A ls X hW hl => wb_count X had hW hl hf)
-- image
noncomputable def m_image (σ : cS) (v1 : Int32) : Option (cS × Int32) :=
  ((m_in v1.toInt64 0 3).bind fun r_2 => if r_2 = 0 then (some (σ, (-1))) else (gd (inb v1 4) (((m_carriesAll (si σ 65 (ix v1) 1) v1 0).bind fun σ_6 => some (σ_6, (σ_6.1 1 (ix 5)))))))
set_option maxHeartbeats 4000000 in
theorem wb_image {p : Program} {l : Launch} {e : Env} {s : State} {m : MethodId} {args : Array Value} {below : List Frame} {meth : Method} {c : Code} {g : gG} {A : Nat → Prop} {ad : Nat → Nat} (X : MX p s m args meth c cX3_image 2 RX3 (some .int) g A) (had : mI ad) {σr : cS} {r : Int32} {σ : cS} {v1 : Int32}  {H : Heap} {locs : List Loc} {ls : Array Slot} (hW : WB g A s.heap mIds ad (mE g ad σ) H locs) (hl : lv_has ls 2 [(0, .ref (ad 999)), (1, .int v1)]) (hf : m_image σ v1 = some (σr, r)) : W p l e (rm_ 3 64) s m args below meth c H locs 0 0 (Qm below g mIds ad (mE g ad σr) (some (.int r)) A args s) (F0 m 0 ls []) := by
  have hx := X.1.1
  have hb := X.1.2.1
  unfold m_image at hf
  refine lv_iload_n hx hb dX3_image_0 rfl (lv_at hl 1 rfl) ?_
  refine lv_i2l (v := v1.toInt64) hx hb dX3_image_1 rfl ?_
  refine lv_lconst (v := 0) hx hb dX3_image_2 (by decide) ?_
  refine lv_ldc2 (v := 3) hx hb X.1.2.2.2.1 (X.1.2.2.2.2 _ q1660) dX3_image_3 ?_
  obtain ⟨r_2, h_1, hf⟩ := bd_e hf
  refine k_in X hW h_1 (by decide) hl (Nat.le_of_ble_eq_true rfl) dX3_image_6 (fun H locs hW => ?_)
  refine lv_if_ne (tgt := 14) hx hb dX3_image_9 (by decide) (fun c_3 => ?_) (fun c_3 => ?_)
  · replace hf := ine hf c_3
    refine lv_aload_n hx hb dX3_image_14 rfl (lv_at hl 0 rfl) ?_
    refine mg_65 X hW dX3_image_15 ?_
    refine lv_iload_n hx hb dX3_image_18 rfl (lv_at hl 1 rfl) ?_
    refine lv_iconst (v := 1) hx hb dX3_image_19 (by decide) ?_
    obtain ⟨h_4, hf⟩ := gd_e hf
    refine ms_65 X hW h_4 (by decide) dX3_image_20 (fun H locs hW => ?_)
    refine lv_aload_n hx hb dX3_image_21 rfl (lv_at hl 0 rfl) ?_
    refine lv_iload_n hx hb dX3_image_22 rfl (lv_at hl 1 rfl) ?_
    refine lv_iconst (v := 0) hx hb dX3_image_23 (by decide) ?_
    obtain ⟨σ_6, h_5, hf⟩ := bd_e hf
    refine k_carriesAll X hW had h_5 (by decide) hl (Nat.le_of_ble_eq_true rfl) dX3_image_24 (fun H locs hW => ?_)
    refine lv_aload_n hx hb dX3_image_27 rfl (lv_at hl 0 rfl) ?_
    refine mg_1 X hW dX3_image_28 ?_
    refine lv_iconst (v := 5) hx hb dX3_image_31 (by decide) ?_
    refine ml_1 X hW (by decide) dX3_image_32 ?_
    exact m_iret X hW hf dX3_image_33
  · replace hf := ip hf c_3
    refine lv_iconst (v := (-1)) hx hb dX3_image_12 (by decide) ?_
    exact m_iret X hW hf dX3_image_13
theorem w_image (l : Launch) {g : gG} {ad : Nat → Nat} (had : mI ad) {σr : cS} {r : Int32} {σ : cS} {v1 : Int32}  (hf : m_image σ v1 = some (σr, r)) : MM l yX3_image cX3_image 2 (some .int) 3 64 g ad σ σr [.ref (ad 999), .int v1] (some (.int r)) :=
  MC.of (by decide) mIds_nd had (Nat.le_of_ble_eq_true rfl) (fun p e s m below meth c A ls X hW hl => wb_image X had hW hl hf)
-- back
noncomputable def m_back (σ : cS) (v1 : Int32) : Option (cS × Int32) :=
  ((m_in v1.toInt64 0 3).bind fun r_2 => if r_2 = 0 then (some (σ, (-1))) else (gd (inb v1 4) (if (σ.1 65 (ix v1)) = 0 then (some (σ, (-1))) else (((m_carriesAll σ v1 1).bind fun σ_7 => some (σ_7, (σ_7.1 1 (ix 5))))))))
set_option maxHeartbeats 4000000 in
theorem wb_back {p : Program} {l : Launch} {e : Env} {s : State} {m : MethodId} {args : Array Value} {below : List Frame} {meth : Method} {c : Code} {g : gG} {A : Nat → Prop} {ad : Nat → Nat} (X : MX p s m args meth c cX3_back 2 RX3 (some .int) g A) (had : mI ad) {σr : cS} {r : Int32} {σ : cS} {v1 : Int32}  {H : Heap} {locs : List Loc} {ls : Array Slot} (hW : WB g A s.heap mIds ad (mE g ad σ) H locs) (hl : lv_has ls 2 [(0, .ref (ad 999)), (1, .int v1)]) (hf : m_back σ v1 = some (σr, r)) : W p l e (rm_ 3 64) s m args below meth c H locs 0 0 (Qm below g mIds ad (mE g ad σr) (some (.int r)) A args s) (F0 m 0 ls []) := by
  have hx := X.1.1
  have hb := X.1.2.1
  unfold m_back at hf
  refine lv_iload_n hx hb dX3_back_0 rfl (lv_at hl 1 rfl) ?_
  refine lv_i2l (v := v1.toInt64) hx hb dX3_back_1 rfl ?_
  refine lv_lconst (v := 0) hx hb dX3_back_2 (by decide) ?_
  refine lv_ldc2 (v := 3) hx hb X.1.2.2.2.1 (X.1.2.2.2.2 _ q1660) dX3_back_3 ?_
  obtain ⟨r_2, h_1, hf⟩ := bd_e hf
  refine k_in X hW h_1 (by decide) hl (Nat.le_of_ble_eq_true rfl) dX3_back_6 (fun H locs hW => ?_)
  refine lv_if_eq (tgt := 21) hx hb dX3_back_9 (by decide) (fun c_3 => ?_) (fun c_3 => ?_)
  · replace hf := ip hf c_3
    refine lv_iconst (v := (-1)) hx hb dX3_back_21 (by decide) ?_
    exact m_iret X hW hf dX3_back_22
  · replace hf := ine hf c_3
    refine lv_aload_n hx hb dX3_back_12 rfl (lv_at hl 0 rfl) ?_
    refine mg_65 X hW dX3_back_13 ?_
    refine lv_iload_n hx hb dX3_back_16 rfl (lv_at hl 1 rfl) ?_
    obtain ⟨h_4, hf⟩ := gd_e hf
    refine ml_65 X hW h_4 dX3_back_17 ?_
    refine lv_if_ne (tgt := 23) hx hb dX3_back_18 (by decide) (fun c_5 => ?_) (fun c_5 => ?_)
    · replace hf := ine hf c_5
      refine lv_aload_n hx hb dX3_back_23 rfl (lv_at hl 0 rfl) ?_
      refine lv_iload_n hx hb dX3_back_24 rfl (lv_at hl 1 rfl) ?_
      refine lv_iconst (v := 1) hx hb dX3_back_25 (by decide) ?_
      obtain ⟨σ_7, h_6, hf⟩ := bd_e hf
      refine k_carriesAll X hW had h_6 (by decide) hl (Nat.le_of_ble_eq_true rfl) dX3_back_26 (fun H locs hW => ?_)
      refine lv_aload_n hx hb dX3_back_29 rfl (lv_at hl 0 rfl) ?_
      refine mg_1 X hW dX3_back_30 ?_
      refine lv_iconst (v := 5) hx hb dX3_back_33 (by decide) ?_
      refine ml_1 X hW (by decide) dX3_back_34 ?_
      exact m_iret X hW hf dX3_back_35
    · replace hf := ip hf c_5
      refine lv_iconst (v := (-1)) hx hb dX3_back_21 (by decide) ?_
      exact m_iret X hW hf dX3_back_22
theorem w_back (l : Launch) {g : gG} {ad : Nat → Nat} (had : mI ad) {σr : cS} {r : Int32} {σ : cS} {v1 : Int32}  (hf : m_back σ v1 = some (σr, r)) : MM l yX3_back cX3_back 2 (some .int) 3 64 g ad σ σr [.ref (ad 999), .int v1] (some (.int r)) :=
  MC.of (by decide) mIds_nd had (Nat.le_of_ble_eq_true rfl) (fun p e s m below meth c A ls X hW hl => wb_back X had hW hl hf)
