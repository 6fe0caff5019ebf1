/-! back -/
set_option maxRecDepth 100000
/-- what back does where an image was made -/
noncomputable def x_backB (σ : cS) (k : Nat) : Option (cS × Int32) := ((if σ.1 (990 + k) 1 = 0 then some (si σ 999 0 0) else (d_copies (vw2 σ 1000 (10000 + 1000 * k))).bind fun δ => some (si (pb2 σ 1000 (10000 + 1000 * k) δ) 999 0 1) : Option cS).bind fun σ2 => some (si (si σ2 999 6 (σ2.1 (990 + k) 2)) 999 7 (σ2.1 (990 + k) 3), if σ2.1 999 0 = 0 then 0 else σ2.1 1999 8))
section BK
variable {p : Program} {l : Launch} {e : Env} {R : Room} {s : State} {m : MethodId} {args : Array Value} {below : List Frame} {meth : Method} {c : Code} {H : Heap} {locs : List Loc} {cells slots : Nat} {Q : State → Prop}
variable {nL : Nat} {g : gG} {A : Nat → Prop} {ad : Nat → Nat} {q : xR} {σ σr : cS} {r : Int32} {pc k : Nat} {ls : Array Slot}
theorem w_x_backE (l : Launch) (h4 : k < 4) (had : wI (fun _ => True) (jIds k) ad) (hq : q.2 k = some (ad (990 + k))) (hf : x_backB σ k = some (σr, r)) : MC l yX0_back cX0_back 2 (some .int) 6 200 g (jIds k) ad (xE g ad q σ) (xE g ad q σr) [.ref (ad 999), .int (nI k)] (some (.int r)) := by
  refine MC.of (by decide) (jI_nd h4) had (Nat.le_of_ble_eq_true rfl) (fun p e s m below meth c A ls X hW hl => ?_)
  have hx := X.1.1
  have hb := X.1.2.1
  have m9 : 999 ∈ jIds k := jI_x xm_999
  have m19 : 1999 ∈ jIds k := jI_x (by decide +kernel)
  have m24 : 24 ∈ jIds k := jI_x (by decide +kernel)
  have hq' : va_rf (q.2 k) = .ref (ad (990 + k)) := by rw [hq]; rfl
  have hl : lv_has ls 2 [(0, .ref (ad 999)), (1, .int (nI k))] := hl
  generalize ([.ref (ad 999), .int (nI k)] : List Value).toArray = args at X ⊢
  refine lv_iload_n hx hb dX0_back_0 rfl (lv_at hl 1 rfl) ?_
  refine lv_i2l (v := (nI k).toInt64) hx hb dX0_back_1 rfl ?_
  refine lv_lconst (v := 0) hx hb dX0_back_2 (by decide) ?_
  refine lv_ldc2 (v := 3) hx hb X.1.2.2.2.1 (X.1.2.2.2.2 _ q963) dX0_back_3 ?_
  have hin : x_in (nI k).toInt64 0 3 = some 1 := (x_in_eq (nI k) 0 3).trans (congrArg some (ib_1 ⟨nI_pos' (by omega), nI_le (b := 3) (by omega) (by decide)⟩))
  refine kh_in X hW hin (by decide) hl (Nat.le_of_ble_eq_true rfl) dX0_back_6 (fun H locs hW => ?_)
  refine lv_if_eq (tgt := 21) hx hb dX0_back_9 (by decide) (fun c_4 => absurd c_4 (by decide)) (fun c_4 => ?_)
  refine lv_aload_n hx hb dX0_back_12 rfl (lv_at hl 0 rfl) ?_
  refine xg_24 X hW m9 dX0_back_13 ?_
  refine lv_iload_n hx hb dX0_back_16 rfl (lv_at hl 1 rfl) ?_
  refine ig_a X hW m24 h4 hq' dX0_back_17 ?_
  refine lv_ifnonnull (x := ad (990 + k)) (tgt := 23) hx hb dX0_back_18 (by decide) ?_
  refine lv_aload_n hx hb dX0_back_23 rfl (lv_at hl 0 rfl) ?_
  refine lv_aload_n hx hb dX0_back_24 rfl (lv_at hl 0 rfl) ?_
  refine xg_24 X hW m9 dX0_back_25 ?_
  refine lv_iload_n hx hb dX0_back_28 rfl (lv_at hl 1 rfl) ?_
  refine ig_a X hW m24 h4 hq' dX0_back_29 ?_
  refine ig_1 X hW jI_i h4 dX0_back_30 ?_
  unfold x_backB at hf
  obtain ⟨σ2, h2, hf⟩ := bd_e hf
  -- behind the dough
  have tail : ∀ (H : Heap) (locs : List Loc), WB g A s.heap (jIds k) ad (xE g ad q σ2) H locs → W p l e (rm_ 6 200) s m args below meth c H locs 0 0 (Qm below g (jIds k) ad (xE g ad q σr) (some (.int r)) A args s) (F0 m 59 ls []) := by
    intro H locs hW
    cases hf
    refine lv_aload_n hx hb dX0_back_59 rfl (lv_at hl 0 rfl) ?_
    refine lv_aload_n hx hb dX0_back_60 rfl (lv_at hl 0 rfl) ?_
    refine xg_24 X hW m9 dX0_back_61 ?_
    refine lv_iload_n hx hb dX0_back_64 rfl (lv_at hl 1 rfl) ?_
    refine ig_a X hW m24 h4 hq' dX0_back_65 ?_
    refine ig_2 X hW jI_i h4 dX0_back_66 ?_
    refine xp_6 X hW m9 dX0_back_69 (fun H locs hW => ?_)
    refine lv_aload_n hx hb dX0_back_72 rfl (lv_at hl 0 rfl) ?_
    refine lv_aload_n hx hb dX0_back_73 rfl (lv_at hl 0 rfl) ?_
    refine xg_24 X hW m9 dX0_back_74 ?_
    refine lv_iload_n hx hb dX0_back_77 rfl (lv_at hl 1 rfl) ?_
    refine ig_a X hW m24 h4 hq' dX0_back_78 ?_
    refine ig_3 X hW jI_i h4 dX0_back_79 ?_
    rw [si_o (by omega)]
    refine xp_7 X hW m9 dX0_back_82 (fun H locs hW => ?_)
    refine lv_aload_n hx hb dX0_back_85 rfl (lv_at hl 0 rfl) ?_
    refine xg_0 X hW m9 dX0_back_86 ?_
    rw [si_p (by decide), si_p (by decide)]
    by_cases c0 : σ2.1 999 0 = 0
    · rw [dn_n c0, if_pos c0]
      refine lv_ifnonnullN hx hb dX0_back_89 ?_
      refine lv_iconst (v := 0) hx hb dX0_back_92 (by decide) ?_
      refine lv_goto (tgt := 103) hx hb dX0_back_93 (by decide) ?_
      exact r_iret X hW (fun _ _ => rfl) rfl dX0_back_103
    · rw [dn_s c0, if_neg c0]
      refine lv_ifnonnull (x := ad 1999) (tgt := 96) hx hb dX0_back_89 (by decide) ?_
      refine lv_aload_n hx hb dX0_back_96 rfl (lv_at hl 0 rfl) ?_
      refine xg_0s X hW m9 (by rw [si_p (by decide), si_p (by decide)]; exact c0) dX0_back_97 ?_
      refine xg_1008 X hW m19 dX0_back_100 ?_
      rw [si_o (by decide), si_o (by decide)]
      exact r_iret X hW (fun _ _ => rfl) rfl dX0_back_103
  refine lv_if_eq (tgt := 55) hx hb dX0_back_33 (by decide) (fun c1 => ?_) (fun c1 => ?_)
  · replace h2 := ip h2 c1
    cases h2
    refine lv_null hx hb dX0_back_55 ?_
    exact xp_0n X hW m9 dX0_back_56 tail
  · replace h2 := ine h2 c1
    obtain ⟨δ, h3, h2⟩ := bd_e h2
    cases h2
    refine lv_aload_n hx hb dX0_back_36 rfl (lv_at hl 0 rfl) ?_
    refine xg_1 X hW m9 dX0_back_37 ?_
    refine lv_aload_n hx hb dX0_back_40 rfl (lv_at hl 0 rfl) ?_
    refine xg_24 X hW m9 dX0_back_41 ?_
    refine lv_iload_n hx hb dX0_back_44 rfl (lv_at hl 1 rfl) ?_
    refine ig_a X hW m24 h4 hq' dX0_back_45 ?_
    refine ig_0 X hW jI_i h4 dX0_back_46 ?_
    refine ik_copies X hW (b := 1000) (b2 := 10000 + 1000 * k) (by omega) (by omega) (by omega) (jch_x h4 (by decide)) (jch_im h4) h3 ⟨by decide, by decide⟩ hl (Nat.le_of_ble_eq_true rfl) ⟨Nat.le_refl _, Nat.le_refl _⟩ dX0_back_49 (fun H locs hW => ?_)
    refine lv_goto (tgt := 56) hx hb dX0_back_52 (by decide) ?_
    exact xp_0s X hW m9 dX0_back_56 tail
/-- back where there is no image -/
theorem w_x_backN (l : Launch) {v : Int32} (had : xI_ ad) (hv : x_in v.toInt64 0 3 = some 0 ∨ ∃ k, k < 4 ∧ v = nI k ∧ q.2 k = none) : MC l yX0_back cX0_back 2 (some .int) 6 200 g xIds ad (xE g ad q σ) (xE g ad q σ) [.ref (ad 999), .int v] (some (.int (-1))) := by
  refine MC.of (by decide) xIds_nd had (Nat.le_of_ble_eq_true rfl) (fun p e s m below meth c A ls X hW hl => ?_)
  have hx := X.1.1
  have hb := X.1.2.1
  have hl : lv_has ls 2 [(0, .ref (ad 999)), (1, .int v)] := hl
  generalize ([.ref (ad 999), .int v] : List Value).toArray = args at X ⊢
  refine lv_iload_n hx hb dX0_back_0 rfl (lv_at hl 1 rfl) ?_
  refine lv_i2l (v := v.toInt64) hx hb dX0_back_1 rfl ?_
  refine lv_lconst (v := 0) hx hb dX0_back_2 (by decide) ?_
  refine lv_ldc2 (v := 3) hx hb X.1.2.2.2.1 (X.1.2.2.2.2 _ q963) dX0_back_3 ?_
  rcases hv with hv | ⟨k, h4, rfl, hq⟩
  · refine kh_in X hW hv (by decide) hl (Nat.le_of_ble_eq_true rfl) dX0_back_6 (fun H locs hW => ?_)
    refine lv_if_eq (tgt := 21) hx hb dX0_back_9 (by decide) (fun c_4 => ?_) (fun c_4 => absurd rfl c_4)
    refine lv_iconst (v := -1) hx hb dX0_back_21 (by decide) ?_
    exact r_iret X hW (fun _ _ => rfl) rfl dX0_back_22
  · have hin : x_in (nI k).toInt64 0 3 = some 1 := (x_in_eq (nI k) 0 3).trans (congrArg some (ib_1 ⟨nI_pos' (by omega), nI_le (b := 3) (by omega) (by decide)⟩))
    refine kh_in X hW hin (by decide) hl (Nat.le_of_ble_eq_true rfl) dX0_back_6 (fun H locs hW => ?_)
    refine lv_if_eq (tgt := 21) hx hb dX0_back_9 (by decide) (fun c_4 => absurd c_4 (by decide)) (fun c_4 => ?_)
    refine lv_aload_n hx hb dX0_back_12 rfl (lv_at hl 0 rfl) ?_
    refine xg_24 X hW xm_999 dX0_back_13 ?_
    refine lv_iload_n hx hb dX0_back_16 rfl (lv_at hl 1 rfl) ?_
    refine ig_a X hW (by decide +kernel) h4 (v := .null) (by rw [hq]; rfl) dX0_back_17 ?_
    refine lv_ifnonnullN hx hb dX0_back_18 ?_
    refine lv_iconst (v := -1) hx hb dX0_back_21 (by decide) ?_
    exact r_iret X hW (fun _ _ => rfl) rfl dX0_back_22
end BK
