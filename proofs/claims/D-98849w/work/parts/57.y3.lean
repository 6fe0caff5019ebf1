/-! Text: a clause, a rule -/
set_option maxRecDepth 100000
theorem rs_len {rs : RS} {r : (Wds → Int64) × Option (Wds → Int32)} : nI (rs ++ [r]).length = nI rs.length + 1 := by
  rw [List.length_append, List.length_singleton, nI_succ]
theorem rs_snoc {rs : RS} {r : (Wds → Int64) × Option (Wds → Int32)} {f : Nat → Option Nat} {x : Nat} {P : (Wds → Int64) × Option (Wds → Int32) → Nat → Prop} (hlen : rs.length ≤ 12) (hin : inb (nI rs.length) 12 = true) (hF : ∀ (i : Nat) (q : (Wds → Int64) × Option (Wds → Int32)), rs[i]? = some q → ∃ b, f i = some b ∧ P q b) (hr : P r x) : (rs ++ [r]).length ≤ 12 ∧ ∀ (i : Nat) (q : (Wds → Int64) × Option (Wds → Int32)), (rs ++ [r])[i]? = some q → ∃ b, va_up f (ix (nI rs.length)) (some x) i = some b ∧ P q b := by
  have e : ix (nI rs.length) = rs.length := nI_clamp (by omega)
  have h12 : rs.length < 12 := by
    have h := inb_in hin
    exact Nat.not_le.mp fun q => h (Or.inr (by rw [show (nI rs.length).toNatClampNeg = rs.length from e]; exact q))
  rw [e]
  refine ⟨by rw [List.length_append, List.length_singleton]; omega, fun i q hi => ?_⟩
  by_cases hl : i < rs.length
  · rw [List.getElem?_append_left hl] at hi
    obtain ⟨b, h1, h2⟩ := hF i q hi
    exact ⟨b, by simp [va_up, show i ≠ rs.length by omega, h1], h2⟩
  · rw [List.getElem?_append_right (by omega)] at hi
    have hz : i - rs.length < 1 := (List.getElem?_eq_some_iff.mp hi).1
    rw [show i - rs.length = 0 by omega] at hi
    cases hi
    exact ⟨x, by simp [va_up, show i = rs.length by omega], hr⟩
theorem RR.of {g : gG} {n : Nat} {nd : Nd} {a ca : Nat} {rs : RS} {f : Nat → Option Nat} (hlen : rs.length ≤ 12) (hF : ∀ (i : Nat) (q : (Wds → Int64) × Option (Wds → Int32)), rs[i]? = some q → ∃ b, f i = some b ∧ RC (ndl n nd) q b) : RR g (ndl (n + 1 + 1) (nda (n + 1) (nda n nd (fun _ => (ca, .inl (g.2.1 8, 12, .inr (.inr (.inr (.inr f))))))) (fun _ => (a, .inr (5, [.ref ca, .int (nI rs.length)]))))) rs a :=
  ⟨ca, f, ndl_c, ndl_l _ ndl_c, hlen, fun i q h => (hF i q h).imp fun b hb => ⟨hb.1, (RC.l (RC.l hb.2))⟩⟩

-- clauseHere
noncomputable def t_clauseHere (σ : cS) : Option (cS × Nat × Option ((Wds → Int64) × Option (Wds → Int32))) :=
  addc 1 (((t_sum σ).bind fun (σ_8, c_7, o_9) => addc c_7 (thy σ_8 o_9 fun φ_13 => ((t_takesWord σ_8 18).bind fun (σ_22, r_21) => if r_21 = 0 then (some (σ_22, 0, some (φ_13, none))) else (((t_TT σ_22).bind fun (σ_27, c_26, o_28) => addc c_26 (thy σ_27 o_28 fun φ_32 => some (σ_27, 0, some (φ_13, some φ_32)))))))))
set_option maxHeartbeats 4000000 in
theorem wb_t_clauseHere {p : Program} {l : Launch} {e : Env} {s : State} {m : MethodId} {args : Array Value} {below : List Frame} {meth : Method} {c : Code} {g : gG} {ad : Nat → Nat} {q : xR} {fr lo : Nat} (X : MX p s m args meth c cX4_clauseHere 2 RX4 (some (.object "DoughBorder$Clause")) g (wA tIds ad s.heap.size)) (had : tI_ ad) (hex : ∀ x ∈ c.exceptionTable.toList, False) {σ σr : cS} {cnt : Nat} {o : Option ((Wds → Int64) × Option (Wds → Int32))} (hfr : 70 ≤ fr ∧ 2300 ≤ lo) {H : Heap} {locs : List Loc} {ls : Array Slot} (hW : WBY g (wA tIds ad s.heap.size) s.heap ad q σ [] z0 0 z0 H locs) (hl : lv_has ls 2 [(0, .ref (ad 997))]) (hf : t_clauseHere σ = some (σr, cnt, o)) : W p l e (rmy fr lo cnt) s m args below meth c H locs 0 (12 * 0) (QY below g ad q σr cnt RC o args s s.heap.size) (F0 m 0 ls []) := by
  have hx := X.1.1
  have hb := X.1.2.1
  obtain ⟨cnt0, hcnt⟩ : ∃ x, x = cnt := ⟨_, rfl⟩
  unfold t_clauseHere at hf
  obtain ⟨c_1, hf, hc_2⟩ := addc_e hf
  refine y_new X hW (T := TX6) in_X6 tyX6 tyX6_ok q653 q654 q134 (ci := 6) rfl (fs := [.null, .null]) (fun j hj => by rcases (show j = 0 ∨ j = 1 by omega) with rfl | rfl <;> rfl) (by decide) (by omega) dX4_clauseHere_0 (fun pz_3 H hz_4 hW => ?_)
  obtain ⟨a_6, hz_5⟩ : ∃ a, pz_3 19999 = (a, .inr (6, [.null, .null])) := ⟨(pz_3 19999).1, by rw [← hz_4]⟩
  rw [show (pz_3 19999).1 = a_6 by rw [hz_5]]
  clear hz_4
  refine lv_dup hx hb dX4_clauseHere_3 rfl ?_
  refine r_callIN X hW Sub.nil (w_X6_init l) q657 q134 q655 q656 rfl ⟨by decide, by decide, by decide +kernel⟩ (n := 0) (by show 2 + 1 ≤ fr ∧ 8 + (1 + 11) + 40 ≤ lo; omega) hl rfl rfl (Nat.le_of_ble_eq_true rfl) (by show _ ≤ cnt ∧ _ ≤ 12 * cnt; omega) dX4_clauseHere_4 (fun H locs hW => ?_)
  refine lv_astore_n (lv' := [(1, .ref a_6), (0, .ref (ad 997))]) hx hb dX4_clauseHere_7 rfl hl (by decide) rfl (fun ls hl => ?_)
  refine lv_aload_n hx hb dX4_clauseHere_8 rfl (lv_at hl 0 rfl) ?_
  refine lv_aload_n hx hb dX4_clauseHere_9 rfl (lv_at hl 1 rfl) ?_
  obtain ⟨⟨σ_8, c_7, o_9⟩, h_10, hf⟩ := bd_e hf
  obtain ⟨c_11, hf, hc_12⟩ := addc_e hf
  refine y_callM X hW pdOk_1 (w_t_sum l had (fr := 22) (lo := 560) (by decide) h_10) (lw_V q668 q670 qs18 q127 q671) ⟨rfl, by decide, by decide, by decide +kernel⟩ (nA := 0) (by omega) hl rfl rfl (Nat.le_of_ble_eq_true rfl) (by omega) dX4_clauseHere_10 (fun ho H locs q9 ce hW hc1 hc2 hc3 => by subst ho; exact y_out X hex hW (thy_n hf) (by omega) hc1 hc2 hc3) (fun φ_13 a_14 nd_16 ho H locs hW hN_15 => ?_)
  subst ho
  replace hf := thy_s hf
  replace hN_15 := RV.r (n := 0) (nd := z0) hN_15
  generalize nda 0 z0 nd_16 = nd_17 at hW hN_15
  refine y_put X hW pdOk_1 (b := 19999) (j := 0) (N := 2) List.mem_cons_self hz_5 rfl in_X6 tyX6_ok nmX6 (by decide) q660 rfl rfl rfl (by show 0 < 2; decide) dX4_clauseHere_13 (fun pz_18 H locs hz_19 hW => ?_)
  replace hz_19 : pz_18 19999 = (a_6, .inr (6, [.ref a_14, .null])) := hz_19
  refine lv_aload_n hx hb dX4_clauseHere_16 rfl (lv_at hl 0 rfl) ?_
  refine lv_aload_n hx hb dX4_clauseHere_17 rfl (lv_at hl 1 rfl) ?_
  refine va_ldcS hx hb X.1.2.2.2.1 (X.2.2.2.2.1.1 18 _ rfl).1 dX4_clauseHere_18 ?_
  obtain ⟨⟨σ_22, r_21⟩, h_20, hf⟩ := bd_e hf
  refine ky_takesWord X hW pdOk_1 had (by decide) h_20 (by omega) hl (Nat.le_of_ble_eq_true rfl) (by omega) dX4_clauseHere_20 (fun H locs hW => ?_)
  refine lv_if_eq (tgt := 33) hx hb dX4_clauseHere_23 (by decide) (fun c_23 => ?_) (fun c_23 => ?_)
  · replace hf := ip hf c_23
    refine lv_null hx hb dX4_clauseHere_33 ?_
    refine y_put X hW pdOk_1 (b := 19999) (j := 1) (N := 2) List.mem_cons_self hz_19 rfl in_X6 tyX6_ok nmX6 (by decide) q662 rfl rfl rfl (by show 1 < 2; decide) dX4_clauseHere_34 (fun pz_24 H locs hz_25 hW => ?_)
    replace hz_25 : pz_24 19999 = (a_6, .inr (6, [.ref a_14, .null])) := hz_25
    refine lv_aload_n hx hb dX4_clauseHere_37 rfl (lv_at hl 0 rfl) ?_
    replace hW := y_commit hW pdOk_1 pdOk_0 (b := 19999) List.mem_cons_self (fun k hk => (List.not_mem_nil hk).elim) hz_25
    exact y_aret X hW (by omega) (RC.of0 hN_15) hf (by omega) dX4_clauseHere_38
  · replace hf := ine hf c_23
    refine lv_aload_n hx hb dX4_clauseHere_26 rfl (lv_at hl 1 rfl) ?_
    obtain ⟨⟨σ_27, c_26, o_28⟩, h_29, hf⟩ := bd_e hf
    obtain ⟨c_30, hf, hc_31⟩ := addc_e hf
    refine y_callM X hW pdOk_1 (w_t_TT l had h_29) (lw_V q729 q731 qs23 q127 q732) ⟨rfl, by decide, by decide, by decide +kernel⟩ (nA := 0) (by omega) hl rfl rfl (Nat.le_of_ble_eq_true rfl) (by omega) dX4_clauseHere_27 (fun ho H locs q9 ce hW hc1 hc2 hc3 => by subst ho; exact y_out X hex hW (thy_n hf) (by omega) hc1 hc2 hc3) (fun φ_32 a_33 nd_35 ho H locs hW hN_34 => ?_)
    subst ho
    replace hf := thy_s hf
    replace hN_34 := RT.r (n := (0 + c_7)) (nd := nd_17) hN_34
    replace hN_15 := RV.l (c := c_26) (nd1 := nd_35) hN_15
    generalize nda (0 + c_7) nd_17 nd_35 = nd_36 at hW hN_34 hN_15
    refine lv_goto (tgt := 34) hx hb dX4_clauseHere_30 (by decide) ?_
    refine y_put X hW pdOk_1 (b := 19999) (j := 1) (N := 2) List.mem_cons_self hz_19 rfl in_X6 tyX6_ok nmX6 (by decide) q662 rfl rfl rfl (by show 1 < 2; decide) dX4_clauseHere_34 (fun pz_37 H locs hz_38 hW => ?_)
    replace hz_38 : pz_37 19999 = (a_6, .inr (6, [.ref a_14, .ref a_33])) := hz_38
    refine lv_aload_n hx hb dX4_clauseHere_37 rfl (lv_at hl 0 rfl) ?_
    replace hW := y_commit hW pdOk_1 pdOk_0 (b := 19999) List.mem_cons_self (fun k hk => (List.not_mem_nil hk).elim) hz_38
    exact y_aret X hW (by omega) (RC.of1 hN_15 hN_34) hf (by omega) dX4_clauseHere_38
theorem w_t_clauseHere (l : Launch) {g : gG} {ad : Nat → Nat} {q : xR} (had : tI_ ad) {fr lo : Nat} {σ σr : cS} {cnt : Nat} {o : Option ((Wds → Int64) × Option (Wds → Int32))} (hfr : 70 ≤ fr ∧ 2300 ≤ lo) (hf : t_clauseHere σ = some (σr, cnt, o)) : MY l yX4_clauseHere cX4_clauseHere 2 (some (.object "DoughBorder$Clause")) fr lo g ad q σ σr cnt [.ref (ad 997)] RC o :=
  MY.of (by decide) had (Nat.le_of_ble_eq_true rfl) (fun p e s m below meth c ls X hex hW hl => wb_t_clauseHere X had hex hfr hW hl hf)
-- ruleTold
noncomputable def t_ruleTold_8 : Nat → cS → RS → Option (cS × Nat × Option RS)
  | 0, _, _ => none
  | N + 1, σ, rs => ((t_see σ).bind fun (σ_14, r_13) => ((t_oneOf_12 σ_14).bind fun (σ_17, r_16) => if r_16 = 0 then (((t_demand σ_17 1 0 (σ_14.1 997 2)).bind fun (σ_92, o_93) => thy σ_92 o_93 fun _ => if 12 ≤ (σ_92.1 997 5) then (((t_demand σ_92 0 4 (σ_14.1 997 2)).bind fun (σ_97, o_98) => thy σ_97 o_98 fun _ => nmb (si σ_97 997 5 ((σ_97.1 997 5) + 1)) fun σ_99 => (((t_clauseHere (si σ_99 997 2 (((si σ_97 997 5 ((σ_97.1 997 5) + 1)).1 997 2) + 5))).bind fun (σ_102, c_101, o_103) => addc c_101 (thy σ_102 o_103 fun φ_107 => gd (inb (nI rs.length) 12) (((t_takesSign σ_102 59).bind fun (σ_122, r_121) => if r_121 = 0 then (((t_ends σ_122).bind fun (σ_126, o_127) => thy σ_126 o_127 fun _ => some (σ_126, 0, some (rs ++ [φ_107])))) else (t_ruleTold_8 N σ_122 (rs ++ [φ_107]))))))))) else (((t_demand σ_92 1 4 (σ_14.1 997 2)).bind fun (σ_130, o_131) => thy σ_130 o_131 fun _ => nmb (si σ_130 997 5 ((σ_130.1 997 5) + 1)) fun σ_132 => (((t_clauseHere (si σ_132 997 2 (((si σ_130 997 5 ((σ_130.1 997 5) + 1)).1 997 2) + 5))).bind fun (σ_135, c_134, o_136) => addc c_134 (thy σ_135 o_136 fun φ_140 => gd (inb (nI rs.length) 12) (((t_takesSign σ_135 59).bind fun (σ_155, r_154) => if r_154 = 0 then (((t_ends σ_155).bind fun (σ_159, o_160) => thy σ_159 o_160 fun _ => some (σ_159, 0, some (rs ++ [φ_140])))) else (t_ruleTold_8 N σ_155 (rs ++ [φ_140]))))))))))) else (((t_demand σ_17 0 0 (σ_14.1 997 2)).bind fun (σ_21, o_22) => thy σ_21 o_22 fun _ => if 12 ≤ (σ_21.1 997 5) then (((t_demand σ_21 0 4 (σ_14.1 997 2)).bind fun (σ_26, o_27) => thy σ_26 o_27 fun _ => nmb (si σ_26 997 5 ((σ_26.1 997 5) + 1)) fun σ_28 => (((t_clauseHere (si σ_28 997 2 (((si σ_26 997 5 ((σ_26.1 997 5) + 1)).1 997 2) + 5))).bind fun (σ_31, c_30, o_32) => addc c_30 (thy σ_31 o_32 fun φ_36 => gd (inb (nI rs.length) 12) (((t_takesSign σ_31 59).bind fun (σ_51, r_50) => if r_50 = 0 then (((t_ends σ_51).bind fun (σ_55, o_56) => thy σ_55 o_56 fun _ => some (σ_55, 0, some (rs ++ [φ_36])))) else (t_ruleTold_8 N σ_51 (rs ++ [φ_36]))))))))) else (((t_demand σ_21 1 4 (σ_14.1 997 2)).bind fun (σ_59, o_60) => thy σ_59 o_60 fun _ => nmb (si σ_59 997 5 ((σ_59.1 997 5) + 1)) fun σ_61 => (((t_clauseHere (si σ_61 997 2 (((si σ_59 997 5 ((σ_59.1 997 5) + 1)).1 997 2) + 5))).bind fun (σ_64, c_63, o_65) => addc c_63 (thy σ_64 o_65 fun φ_69 => gd (inb (nI rs.length) 12) (((t_takesSign σ_64 59).bind fun (σ_84, r_83) => if r_83 = 0 then (((t_ends σ_84).bind fun (σ_88, o_89) => thy σ_88 o_89 fun _ => some (σ_88, 0, some (rs ++ [φ_69])))) else (t_ruleTold_8 N σ_84 (rs ++ [φ_69])))))))))))))
set_option maxHeartbeats 4000000 in
theorem wt_ruleTold_8 {p : Program} {l : Launch} {e : Env} {s : State} {m : MethodId} {args : Array Value} {below : List Frame} {meth : Method} {c : Code} {g : gG} {ad : Nat → Nat} {q : xR} {fr lo : Nat} (X : MX p s m args meth c cX4_ruleTold 3 RX4 (some (.object "DoughBorder$Rule")) g (wA tIds ad s.heap.size)) (had : tI_ ad) (hex : ∀ x ∈ c.exceptionTable.toList, False) {σr : cS} {o : Option RS} {cnt : Nat} (hfr : 72 ≤ fr ∧ 2400 ≤ lo) : ∀ (N : Nat) (σ : cS) (rs : RS) (f : Nat → Option Nat) (a ca n cr : Nat) (nd pz : Nd) (H : Heap) (locs : List Loc) (ls : Array Slot), t_ruleTold_8 N σ rs = some (σr, cr, o) → n + 2 + cr = cnt → WBY g (wA tIds ad s.heap.size) s.heap ad q σ [19998, 19999] pz n nd H locs → pz 19999 = (a, .inr (5, [.ref ca, .int (nI rs.length)])) → pz 19998 = (ca, .inl (g.2.1 8, 12, .inr (.inr (.inr (.inr f))))) → rs.length ≤ 12 → (∀ (i : Nat) (q : (Wds → Int64) × Option (Wds → Int32)), rs[i]? = some q → ∃ b, f i = some b ∧ RC (ndl n nd) q b) → lv_has ls 3 [(0, .ref (ad 997)), (1, .ref a)] → W p l e (rmy fr lo cnt) s m args below meth c H locs (n + 2) (12 * (n + 2)) (QY below g ad q σr cnt (RR g) o args s s.heap.size) (F0 m 8 ls []) := by
  have hx := X.1.1
  have hb := X.1.2.1
  intro N
  induction N with
  | zero =>
    intro σ rs f a ca n cr nd pz H locs ls hf
    rw [t_ruleTold_8] at hf
    cases hf
  | succ N ih =>
    intro σ rs f a ca n cr nd pz H locs ls hf hc hW hz ha hlen hF hl
    rw [t_ruleTold_8] at hf
    refine lv_aload_n hx hb dX4_ruleTold_8 rfl (lv_at hl 0 rfl) ?_
    obtain ⟨⟨σ_14, r_13⟩, h_12, hf⟩ := bd_e hf
    refine ky_see X hW pdOk_2 had h_12 (by omega) hl (Nat.le_of_ble_eq_true rfl) (by omega) dX4_ruleTold_9 (fun H locs hW => ?_)
    refine lv_pop hx hb dX4_ruleTold_12 rfl ?_
    refine lv_aload_n hx hb dX4_ruleTold_13 rfl (lv_at hl 0 rfl) ?_
    refine yg_2 X hW dX4_ruleTold_14 ?_
    refine lv_istore_n (lv' := [(2, .int (σ_14.1 997 2)), (0, .ref (ad 997)), (1, .ref a)]) hx hb dX4_ruleTold_17 rfl hl (by decide) rfl (fun ls hl => ?_)
    refine lv_aload_n hx hb dX4_ruleTold_18 rfl (lv_at hl 1 rfl) ?_
    refine lv_aload_n hx hb dX4_ruleTold_19 rfl (lv_at hl 1 rfl) ?_
    refine lv_aload_n hx hb dX4_ruleTold_20 rfl (lv_at hl 1 rfl) ?_
    refine yg_6 X hW dX4_ruleTold_21 ?_
    refine ygo_12 X hW dX4_ruleTold_24 ?_
    obtain ⟨⟨σ_17, r_16⟩, h_15, hf⟩ := bd_e hf
    refine ky_oneOf_12 X hW pdOk_2 had h_15 (by omega) hl (Nat.le_of_ble_eq_true rfl) (by omega) dX4_ruleTold_27 (fun H locs hW => ?_)
    refine lv_if_ne (tgt := 37) hx hb dX4_ruleTold_30 (by decide) (fun c_18 => ?_) (fun c_18 => ?_)
    · replace hf := ine hf c_18
      refine lv_iconst (v := 0) hx hb dX4_ruleTold_37 (by decide) ?_
      refine lv_iconst (v := 0) hx hb dX4_ruleTold_38 (by decide) ?_
      refine lv_iload_n hx hb dX4_ruleTold_39 rfl (lv_at hl 0 rfl) ?_
      obtain ⟨⟨σ_21, o_22⟩, h_19, hf⟩ := bd_e hf
      refine ky_demand X hW pdOk_2 had h_19 (by omega) hl (Nat.le_of_ble_eq_true rfl) (by omega) dX4_ruleTold_40 (fun ho H locs q9 ce hW hc1 hc2 hc3 => by subst ho; exact y_out X hex hW (thy_n hf) (by omega) hc1 hc2 hc3) (fun r_20 ho H locs hW => ?_)
      subst ho
      replace hf := thy_s hf
      refine lv_aload_n hx hb dX4_ruleTold_43 rfl (lv_at hl 1 rfl) ?_
      refine lv_aload_n hx hb dX4_ruleTold_44 rfl (lv_at hl 1 rfl) ?_
      refine yg_5 X hW dX4_ruleTold_45 ?_
      refine lv_bipush (v := 12) hx hb dX4_ruleTold_48 (by decide) ?_
      refine lv_icmp_ge (tgt := 57) hx hb dX4_ruleTold_50 (by decide) (fun c_23 => ?_) (fun c_23 => ?_)
      · replace hf := ip hf c_23
        refine lv_iconst (v := 0) hx hb dX4_ruleTold_57 (by decide) ?_
        refine lv_iconst (v := 4) hx hb dX4_ruleTold_58 (by decide) ?_
        refine lv_iload_n hx hb dX4_ruleTold_59 rfl (lv_at hl 0 rfl) ?_
        obtain ⟨⟨σ_26, o_27⟩, h_24, hf⟩ := bd_e hf
        refine ky_demand X hW pdOk_2 had h_24 (by omega) hl (Nat.le_of_ble_eq_true rfl) (by omega) dX4_ruleTold_60 (fun ho H locs q9 ce hW hc1 hc2 hc3 => by subst ho; exact y_out X hex hW (thy_n hf) (by omega) hc1 hc2 hc3) (fun r_25 ho H locs hW => ?_)
        subst ho
        replace hf := thy_s hf
        refine lv_aload_n hx hb dX4_ruleTold_63 rfl (lv_at hl 1 rfl) ?_
        refine lv_dup hx hb dX4_ruleTold_64 rfl ?_
        refine yg_5 X hW dX4_ruleTold_65 ?_
        refine lv_iconst (v := 1) hx hb dX4_ruleTold_68 (by decide) ?_
        refine lv_iadd hx hb dX4_ruleTold_69 ?_
        refine yp_5 X hW dX4_ruleTold_70 (fun H locs hW => ?_)
        refine lv_aload_n hx hb dX4_ruleTold_73 rfl (lv_at hl 1 rfl) ?_
        refine lv_dup hx hb dX4_ruleTold_74 rfl ?_
        refine yg_2 X hW dX4_ruleTold_75 ?_
        refine lv_iconst (v := 5) hx hb dX4_ruleTold_78 (by decide) ?_
        refine lv_iadd hx hb dX4_ruleTold_79 ?_
        obtain ⟨σ_28, e_29, hf⟩ := nmb_e hf
        rw [← e_29] at hW
        clear e_29
        refine yp_2 X hW dX4_ruleTold_80 (fun H locs hW => ?_)
        refine lv_aload_n hx hb dX4_ruleTold_83 rfl (lv_at hl 2 rfl) ?_
        refine y_get X hW pdOk_2 (b := 19999) (j := 0) (N := 2) (by decide) hz rfl in_X5 (by decide) q641 rfl dX4_ruleTold_84 ?_
        refine lv_aload_n hx hb dX4_ruleTold_87 rfl (lv_at hl 2 rfl) ?_
        refine y_get X hW pdOk_2 (b := 19999) (j := 1) (N := 2) (by decide) hz rfl in_X5 (by decide) q643 rfl dX4_ruleTold_88 ?_
        refine lv_aload_n hx hb dX4_ruleTold_91 rfl (lv_at hl 1 rfl) ?_
        obtain ⟨⟨σ_31, c_30, o_32⟩, h_33, hf⟩ := bd_e hf
        obtain ⟨c_34, hf, hc_35⟩ := addc_e hf
        refine y_callM X hW pdOk_2 (w_t_clauseHere l had (fr := 70) (lo := 2300) (by decide) h_33) (lw_V q649 q651 qs17 q127 q652) ⟨rfl, by decide, by decide, by decide +kernel⟩ (nA := 0) (by omega) hl rfl rfl (Nat.le_of_ble_eq_true rfl) (by omega) dX4_ruleTold_92 (fun ho H locs q9 ce hW hc1 hc2 hc3 => by subst ho; exact y_out X hex hW (thy_n hf) (by omega) hc1 hc2 hc3) (fun φ_36 a_37 nd_39 ho H locs hW hN_38 => ?_)
        subst ho
        replace hf := thy_s hf
        replace hN_38 := RC.r (n := n) (nd := nd) hN_38
        replace hF := fun i q h => (hF i q h).imp fun b hb => And.intro hb.1 (RC.l (c := c_30) (nd1 := nd_39) hb.2)
        generalize nda n nd nd_39 = nd_40 at hW hN_38 hF
        obtain ⟨h_41, hf⟩ := gd_e hf
        refine y_aast X hW pdOk_2 (b := 19998) (by decide) ha hN_38 h_41 dX4_ruleTold_95 (fun pz_42 H locs ha_43 hk_44 hW => ?_)
        replace hz := (hk_44 19999 (by decide)).trans hz
        clear hk_44
        obtain ⟨hlen, hS_45⟩ := rs_snoc hlen h_41 hF hN_38
        clear hF
        refine lv_aload_n hx hb dX4_ruleTold_96 rfl (lv_at hl 2 rfl) ?_
        refine lv_dup hx hb dX4_ruleTold_97 rfl ?_
        refine y_get X hW pdOk_2 (b := 19999) (j := 1) (N := 2) (by decide) hz rfl in_X5 (by decide) q643 rfl dX4_ruleTold_98 ?_
        refine lv_iconst (v := 1) hx hb dX4_ruleTold_101 (by decide) ?_
        refine lv_iadd hx hb dX4_ruleTold_102 ?_
        refine y_put2 X hW pdOk_2 (b := 19999) (j := 1) (N := 2) (by decide) hz rfl in_X5 tyX5_ok nmX5 (by decide) q643 rfl rfl rfl (by show 1 < 2; decide) dX4_ruleTold_103 (fun pz_46 H locs hz_47 hk_48 hW => ?_)
        replace hz_47 : pz_46 19999 = (a, .inr (5, [.ref ca, .int ((nI rs.length) + 1)])) := hz_47
        replace ha_43 := (hk_48 19998 (by decide)).trans ha_43
        clear hk_48
        refine lv_aload_n hx hb dX4_ruleTold_106 rfl (lv_at hl 1 rfl) ?_
        refine lv_bipush (v := 59) hx hb dX4_ruleTold_107 (by decide) ?_
        obtain ⟨⟨σ_51, r_50⟩, h_49, hf⟩ := bd_e hf
        refine ky_takesSign X hW pdOk_2 had h_49 (by omega) hl (Nat.le_of_ble_eq_true rfl) (by omega) dX4_ruleTold_109 (fun H locs hW => ?_)
        refine lv_if_ne (tgt := 8) hx hb dX4_ruleTold_112 (by decide) (fun c_52 => ?_) (fun c_52 => ?_)
        · replace hf := ine hf c_52
          rw [← rs_len] at hz_47
          exact W.widen (by omega) (by omega) (ih _ _ _ _ _ _ _ _ _ _ _ _ hf (by omega) hW hz_47 ha_43 hlen hS_45 (lv_sub hl [1, 2] rfl))
        · replace hf := ip hf c_52
          refine lv_aload_n hx hb dX4_ruleTold_115 rfl (lv_at hl 1 rfl) ?_
          obtain ⟨⟨σ_55, o_56⟩, h_53, hf⟩ := bd_e hf
          refine ky_ends X hW pdOk_2 had h_53 (by omega) hl (Nat.le_of_ble_eq_true rfl) (by omega) dX4_ruleTold_116 (fun ho H locs q9 ce hW hc1 hc2 hc3 => by subst ho; exact y_out X hex hW (thy_n hf) (by omega) hc1 hc2 hc3) (fun r_54 ho H locs hW => ?_)
          subst ho
          replace hf := thy_s hf
          refine lv_aload_n hx hb dX4_ruleTold_119 rfl (lv_at hl 2 rfl) ?_
          rw [← rs_len] at hz_47
          replace hW := y_commit hW pdOk_2 pdOk_1 (b := 19998) (by decide) (by decide) ha_43
          replace hW := y_commit hW pdOk_1 pdOk_0 (b := 19999) List.mem_cons_self (fun k hk => (List.not_mem_nil hk).elim) hz_47
          exact y_aret X hW (by omega) (RR.of hlen hS_45) hf (by omega) dX4_ruleTold_120
      · replace hf := ine hf c_23
        refine lv_iconst (v := 1) hx hb dX4_ruleTold_53 (by decide) ?_
        refine lv_goto (tgt := 58) hx hb dX4_ruleTold_54 (by decide) ?_
        refine lv_iconst (v := 4) hx hb dX4_ruleTold_58 (by decide) ?_
        refine lv_iload_n hx hb dX4_ruleTold_59 rfl (lv_at hl 0 rfl) ?_
        obtain ⟨⟨σ_59, o_60⟩, h_57, hf⟩ := bd_e hf
        refine ky_demand X hW pdOk_2 had h_57 (by omega) hl (Nat.le_of_ble_eq_true rfl) (by omega) dX4_ruleTold_60 (fun ho H locs q9 ce hW hc1 hc2 hc3 => by subst ho; exact y_out X hex hW (thy_n hf) (by omega) hc1 hc2 hc3) (fun r_58 ho H locs hW => ?_)
        subst ho
        replace hf := thy_s hf
        refine lv_aload_n hx hb dX4_ruleTold_63 rfl (lv_at hl 1 rfl) ?_
        refine lv_dup hx hb dX4_ruleTold_64 rfl ?_
        refine yg_5 X hW dX4_ruleTold_65 ?_
        refine lv_iconst (v := 1) hx hb dX4_ruleTold_68 (by decide) ?_
        refine lv_iadd hx hb dX4_ruleTold_69 ?_
        refine yp_5 X hW dX4_ruleTold_70 (fun H locs hW => ?_)
        refine lv_aload_n hx hb dX4_ruleTold_73 rfl (lv_at hl 1 rfl) ?_
        refine lv_dup hx hb dX4_ruleTold_74 rfl ?_
        refine yg_2 X hW dX4_ruleTold_75 ?_
        refine lv_iconst (v := 5) hx hb dX4_ruleTold_78 (by decide) ?_
        refine lv_iadd hx hb dX4_ruleTold_79 ?_
        obtain ⟨σ_61, e_62, hf⟩ := nmb_e hf
        rw [← e_62] at hW
        clear e_62
        refine yp_2 X hW dX4_ruleTold_80 (fun H locs hW => ?_)
        refine lv_aload_n hx hb dX4_ruleTold_83 rfl (lv_at hl 2 rfl) ?_
        refine y_get X hW pdOk_2 (b := 19999) (j := 0) (N := 2) (by decide) hz rfl in_X5 (by decide) q641 rfl dX4_ruleTold_84 ?_
        refine lv_aload_n hx hb dX4_ruleTold_87 rfl (lv_at hl 2 rfl) ?_
        refine y_get X hW pdOk_2 (b := 19999) (j := 1) (N := 2) (by decide) hz rfl in_X5 (by decide) q643 rfl dX4_ruleTold_88 ?_
        refine lv_aload_n hx hb dX4_ruleTold_91 rfl (lv_at hl 1 rfl) ?_
        obtain ⟨⟨σ_64, c_63, o_65⟩, h_66, hf⟩ := bd_e hf
        obtain ⟨c_67, hf, hc_68⟩ := addc_e hf
        refine y_callM X hW pdOk_2 (w_t_clauseHere l had (fr := 70) (lo := 2300) (by decide) h_66) (lw_V q649 q651 qs17 q127 q652) ⟨rfl, by decide, by decide, by decide +kernel⟩ (nA := 0) (by omega) hl rfl rfl (Nat.le_of_ble_eq_true rfl) (by omega) dX4_ruleTold_92 (fun ho H locs q9 ce hW hc1 hc2 hc3 => by subst ho; exact y_out X hex hW (thy_n hf) (by omega) hc1 hc2 hc3) (fun φ_69 a_70 nd_72 ho H locs hW hN_71 => ?_)
        subst ho
        replace hf := thy_s hf
        replace hN_71 := RC.r (n := n) (nd := nd) hN_71
        replace hF := fun i q h => (hF i q h).imp fun b hb => And.intro hb.1 (RC.l (c := c_63) (nd1 := nd_72) hb.2)
        generalize nda n nd nd_72 = nd_73 at hW hN_71 hF
        obtain ⟨h_74, hf⟩ := gd_e hf
        refine y_aast X hW pdOk_2 (b := 19998) (by decide) ha hN_71 h_74 dX4_ruleTold_95 (fun pz_75 H locs ha_76 hk_77 hW => ?_)
        replace hz := (hk_77 19999 (by decide)).trans hz
        clear hk_77
        obtain ⟨hlen, hS_78⟩ := rs_snoc hlen h_74 hF hN_71
        clear hF
        refine lv_aload_n hx hb dX4_ruleTold_96 rfl (lv_at hl 2 rfl) ?_
        refine lv_dup hx hb dX4_ruleTold_97 rfl ?_
        refine y_get X hW pdOk_2 (b := 19999) (j := 1) (N := 2) (by decide) hz rfl in_X5 (by decide) q643 rfl dX4_ruleTold_98 ?_
        refine lv_iconst (v := 1) hx hb dX4_ruleTold_101 (by decide) ?_
        refine lv_iadd hx hb dX4_ruleTold_102 ?_
        refine y_put2 X hW pdOk_2 (b := 19999) (j := 1) (N := 2) (by decide) hz rfl in_X5 tyX5_ok nmX5 (by decide) q643 rfl rfl rfl (by show 1 < 2; decide) dX4_ruleTold_103 (fun pz_79 H locs hz_80 hk_81 hW => ?_)
        replace hz_80 : pz_79 19999 = (a, .inr (5, [.ref ca, .int ((nI rs.length) + 1)])) := hz_80
        replace ha_76 := (hk_81 19998 (by decide)).trans ha_76
        clear hk_81
        refine lv_aload_n hx hb dX4_ruleTold_106 rfl (lv_at hl 1 rfl) ?_
        refine lv_bipush (v := 59) hx hb dX4_ruleTold_107 (by decide) ?_
        obtain ⟨⟨σ_84, r_83⟩, h_82, hf⟩ := bd_e hf
        refine ky_takesSign X hW pdOk_2 had h_82 (by omega) hl (Nat.le_of_ble_eq_true rfl) (by omega) dX4_ruleTold_109 (fun H locs hW => ?_)
        refine lv_if_ne (tgt := 8) hx hb dX4_ruleTold_112 (by decide) (fun c_85 => ?_) (fun c_85 => ?_)
        · replace hf := ine hf c_85
          rw [← rs_len] at hz_80
          exact W.widen (by omega) (by omega) (ih _ _ _ _ _ _ _ _ _ _ _ _ hf (by omega) hW hz_80 ha_76 hlen hS_78 (lv_sub hl [1, 2] rfl))
        · replace hf := ip hf c_85
          refine lv_aload_n hx hb dX4_ruleTold_115 rfl (lv_at hl 1 rfl) ?_
          obtain ⟨⟨σ_88, o_89⟩, h_86, hf⟩ := bd_e hf
          refine ky_ends X hW pdOk_2 had h_86 (by omega) hl (Nat.le_of_ble_eq_true rfl) (by omega) dX4_ruleTold_116 (fun ho H locs q9 ce hW hc1 hc2 hc3 => by subst ho; exact y_out X hex hW (thy_n hf) (by omega) hc1 hc2 hc3) (fun r_87 ho H locs hW => ?_)
          subst ho
          replace hf := thy_s hf
          refine lv_aload_n hx hb dX4_ruleTold_119 rfl (lv_at hl 2 rfl) ?_
          rw [← rs_len] at hz_80
          replace hW := y_commit hW pdOk_2 pdOk_1 (b := 19998) (by decide) (by decide) ha_76
          replace hW := y_commit hW pdOk_1 pdOk_0 (b := 19999) List.mem_cons_self (fun k hk => (List.not_mem_nil hk).elim) hz_80
          exact y_aret X hW (by omega) (RR.of hlen hS_78) hf (by omega) dX4_ruleTold_120
    · replace hf := ip hf c_18
      refine lv_iconst (v := 1) hx hb dX4_ruleTold_33 (by decide) ?_
      refine lv_goto (tgt := 38) hx hb dX4_ruleTold_34 (by decide) ?_
      refine lv_iconst (v := 0) hx hb dX4_ruleTold_38 (by decide) ?_
      refine lv_iload_n hx hb dX4_ruleTold_39 rfl (lv_at hl 0 rfl) ?_
      obtain ⟨⟨σ_92, o_93⟩, h_90, hf⟩ := bd_e hf
      refine ky_demand X hW pdOk_2 had h_90 (by omega) hl (Nat.le_of_ble_eq_true rfl) (by omega) dX4_ruleTold_40 (fun ho H locs q9 ce hW hc1 hc2 hc3 => by subst ho; exact y_out X hex hW (thy_n hf) (by omega) hc1 hc2 hc3) (fun r_91 ho H locs hW => ?_)
      subst ho
      replace hf := thy_s hf
      refine lv_aload_n hx hb dX4_ruleTold_43 rfl (lv_at hl 1 rfl) ?_
      refine lv_aload_n hx hb dX4_ruleTold_44 rfl (lv_at hl 1 rfl) ?_
      refine yg_5 X hW dX4_ruleTold_45 ?_
      refine lv_bipush (v := 12) hx hb dX4_ruleTold_48 (by decide) ?_
      refine lv_icmp_ge (tgt := 57) hx hb dX4_ruleTold_50 (by decide) (fun c_94 => ?_) (fun c_94 => ?_)
      · replace hf := ip hf c_94
        refine lv_iconst (v := 0) hx hb dX4_ruleTold_57 (by decide) ?_
        refine lv_iconst (v := 4) hx hb dX4_ruleTold_58 (by decide) ?_
        refine lv_iload_n hx hb dX4_ruleTold_59 rfl (lv_at hl 0 rfl) ?_
        obtain ⟨⟨σ_97, o_98⟩, h_95, hf⟩ := bd_e hf
        refine ky_demand X hW pdOk_2 had h_95 (by omega) hl (Nat.le_of_ble_eq_true rfl) (by omega) dX4_ruleTold_60 (fun ho H locs q9 ce hW hc1 hc2 hc3 => by subst ho; exact y_out X hex hW (thy_n hf) (by omega) hc1 hc2 hc3) (fun r_96 ho H locs hW => ?_)
        subst ho
        replace hf := thy_s hf
        refine lv_aload_n hx hb dX4_ruleTold_63 rfl (lv_at hl 1 rfl) ?_
        refine lv_dup hx hb dX4_ruleTold_64 rfl ?_
        refine yg_5 X hW dX4_ruleTold_65 ?_
        refine lv_iconst (v := 1) hx hb dX4_ruleTold_68 (by decide) ?_
        refine lv_iadd hx hb dX4_ruleTold_69 ?_
        refine yp_5 X hW dX4_ruleTold_70 (fun H locs hW => ?_)
        refine lv_aload_n hx hb dX4_ruleTold_73 rfl (lv_at hl 1 rfl) ?_
        refine lv_dup hx hb dX4_ruleTold_74 rfl ?_
        refine yg_2 X hW dX4_ruleTold_75 ?_
        refine lv_iconst (v := 5) hx hb dX4_ruleTold_78 (by decide) ?_
        refine lv_iadd hx hb dX4_ruleTold_79 ?_
        obtain ⟨σ_99, e_100, hf⟩ := nmb_e hf
        rw [← e_100] at hW
        clear e_100
        refine yp_2 X hW dX4_ruleTold_80 (fun H locs hW => ?_)
        refine lv_aload_n hx hb dX4_ruleTold_83 rfl (lv_at hl 2 rfl) ?_
        refine y_get X hW pdOk_2 (b := 19999) (j := 0) (N := 2) (by decide) hz rfl in_X5 (by decide) q641 rfl dX4_ruleTold_84 ?_
        refine lv_aload_n hx hb dX4_ruleTold_87 rfl (lv_at hl 2 rfl) ?_
        refine y_get X hW pdOk_2 (b := 19999) (j := 1) (N := 2) (by decide) hz rfl in_X5 (by decide) q643 rfl dX4_ruleTold_88 ?_
        refine lv_aload_n hx hb dX4_ruleTold_91 rfl (lv_at hl 1 rfl) ?_
        obtain ⟨⟨σ_102, c_101, o_103⟩, h_104, hf⟩ := bd_e hf
        obtain ⟨c_105, hf, hc_106⟩ := addc_e hf
        refine y_callM X hW pdOk_2 (w_t_clauseHere l had (fr := 70) (lo := 2300) (by decide) h_104) (lw_V q649 q651 qs17 q127 q652) ⟨rfl, by decide, by decide, by decide +kernel⟩ (nA := 0) (by omega) hl rfl rfl (Nat.le_of_ble_eq_true rfl) (by omega) dX4_ruleTold_92 (fun ho H locs q9 ce hW hc1 hc2 hc3 => by subst ho; exact y_out X hex hW (thy_n hf) (by omega) hc1 hc2 hc3) (fun φ_107 a_108 nd_110 ho H locs hW hN_109 => ?_)
        subst ho
        replace hf := thy_s hf
        replace hN_109 := RC.r (n := n) (nd := nd) hN_109
        replace hF := fun i q h => (hF i q h).imp fun b hb => And.intro hb.1 (RC.l (c := c_101) (nd1 := nd_110) hb.2)
        generalize nda n nd nd_110 = nd_111 at hW hN_109 hF
        obtain ⟨h_112, hf⟩ := gd_e hf
        refine y_aast X hW pdOk_2 (b := 19998) (by decide) ha hN_109 h_112 dX4_ruleTold_95 (fun pz_113 H locs ha_114 hk_115 hW => ?_)
        replace hz := (hk_115 19999 (by decide)).trans hz
        clear hk_115
        obtain ⟨hlen, hS_116⟩ := rs_snoc hlen h_112 hF hN_109
        clear hF
        refine lv_aload_n hx hb dX4_ruleTold_96 rfl (lv_at hl 2 rfl) ?_
        refine lv_dup hx hb dX4_ruleTold_97 rfl ?_
        refine y_get X hW pdOk_2 (b := 19999) (j := 1) (N := 2) (by decide) hz rfl in_X5 (by decide) q643 rfl dX4_ruleTold_98 ?_
        refine lv_iconst (v := 1) hx hb dX4_ruleTold_101 (by decide) ?_
        refine lv_iadd hx hb dX4_ruleTold_102 ?_
        refine y_put2 X hW pdOk_2 (b := 19999) (j := 1) (N := 2) (by decide) hz rfl in_X5 tyX5_ok nmX5 (by decide) q643 rfl rfl rfl (by show 1 < 2; decide) dX4_ruleTold_103 (fun pz_117 H locs hz_118 hk_119 hW => ?_)
        replace hz_118 : pz_117 19999 = (a, .inr (5, [.ref ca, .int ((nI rs.length) + 1)])) := hz_118
        replace ha_114 := (hk_119 19998 (by decide)).trans ha_114
        clear hk_119
        refine lv_aload_n hx hb dX4_ruleTold_106 rfl (lv_at hl 1 rfl) ?_
        refine lv_bipush (v := 59) hx hb dX4_ruleTold_107 (by decide) ?_
        obtain ⟨⟨σ_122, r_121⟩, h_120, hf⟩ := bd_e hf
        refine ky_takesSign X hW pdOk_2 had h_120 (by omega) hl (Nat.le_of_ble_eq_true rfl) (by omega) dX4_ruleTold_109 (fun H locs hW => ?_)
        refine lv_if_ne (tgt := 8) hx hb dX4_ruleTold_112 (by decide) (fun c_123 => ?_) (fun c_123 => ?_)
        · replace hf := ine hf c_123
          rw [← rs_len] at hz_118
          exact W.widen (by omega) (by omega) (ih _ _ _ _ _ _ _ _ _ _ _ _ hf (by omega) hW hz_118 ha_114 hlen hS_116 (lv_sub hl [1, 2] rfl))
        · replace hf := ip hf c_123
          refine lv_aload_n hx hb dX4_ruleTold_115 rfl (lv_at hl 1 rfl) ?_
          obtain ⟨⟨σ_126, o_127⟩, h_124, hf⟩ := bd_e hf
          refine ky_ends X hW pdOk_2 had h_124 (by omega) hl (Nat.le_of_ble_eq_true rfl) (by omega) dX4_ruleTold_116 (fun ho H locs q9 ce hW hc1 hc2 hc3 => by subst ho; exact y_out X hex hW (thy_n hf) (by omega) hc1 hc2 hc3) (fun r_125 ho H locs hW => ?_)
          subst ho
          replace hf := thy_s hf
          refine lv_aload_n hx hb dX4_ruleTold_119 rfl (lv_at hl 2 rfl) ?_
          rw [← rs_len] at hz_118
          replace hW := y_commit hW pdOk_2 pdOk_1 (b := 19998) (by decide) (by decide) ha_114
          replace hW := y_commit hW pdOk_1 pdOk_0 (b := 19999) List.mem_cons_self (fun k hk => (List.not_mem_nil hk).elim) hz_118
          exact y_aret X hW (by omega) (RR.of hlen hS_116) hf (by omega) dX4_ruleTold_120
      · replace hf := ine hf c_94
        refine lv_iconst (v := 1) hx hb dX4_ruleTold_53 (by decide) ?_
        refine lv_goto (tgt := 58) hx hb dX4_ruleTold_54 (by decide) ?_
        refine lv_iconst (v := 4) hx hb dX4_ruleTold_58 (by decide) ?_
        refine lv_iload_n hx hb dX4_ruleTold_59 rfl (lv_at hl 0 rfl) ?_
        obtain ⟨⟨σ_130, o_131⟩, h_128, hf⟩ := bd_e hf
        refine ky_demand X hW pdOk_2 had h_128 (by omega) hl (Nat.le_of_ble_eq_true rfl) (by omega) dX4_ruleTold_60 (fun ho H locs q9 ce hW hc1 hc2 hc3 => by subst ho; exact y_out X hex hW (thy_n hf) (by omega) hc1 hc2 hc3) (fun r_129 ho H locs hW => ?_)
        subst ho
        replace hf := thy_s hf
        refine lv_aload_n hx hb dX4_ruleTold_63 rfl (lv_at hl 1 rfl) ?_
        refine lv_dup hx hb dX4_ruleTold_64 rfl ?_
        refine yg_5 X hW dX4_ruleTold_65 ?_
        refine lv_iconst (v := 1) hx hb dX4_ruleTold_68 (by decide) ?_
        refine lv_iadd hx hb dX4_ruleTold_69 ?_
        refine yp_5 X hW dX4_ruleTold_70 (fun H locs hW => ?_)
        refine lv_aload_n hx hb dX4_ruleTold_73 rfl (lv_at hl 1 rfl) ?_
        refine lv_dup hx hb dX4_ruleTold_74 rfl ?_
        refine yg_2 X hW dX4_ruleTold_75 ?_
        refine lv_iconst (v := 5) hx hb dX4_ruleTold_78 (by decide) ?_
        refine lv_iadd hx hb dX4_ruleTold_79 ?_
        obtain ⟨σ_132, e_133, hf⟩ := nmb_e hf
        rw [← e_133] at hW
        clear e_133
        refine yp_2 X hW dX4_ruleTold_80 (fun H locs hW => ?_)
        refine lv_aload_n hx hb dX4_ruleTold_83 rfl (lv_at hl 2 rfl) ?_
        refine y_get X hW pdOk_2 (b := 19999) (j := 0) (N := 2) (by decide) hz rfl in_X5 (by decide) q641 rfl dX4_ruleTold_84 ?_
        refine lv_aload_n hx hb dX4_ruleTold_87 rfl (lv_at hl 2 rfl) ?_
        refine y_get X hW pdOk_2 (b := 19999) (j := 1) (N := 2) (by decide) hz rfl in_X5 (by decide) q643 rfl dX4_ruleTold_88 ?_
        refine lv_aload_n hx hb dX4_ruleTold_91 rfl (lv_at hl 1 rfl) ?_
        obtain ⟨⟨σ_135, c_134, o_136⟩, h_137, hf⟩ := bd_e hf
        obtain ⟨c_138, hf, hc_139⟩ := addc_e hf
        refine y_callM X hW pdOk_2 (w_t_clauseHere l had (fr := 70) (lo := 2300) (by decide) h_137) (lw_V q649 q651 qs17 q127 q652) ⟨rfl, by decide, by decide, by decide +kernel⟩ (nA := 0) (by omega) hl rfl rfl (Nat.le_of_ble_eq_true rfl) (by omega) dX4_ruleTold_92 (fun ho H locs q9 ce hW hc1 hc2 hc3 => by subst ho; exact y_out X hex hW (thy_n hf) (by omega) hc1 hc2 hc3) (fun φ_140 a_141 nd_143 ho H locs hW hN_142 => ?_)
        subst ho
        replace hf := thy_s hf
        replace hN_142 := RC.r (n := n) (nd := nd) hN_142
        replace hF := fun i q h => (hF i q h).imp fun b hb => And.intro hb.1 (RC.l (c := c_134) (nd1 := nd_143) hb.2)
        generalize nda n nd nd_143 = nd_144 at hW hN_142 hF
        obtain ⟨h_145, hf⟩ := gd_e hf
        refine y_aast X hW pdOk_2 (b := 19998) (by decide) ha hN_142 h_145 dX4_ruleTold_95 (fun pz_146 H locs ha_147 hk_148 hW => ?_)
        replace hz := (hk_148 19999 (by decide)).trans hz
        clear hk_148
        obtain ⟨hlen, hS_149⟩ := rs_snoc hlen h_145 hF hN_142
        clear hF
        refine lv_aload_n hx hb dX4_ruleTold_96 rfl (lv_at hl 2 rfl) ?_
        refine lv_dup hx hb dX4_ruleTold_97 rfl ?_
        refine y_get X hW pdOk_2 (b := 19999) (j := 1) (N := 2) (by decide) hz rfl in_X5 (by decide) q643 rfl dX4_ruleTold_98 ?_
        refine lv_iconst (v := 1) hx hb dX4_ruleTold_101 (by decide) ?_
        refine lv_iadd hx hb dX4_ruleTold_102 ?_
        refine y_put2 X hW pdOk_2 (b := 19999) (j := 1) (N := 2) (by decide) hz rfl in_X5 tyX5_ok nmX5 (by decide) q643 rfl rfl rfl (by show 1 < 2; decide) dX4_ruleTold_103 (fun pz_150 H locs hz_151 hk_152 hW => ?_)
        replace hz_151 : pz_150 19999 = (a, .inr (5, [.ref ca, .int ((nI rs.length) + 1)])) := hz_151
        replace ha_147 := (hk_152 19998 (by decide)).trans ha_147
        clear hk_152
        refine lv_aload_n hx hb dX4_ruleTold_106 rfl (lv_at hl 1 rfl) ?_
        refine lv_bipush (v := 59) hx hb dX4_ruleTold_107 (by decide) ?_
        obtain ⟨⟨σ_155, r_154⟩, h_153, hf⟩ := bd_e hf
        refine ky_takesSign X hW pdOk_2 had h_153 (by omega) hl (Nat.le_of_ble_eq_true rfl) (by omega) dX4_ruleTold_109 (fun H locs hW => ?_)
        refine lv_if_ne (tgt := 8) hx hb dX4_ruleTold_112 (by decide) (fun c_156 => ?_) (fun c_156 => ?_)
        · replace hf := ine hf c_156
          rw [← rs_len] at hz_151
          exact W.widen (by omega) (by omega) (ih _ _ _ _ _ _ _ _ _ _ _ _ hf (by omega) hW hz_151 ha_147 hlen hS_149 (lv_sub hl [1, 2] rfl))
        · replace hf := ip hf c_156
          refine lv_aload_n hx hb dX4_ruleTold_115 rfl (lv_at hl 1 rfl) ?_
          obtain ⟨⟨σ_159, o_160⟩, h_157, hf⟩ := bd_e hf
          refine ky_ends X hW pdOk_2 had h_157 (by omega) hl (Nat.le_of_ble_eq_true rfl) (by omega) dX4_ruleTold_116 (fun ho H locs q9 ce hW hc1 hc2 hc3 => by subst ho; exact y_out X hex hW (thy_n hf) (by omega) hc1 hc2 hc3) (fun r_158 ho H locs hW => ?_)
          subst ho
          replace hf := thy_s hf
          refine lv_aload_n hx hb dX4_ruleTold_119 rfl (lv_at hl 2 rfl) ?_
          rw [← rs_len] at hz_151
          replace hW := y_commit hW pdOk_2 pdOk_1 (b := 19998) (by decide) (by decide) ha_147
          replace hW := y_commit hW pdOk_1 pdOk_0 (b := 19999) List.mem_cons_self (fun k hk => (List.not_mem_nil hk).elim) hz_151
          exact y_aret X hW (by omega) (RR.of hlen hS_149) hf (by omega) dX4_ruleTold_120
noncomputable def t_ruleTold (σ : cS) : Option (cS × Nat × Option (RS)) :=
  addc 1 (addc 1 (t_ruleTold_8 FU σ []))
set_option maxHeartbeats 4000000 in
theorem wb_t_ruleTold {p : Program} {l : Launch} {e : Env} {s : State} {m : MethodId} {args : Array Value} {below : List Frame} {meth : Method} {c : Code} {g : gG} {ad : Nat → Nat} {q : xR} {fr lo : Nat} (X : MX p s m args meth c cX4_ruleTold 3 RX4 (some (.object "DoughBorder$Rule")) g (wA tIds ad s.heap.size)) (had : tI_ ad) (hex : ∀ x ∈ c.exceptionTable.toList, False) {σ σr : cS} {cnt : Nat} {o : Option (RS)} (hfr : 72 ≤ fr ∧ 2400 ≤ lo) {H : Heap} {locs : List Loc} {ls : Array Slot} (hW : WBY g (wA tIds ad s.heap.size) s.heap ad q σ [] z0 0 z0 H locs) (hl : lv_has ls 3 [(0, .ref (ad 997))]) (hf : t_ruleTold σ = some (σr, cnt, o)) : W p l e (rmy fr lo cnt) s m args below meth c H locs 0 (12 * 0) (QY below g ad q σr cnt (RR g) o args s s.heap.size) (F0 m 0 ls []) := by
  have hx := X.1.1
  have hb := X.1.2.1
  obtain ⟨cnt0, hcnt⟩ : ∃ x, x = cnt := ⟨_, rfl⟩
  unfold t_ruleTold at hf
  obtain ⟨c_1, hf, hc_2⟩ := addc_e hf
  refine y_new X hW (T := TX5) in_X5 tyX5 tyX5_ok q632 q633 q133 (ci := 5) rfl (fs := [.null, .int 0]) (fun j hj => by rcases (show j = 0 ∨ j = 1 by omega) with rfl | rfl <;> rfl) (by decide) (by omega) dX4_ruleTold_0 (fun pz_3 H hz_4 hW => ?_)
  obtain ⟨a_6, hz_5⟩ : ∃ a, pz_3 19999 = (a, .inr (5, [.null, .int 0])) := ⟨(pz_3 19999).1, by rw [← hz_4]⟩
  rw [show (pz_3 19999).1 = a_6 by rw [hz_5]]
  clear hz_4
  refine lv_dup hx hb dX4_ruleTold_3 rfl ?_
  obtain ⟨c_7, hf, hc_8⟩ := addc_e hf
  refine y_initR X hW hz_5 (by omega) hl (Nat.le_of_ble_eq_true rfl) (by omega) dX4_ruleTold_4 (fun pz_9 ca_10 H locs hz_5 ha_11 hW => ?_)
  refine lv_astore_n (lv' := [(1, .ref a_6), (0, .ref (ad 997))]) hx hb dX4_ruleTold_7 rfl hl (by decide) rfl (fun ls hl => ?_)
  exact W.widen (by omega) (by omega) (wt_ruleTold_8 X had hex hfr _ _ _ _ _ _ _ _ _ _ _ _ _ hf (by omega) hW hz_5 ha_11 (Nat.zero_le _) (fun i q h => by cases h) (lv_sub hl [1, 0] rfl))
theorem w_t_ruleTold (l : Launch) {g : gG} {ad : Nat → Nat} {q : xR} (had : tI_ ad) {fr lo : Nat} {σ σr : cS} {cnt : Nat} {o : Option (RS)} (hfr : 72 ≤ fr ∧ 2400 ≤ lo) (hf : t_ruleTold σ = some (σr, cnt, o)) : MY l yX4_ruleTold cX4_ruleTold 3 (some (.object "DoughBorder$Rule")) fr lo g ad q σ σr cnt [.ref (ad 997)] (RR g) o :=
  MY.of (by decide) had (Nat.le_of_ble_eq_true rfl) (fun p e s m below meth c ls X hex hW hl => wb_t_ruleTold X had hex hfr hW hl hf)
