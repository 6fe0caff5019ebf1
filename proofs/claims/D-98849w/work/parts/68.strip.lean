/-! DoughBorder.strip -/
set_option maxRecDepth 100000
/-- Text's part of the state put back -/
def pbT (σ δ : cS) : cS := (fun k => if k ∈ tIds then δ.1 k else σ.1 k, fun k => if k ∈ tIds then δ.2 k else σ.2 k)
theorem Sub.T {g : gG} {A : Nat → Prop} {ids : List Nat} {ad : Nat → Nat} {q : xR} {σ δ : cS} (hI : wI A ids ad) (hsub : ∀ k ∈ tIds, k ∈ ids) : Sub ids ad (xE g ad q σ) (xE g ad q (pbT σ δ)) tIds ad (xE g ad q σ) (xE g ad q δ) := by
  refine ⟨fun k hk => ⟨k, hsub k hk, rfl, rfl⟩, fun j hj => ?_⟩
  by_cases h : j ∈ tIds
  · exact Or.inl ⟨j, h, rfl, xE_eq (if_pos h) (if_pos h)⟩
  · exact Or.inr ⟨xE_eq (if_neg h) (if_neg h), fun k hk e => h ((hI.1 j k hj (hsub k hk) e) ▸ hk)⟩
noncomputable def x_strip (σ : cS) : Option (cS × Int32) := (t_stripTold (clT σ)).bind fun (σ1, o) => match o with
  | some _ => (d_copies (vw2 (pbT (clT σ) σ1) 1000 8000)).bind fun δ => some (si (si (pb2 (pbT (clT σ) σ1) 1000 8000 δ) 999 0 1) 999 10 0, (si (pb2 (pbT (clT σ) σ1) 1000 8000 δ) 999 0 1).1 1999 2)
  | none => (x_faulted (pbT (clT σ) σ1)).bind fun r => some (si (pbT (clT σ) σ1) 999 10 0, r)
section ST
variable {p : Program} {l : Launch} {e : Env} {R : Room} {s : State} {m : MethodId} {args : Array Value} {below : List Frame} {meth : Method} {c : Code} {H : Heap} {locs : List Loc} {cells slots : Nat} {Q : State → Prop}
variable {cc : ByteArray} {nL : Nat} {own : String} {g : gG} {A : Nat → Prop} {ids : List Nat} {ad : Nat → Nat} {q : xR} {σ : cS} {pc : Nat} {ls : Array Slot} {rest : List Value} {lv : List (Nat × Value)}
theorem xc_iret {XC : String → State → State → Prop} {E E' : Nat → va_E} {v : Int32} (X : MX p s m args meth c cc nL own (some .int) g A) (hW : WB g A s.heap ids ad E H locs) (he : ∀ k ∈ ids, E' k = E k) (hdg : decode cc pc = .ok (.ireturn, 1)) : W p l e R s m args below meth c H locs cells slots (vx_MQ below (Qg (some (.int v)) (fun t => va_P g.1 clG (wl ids ad E') t.heap) A) XC args s cells slots A) (F0 m pc ls [.int v]) :=
  vx_ret (W.iret X.1.1 X.1.2.1 X.2.1 (fun t ht _ => ⟨⟨rfl, by show va_P _ _ _ t.heap; rw [ht, wl_congr he]; exact hW.1⟩, hW.2.2.F ht⟩) hW.2.2.2.2 hdg X.2.2.1)
end ST
set_option maxHeartbeats 4000000 in
theorem wb_x_strip {p : Program} {l : Launch} {e : Env} {s : State} {m : MethodId} {args : Array Value} {below : List Frame} {meth : Method} {c : Code} {H : Heap} {locs : List Loc} {g : gG} {A : Nat → Prop} {ad : Nat → Nat} {q : xR} {σ σr : cS} {r : Int32} {ls : Array Slot} (X : MX p s m args meth c cX0_strip 3 RX0 (some .int) g A) (had : xI_ ad) (hex : c.exceptionTable.toList = tableOf [(0, 30, 33, 42)]) (hW : WB g A s.heap xIds ad (xE g ad q σ) H locs) (hl : lv_has ls 3 [(0, .ref (ad 999))]) (hf : x_strip σ = some (σr, r)) :
    W p l e ({ frames := 40, cells := 1, slots := 7, locals := 2000 } : Room) s m args below meth c H locs 0 0 (vx_MQ below (Qg (some (.int r)) (fun t => va_P g.1 clG (wl xIds ad (xE g ad q σr)) t.heap) A) (fun _ _ _ => False) args s 1 7 A) (F0 m 0 ls []) := by
  have hx := X.1.1
  have hb := X.1.2.1
  unfold x_strip at hf
  obtain ⟨⟨σ1, o⟩, h1, hf⟩ := bd_e hf
  refine lv_aload_n hx hb dX0_strip_0 rfl (lv_at hl 0 rfl) ?_
  refine lv_aload_n hx hb dX0_strip_1 rfl (lv_at hl 0 rfl) ?_
  refine xg_1 X hW xm_999 dX0_strip_2 ?_
  refine x_newT X hW ⟨Nat.le_of_ble_eq_true rfl, Nat.le_of_ble_eq_true rfl⟩ dX0_strip_5 (fun a H hW => ?_)
  refine lv_dup hx hb dX0_strip_8 rfl ?_
  refine lv_aload_n hx hb dX0_strip_9 rfl (lv_at hl 0 rfl) ?_
  refine x_initT X hW ⟨by decide, by decide⟩ hl (Nat.le_of_ble_eq_true rfl) ⟨Nat.le_of_ble_eq_true rfl, Nat.le_of_ble_eq_true rfl⟩ dX0_strip_10 (fun H locs hW => ?_)
  have hadT : tI_ (va_up ad 997 a) := ⟨fun i j hi hj e => hW.2.1.2.1 i j (tIds_xt i hi) (tIds_xt j hj) e, fun _ _ => trivial⟩
  refine x_callT X hW (Sub.T (δ := σ1) hW.2.1.2 tIds_xt) (w_t_stripTold l hadT h1) (lw_V q496 q497 q498 q127 q499) ⟨rfl, by decide, by decide, by decide +kernel⟩ (k0 := 997) (ci := 4) (N := 7) (T := TX4) (by decide +kernel) rfl rfl (n := 0) ⟨by decide, by decide⟩ hl rfl rfl (Nat.le_of_ble_eq_true rfl) ⟨Nat.le_of_ble_eq_true rfl, Nat.le_of_ble_eq_true rfl⟩ dX0_strip_13 (fun ho H locs q9 ce hW hc1 hc2 hc3 => ?_) (fun _ ho H locs hW => ?_)
  · subst ho
    obtain ⟨r9, h2, hf⟩ := bd_e hf
    cases hf
    replace hW := hW.dropT
    refine vx_catch (own := RX0) (name := RX2) (E := RX2) X.1.2.2.2.1 [] ⟨0, 30, 33, 42⟩ [] hex (fun z hz => (List.not_mem_nil hz).elim) (by decide) (by decide) (X.1.2.2.2.2 _ q271) (va_Nw.use rfl (X.2.2.2.1.2.1 _ (nst_in q273 rfl))) hc1 hc2 hc3 ?_
    refine lv_astore_n (lv' := [(2, .ref q9), (0, .ref (ad 999))]) hx hb dX0_strip_33 rfl hl (by decide) rfl (fun ls hl => ?_)
    refine lv_aload_n hx hb dX0_strip_34 rfl (lv_at hl 1 rfl) ?_
    refine r_callV X hW Sub.all (w_x_faulted l had h2) (lw_V q620 q622 qs16 q120 q623) ⟨rfl, by decide, by decide, by decide +kernel⟩ xm_999 rfl rfl (n := 0) ⟨by decide, by decide⟩ hl rfl rfl (Nat.le_of_ble_eq_true rfl) ⟨Nat.le_of_ble_eq_true rfl, Nat.le_of_ble_eq_true rfl⟩ dX0_strip_35 (fun H locs hW => ?_)
    refine lv_istore_n (lv' := [(1, .int r), (2, .ref q9), (0, .ref (ad 999))]) hx hb dX0_strip_38 rfl hl (by decide) rfl (fun ls hl => ?_)
    refine lv_aload_n hx hb dX0_strip_39 rfl (lv_at hl 2 rfl) ?_
    refine lv_iconst (v := 0) hx hb dX0_strip_40 (by decide) ?_
    refine xp_10 X hW xm_999 dX0_strip_41 (fun H locs hW => ?_)
    refine lv_iload_n hx hb dX0_strip_44 rfl (lv_at hl 0 rfl) ?_
    exact xc_iret X hW (fun _ _ => rfl) dX0_strip_45
  · subst ho
    obtain ⟨δ, h2, hf⟩ := bd_e hf
    cases hf
    replace hW := hW.dropT
    refine r_callV X hW (xSub2 (b := 1000) (c := 8000) (by decide) (by decide) (by decide) hW.2.1.2 δ) (w_d_copies l (wI_chunk2 had (by decide) (ch_b (by decide)).1 (ch_b (by decide)).1 (fun k hk => ⟨(ch_in 1000 (by decide)).1 k hk, (ch_in 8000 (by decide)).1 k hk⟩)) h2) (lw_V q619 q501 q502 q121 q503) ⟨rfl, by decide, by decide, by decide +kernel⟩ (k0 := 1999) ((ch_in 1000 (by decide)).1 999 dm_999) rfl rfl (n := 1) ⟨by decide, by decide⟩ hl rfl rfl (Nat.le_of_ble_eq_true rfl) ⟨Nat.le_of_ble_eq_true rfl, Nat.le_of_ble_eq_true rfl⟩ dX0_strip_16 (fun H locs hW => ?_)
    generalize pb2 (pbT (clT σ) σ1) 1000 8000 δ = σ2 at hW ⊢
    refine xp_0s X hW xm_999 dX0_strip_19 (fun H locs hW => ?_)
    refine lv_aload_n hx hb dX0_strip_22 rfl (lv_at hl 0 rfl) ?_
    refine xg_0 X hW xm_999 dX0_strip_23 ?_
    refine xg_1002 X hW (by decide +kernel) dX0_strip_26 ?_
    refine lv_istore_n (lv' := [(1, .int ((si σ2 999 0 1).1 1999 2)), (0, .ref (ad 999))]) hx hb dX0_strip_29 rfl hl (by decide) rfl (fun ls hl => ?_)
    refine lv_goto (tgt := 39) hx hb dX0_strip_30 (by decide) ?_
    refine lv_aload_n hx hb dX0_strip_39 rfl (lv_at hl 1 rfl) ?_
    refine lv_iconst (v := 0) hx hb dX0_strip_40 (by decide) ?_
    refine xp_10 X hW xm_999 dX0_strip_41 (fun H locs hW => ?_)
    refine lv_iload_n hx hb dX0_strip_44 rfl (lv_at hl 0 rfl) ?_
    exact xc_iret X hW (fun _ _ => rfl) dX0_strip_45
/-- what strip does; it throws nothing -/
theorem w_x_strip (l : Launch) {g : gG} {ad : Nat → Nat} {q : xR} (had : xI_ ad) {σ σr : cS} {r : Int32} (hf : x_strip σ = some (σr, r)) : ∀ sz : Nat, vx_Met l yX0_strip (wsW_ yX0_strip cX0_strip 3 (some .int) [(0, 30, 33, 42)]) ({ frames := 40, cells := 1, slots := 7, locals := 2000 } : Room) (va_Pc [.ref (ad 999)] (Pre g xIds ad (xE g ad q σ) sz)) (Qg (some (.int r)) (fun t => va_P g.1 clG (wl xIds ad (xE g ad q σr)) t.heap) (wA xIds ad sz)) (fun _ _ _ => False) 1 7 (wA xIds ad sz) := by
  intro sz
  refine vx_ofWH (cc := cX0_strip) (maxL := 3) (ret := some .int) (hh := [(0, 30, 33, 42)]) (by decide) rfl ?_
  intro p e s m args below meth c s₁ B hml hv
  obtain ⟨rfl, hsz, hP, hK, hF⟩ := hv
  subst hsz
  have hts := atoms_spec (ws := wsW_ yX0_strip cX0_strip 3 (some .int) [(0, 30, 33, 42)]) B.pre
  have hts : ∀ w ∈ lw_all, w.before _ s = true := fun w h => hts w (List.mem_cons_of_mem _ h)
  have hl := lv_entry [.ref (ad 999)] (n := 3) (Nat.le_of_ble_eq_true rfl)
  rw [lg_entry_eq]
  exact wb_x_strip ⟨⟨B.exec, B.bytes, hml, findClass_of_methodNamed B.named, hts⟩, B.returns, B.notSynchronized, hK, hF, fun q h => Or.inr h⟩ had (vx_table (x := yX0_strip) B (hts _ q467)) ⟨hP, ⟨xIds_nd, had.1, fun k hk => Or.inl ⟨k, hk, rfl⟩⟩, va_S.rf⟩ hl hf
