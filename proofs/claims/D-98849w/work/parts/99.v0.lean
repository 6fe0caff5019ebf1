/-! images: their world, image, back -/
set_option maxRecDepth 100000
def imIds (k : Nat) : List Nat := (990 + k) :: ch (10000 + 1000 * k)
def jIds (k : Nat) : List Nat := (990 + k) :: (xIds ++ ch (10000 + 1000 * k))
theorem k4 {P : Nat → Prop} (h : ∀ k ∈ [0, 1, 2, 3], P k) {k : Nat} (hk : k < 4) : P k := h k (by
  have : k = 0 ∨ k = 1 ∨ k = 2 ∨ k = 3 := by omega
  rcases this with rfl | rfl | rfl | rfl <;> decide)
theorem jI_nd {k : Nat} (hk : k < 4) : (jIds k).Nodup := k4 (P := fun k => (jIds k).Nodup) (by decide +kernel) hk
theorem jI_x {k j : Nat} (h : j ∈ xIds) : j ∈ jIds k := List.mem_cons_of_mem _ (List.mem_append_left _ h)
theorem jI_i {k : Nat} : 990 + k ∈ jIds k := List.mem_cons_self
theorem jI_c {k j : Nat} (h : j ∈ ch (10000 + 1000 * k)) : j ∈ jIds k := List.mem_cons_of_mem _ (List.mem_append_right _ h)
theorem jI_of {k j : Nat} (h : j ∈ jIds k) : j = 990 + k ∨ j ∈ xIds ∨ j ∈ ch (10000 + 1000 * k) := by
  rcases List.mem_cons.mp h with h | h
  · exact Or.inl h
  · exact Or.inr (List.mem_append.mp h)
theorem xI_bd : ∀ k ∈ xIds, (k < 990 ∨ 997 ≤ k) ∧ k < 10000 := by decide +kernel
theorem jch_im {k : Nat} (hk : k < 4) : (∀ j ∈ dIds, 10000 + 1000 * k + j ∈ jIds k) ∧ (∀ j ∈ jIds k, 10000 + 1000 * k ≤ j → j < 10000 + 1000 * k + 1000 → j - (10000 + 1000 * k) ∈ dIds) := by
  refine ⟨fun j hj => jI_c (List.mem_map.mpr ⟨j, hj, rfl⟩), fun j hj h1 h2 => ?_⟩
  rcases jI_of hj with e | e | e
  · omega
  · have := (xI_bd j e).2; omega
  · exact (ch_at e).2.2
theorem jch_x {k b : Nat} (hk : k < 4) (hb : b ∈ [1000, 2000, 3000, 4000, 5000, 6000, 7000, 8000, 9000]) : (∀ j ∈ dIds, b + j ∈ jIds k) ∧ (∀ j ∈ jIds k, b ≤ j → j < b + 1000 → j - b ∈ dIds) := by
  have h9 : b ≤ 9000 ∧ 1000 ≤ b := by
    have h : ∀ b ∈ [1000, 2000, 3000, 4000, 5000, 6000, 7000, 8000, 9000], b ≤ 9000 ∧ 1000 ≤ b := by decide
    exact h b hb
  refine ⟨fun j hj => jI_x ((ch_in b hb).1 j hj), fun j hj h1 h2 => ?_⟩
  rcases jI_of hj with e | e | e
  · omega
  · exact (ch_in b hb).2 j e h1 h2
  · have := (ch_at e).1; omega
theorem xE_im {g : gG} {ad : Nat → Nat} {q : xR} {σ : cS} {k : Nat} (hk : k < 4) : xE g ad q σ (990 + k) = .inr (13, imF ad σ (990 + k)) := by
  have : k = 0 ∨ k = 1 ∨ k = 2 ∨ k = 3 := by omega
  rcases this with rfl | rfl | rfl | rfl <;> rfl
theorem imF_e {ad : Nat → Nat} {σ : cS} {k : Nat} (hk : k < 4) : imF ad σ (990 + k) = [.ref (ad (10000 + 1000 * k + 999)), .int (σ.1 (990 + k) 1), .int (σ.1 (990 + k) 2), .int (σ.1 (990 + k) 3)] := by
  unfold imF
  rw [show 1000 * (990 + k - 980) + 999 = 10000 + 1000 * k + 999 by omega]
section IM
variable {p : Program} {l : Launch} {e : Env} {R : Room} {s : State} {m : MethodId} {args : Array Value} {below : List Frame} {meth : Method} {c : Code} {H : Heap} {locs : List Loc} {cells slots : Nat} {Q : State → Prop}
variable {cc : ByteArray} {nL : Nat} {ret : Option FieldType} {g : gG} {A : Nat → Prop} {ids : List Nat} {ad : Nat → Nat} {q : xR} {σ : cS} {pc k : Nat} {ls : Array Slot} {rest : List Value} {lv : List (Nat × Value)}
/-- the image in its place -/
theorem ig_a (X : MX p s m args meth c cc nL RX0 ret g A) (hW : WB g A s.heap ids ad (xE g ad q σ) H locs) (hk : 24 ∈ ids) (h4 : k < 4) {v : Value} (hv : va_rf (q.2 k) = v) (hdg : decode cc pc = .ok (.aaload, 1)) (kk : W p l e R s m args below meth c H locs cells slots Q (F0 m (pc + 1) ls (v :: rest))) : W p l e R s m args below meth c H locs cells slots Q (F0 m pc ls (.int (nI k) :: .ref (ad 24) :: rest)) := by
  refine r_aald X hW (k := 24) (t0 := 7) (n := 4) (cA := g.2.1 7) (C := "DoughBorder$Image") (f := q.2) hk rfl rfl (inbn h4 (by decide)) (v := v) ?_ hdg kk
  rw [ixn (by omega)]
  exact hv
theorem ig_0 (X : MX p s m args meth c cc nL RX0 ret g A) (hW : WB g A s.heap ids ad (xE g ad q σ) H locs) (hk : 990 + k ∈ ids) (h4 : k < 4) (hdg : decode cc pc = .ok (.getfield 381, 3)) (kk : W p l e R s m args below meth c H locs cells slots Q (F0 m (pc + 3) ls (.ref (ad (10000 + 1000 * k + 999)) :: rest))) : W p l e R s m args below meth c H locs cells slots Q (F0 m pc ls (.ref (ad (990 + k)) :: rest)) :=
  r_getN X hW hk (xE_im h4) rfl in_X15 (j := 0) (N := 4) (Nat.le_of_ble_eq_true rfl) q1126 (by rw [imF_e h4]; rfl) hdg kk
theorem ig_1 (X : MX p s m args meth c cc nL RX0 ret g A) (hW : WB g A s.heap ids ad (xE g ad q σ) H locs) (hk : 990 + k ∈ ids) (h4 : k < 4) (hdg : decode cc pc = .ok (.getfield 375, 3)) (kk : W p l e R s m args below meth c H locs cells slots Q (F0 m (pc + 3) ls (.int (σ.1 (990 + k) 1) :: rest))) : W p l e R s m args below meth c H locs cells slots Q (F0 m pc ls (.ref (ad (990 + k)) :: rest)) :=
  r_getN X hW hk (xE_im h4) rfl in_X15 (j := 1) (N := 4) (Nat.le_of_ble_eq_true rfl) q1127 rfl hdg kk
theorem ig_2 (X : MX p s m args meth c cc nL RX0 ret g A) (hW : WB g A s.heap ids ad (xE g ad q σ) H locs) (hk : 990 + k ∈ ids) (h4 : k < 4) (hdg : decode cc pc = .ok (.getfield 379, 3)) (kk : W p l e R s m args below meth c H locs cells slots Q (F0 m (pc + 3) ls (.int (σ.1 (990 + k) 2) :: rest))) : W p l e R s m args below meth c H locs cells slots Q (F0 m pc ls (.ref (ad (990 + k)) :: rest)) :=
  r_getN X hW hk (xE_im h4) rfl in_X15 (j := 2) (N := 4) (Nat.le_of_ble_eq_true rfl) q1128 rfl hdg kk
theorem ig_3 (X : MX p s m args meth c cc nL RX0 ret g A) (hW : WB g A s.heap ids ad (xE g ad q σ) H locs) (hk : 990 + k ∈ ids) (h4 : k < 4) (hdg : decode cc pc = .ok (.getfield 380, 3)) (kk : W p l e R s m args below meth c H locs cells slots Q (F0 m (pc + 3) ls (.int (σ.1 (990 + k) 3) :: rest))) : W p l e R s m args below meth c H locs cells slots Q (F0 m pc ls (.ref (ad (990 + k)) :: rest)) :=
  r_getN X hW hk (xE_im h4) rfl in_X15 (j := 3) (N := 4) (Nat.le_of_ble_eq_true rfl) q1129 rfl hdg kk
theorem imF_s {v : Int32} {i : Nat} (hi : i = 1 ∨ i = 2 ∨ i = 3) : xE g ad q (si σ (990 + k) i v) (990 + k) = .inr (13, (imF ad σ (990 + k)).set i (.int v)) ∨ 4 ≤ k := by
  by_cases h4 : k < 4
  · refine Or.inl ?_
    rw [xE_im h4, imF_e h4, imF_e h4]
    rcases hi with rfl | rfl | rfl
    · rw [si_a, si_p (by decide), si_p (by decide)]; rfl
    · rw [si_a, si_p (by decide), si_p (by decide)]; rfl
    · rw [si_a, si_p (by decide), si_p (by decide)]; rfl
  · exact Or.inr (by omega)
theorem imF_t {v : Int32} {i : Nat} (hi : i = 1 ∨ i = 2 ∨ i = 3) (h4 : k < 4) : xE g ad q (si σ (990 + k) i v) (990 + k) = .inr (13, (imF ad σ (990 + k)).set i (.int v)) := by
  rcases imF_s (g := g) (ad := ad) (q := q) (σ := σ) (k := k) (v := v) hi with h | h
  · exact h
  · omega
theorem ip_1 (X : MX p s m args meth c cc nL RX0 ret g A) (hW : WB g A s.heap ids ad (xE g ad q σ) H locs) (hk : 990 + k ∈ ids) (h4 : k < 4) {v : Int32} (hz : v = 0 ∨ v = 1) (hdg : decode cc pc = .ok (.putfield 375, 3)) (kk : ∀ (H1 : Heap) (l1 : List Loc), WB g A s.heap ids ad (xE g ad q (si σ (990 + k) 1 v)) H1 l1 → W p l e R s m args below meth c H1 l1 cells slots Q (F0 m (pc + 3) ls rest)) : W p l e R s m args below meth c H locs cells slots Q (F0 m pc ls (.int v :: .ref (ad (990 + k)) :: rest)) :=
  r_putN X hW hk (xE_im h4) rfl in_X15 tyX15_ok nmX15 (j := 1) (N := 4) (Nat.le_of_ble_eq_true rfl) q1127 rfl (by rcases hz with rfl | rfl <;> rfl) (by rcases hz with rfl | rfl <;> rfl) (by rw [imF_e h4]; exact Nat.le_of_ble_eq_true rfl) hdg (fun H1 l1 h => kk H1 l1 (h.e fun j _ => xE_up si_ne (imF_t (by omega) h4) j))
theorem ip_2 (X : MX p s m args meth c cc nL RX0 ret g A) (hW : WB g A s.heap ids ad (xE g ad q σ) H locs) (hk : 990 + k ∈ ids) (h4 : k < 4) {v : Int32} (hdg : decode cc pc = .ok (.putfield 379, 3)) (kk : ∀ (H1 : Heap) (l1 : List Loc), WB g A s.heap ids ad (xE g ad q (si σ (990 + k) 2 v)) H1 l1 → W p l e R s m args below meth c H1 l1 cells slots Q (F0 m (pc + 3) ls rest)) : W p l e R s m args below meth c H locs cells slots Q (F0 m pc ls (.int v :: .ref (ad (990 + k)) :: rest)) :=
  r_putN X hW hk (xE_im h4) rfl in_X15 tyX15_ok nmX15 (j := 2) (N := 4) (Nat.le_of_ble_eq_true rfl) q1128 rfl rfl rfl (by rw [imF_e h4]; exact Nat.le_of_ble_eq_true rfl) hdg (fun H1 l1 h => kk H1 l1 (h.e fun j _ => xE_up si_ne (imF_t (by omega) h4) j))
theorem ip_3 (X : MX p s m args meth c cc nL RX0 ret g A) (hW : WB g A s.heap ids ad (xE g ad q σ) H locs) (hk : 990 + k ∈ ids) (h4 : k < 4) {v : Int32} (hdg : decode cc pc = .ok (.putfield 380, 3)) (kk : ∀ (H1 : Heap) (l1 : List Loc), WB g A s.heap ids ad (xE g ad q (si σ (990 + k) 3 v)) H1 l1 → W p l e R s m args below meth c H1 l1 cells slots Q (F0 m (pc + 3) ls rest)) : W p l e R s m args below meth c H locs cells slots Q (F0 m pc ls (.int v :: .ref (ad (990 + k)) :: rest)) :=
  r_putN X hW hk (xE_im h4) rfl in_X15 tyX15_ok nmX15 (j := 3) (N := 4) (Nat.le_of_ble_eq_true rfl) q1129 rfl rfl rfl (by rw [imF_e h4]; exact Nat.le_of_ble_eq_true rfl) hdg (fun H1 l1 h => kk H1 l1 (h.e fun j _ => xE_up si_ne (imF_t (by omega) h4) j))
/-- a Dough takes what another is -/
theorem ik_copies {b b2 : Nat} {δ : cS} (X : MX p s m args meth c cc nL RX0 ret g A) (hW : WB g A s.heap ids ad (xE g ad q σ) H locs) (hbc : b ≠ b2) (hb : b % 1000 = 0 ∧ 1000 ≤ b) (hc : b2 % 1000 = 0 ∧ 1000 ≤ b2) (h1 : (∀ j ∈ dIds, b + j ∈ ids) ∧ (∀ j ∈ ids, b ≤ j → j < b + 1000 → j - b ∈ dIds)) (h2 : (∀ j ∈ dIds, b2 + j ∈ ids) ∧ (∀ j ∈ ids, b2 ≤ j → j < b2 + 1000 → j - b2 ∈ dIds)) (hf : d_copies (vw2 σ b b2) = some δ) (hR : 4 ≤ R.frames ∧ 102 ≤ R.locals) (hl : lv_has ls nL lv) (hcat : (rest.map fun v => v.category).sum ≤ 8) (hcs : cells ≤ R.cells ∧ slots ≤ R.slots) (hdg : decode cc pc = .ok (.invokevirtual 146, 3)) (kk : ∀ (H1 : Heap) (l1 : List Loc), WB g A s.heap ids ad (xE g ad q (pb2 σ b b2 δ)) H1 l1 → W p l e R s m args below meth c H1 l1 cells slots Q (F0 m (pc + 3) ls (.ref (ad (b + 999)) :: rest))) : W p l e R s m args below meth c H locs cells slots Q (F0 m pc ls (.ref (ad (b2 + 999)) :: .ref (ad (b + 999)) :: rest)) := by
  have e1 : ad2_ ad b b2 999 = ad (b + 999) := by simp [ad2_]
  have e2 : ad2_ ad b b2 1999 = ad (b2 + 999) := by simp [ad2_]
  have hE : xE g ad q σ (b + 999) = .inr (1, dF ad σ (b + 999 - 999)) := by
    rw [xE_d (by omega)]
    exact dE_o (by omega)
  have hM := w_d_copies l (g := g) (wI_chunk2 hW.2.1.2 hbc hb.1 hc.1 (fun k hk => ⟨h1.1 k hk, h2.1 k hk⟩)) hf
  rw [e1, e2] at hM
  exact r_callV X hW (Sub.chunk2 hW.2.1.2 hb.1 hc.1 hbc hb.2 hc.2 (fun k hk => ⟨h1.1 k hk, h2.1 k hk⟩) h1.2 h2.2) hM (lw_V q619 q501 q502 q121 q503) ⟨rfl, by decide, by decide, by decide +kernel⟩ (k0 := b + 999) (h1.1 999 dm_999) hE rfl (n := 1) ⟨hR.1, hR.2⟩ hl rfl rfl hcat hcs hdg kk
end IM
theorem pb2_o {σ δ : cS} {b c j : Nat} (hb : 1000 ≤ b) (hc : 1000 ≤ c) (hj : j < 1000) : (pb2 σ b c δ).1 j = σ.1 j := by
  simp only [pb2, pb]
  rw [if_neg (by omega), if_neg (by omega)]
/-- what image does behind the making -/
noncomputable def x_imB (σ : cS) (k : Nat) : Option (cS × Int32) := nmb (si (si (si σ (990 + k) 1 (if σ.1 999 0 = 0 then 0 else 1)) (990 + k) 2 (σ.1 999 6)) (990 + k) 3 (σ.1 999 7)) fun σ3 => if σ.1 999 0 = 0 then some (σ3, 0) else (d_copies (vw2 σ3 (10000 + 1000 * k) 1000)).bind fun δ => some (pb2 σ3 (10000 + 1000 * k) 1000 δ, (pb2 σ3 (10000 + 1000 * k) 1000 δ).1 1999 8)
section IN
variable {p : Program} {l : Launch} {e : Env} {R : Room} {s : State} {m : MethodId} {args : Array Value} {below : List Frame} {meth : Method} {c : Code} {H : Heap} {locs : List Loc} {cells slots : Nat} {Q : State → Prop}
variable {nL : Nat} {g : gG} {A : Nat → Prop} {ad : Nat → Nat} {q : xR} {σ σr : cS} {r : Int32} {pc k : Nat} {ls : Array Slot}
theorem wb_im36 (X : MX p s m args meth c cX0_image 3 RX0 (some .int) g A) (h4 : k < 4) (hq : q.2 k = some (ad (990 + k))) (hR : 4 ≤ R.frames ∧ 102 ≤ R.locals) (hcs : cells ≤ R.cells ∧ slots ≤ R.slots) (hW : WB g A s.heap (jIds k) ad (xE g ad q σ) H locs) (hl : lv_has ls 3 [(0, .ref (ad 999)), (1, .int (nI k))]) (hf : x_imB σ k = some (σr, r))
    (kk : ∀ (H1 : Heap) (l1 : List Loc) (pc : Nat) (ls : Array Slot), decode cX0_image pc = .ok (.ireturn, 1) → WB g A s.heap (jIds k) ad (xE g ad q σr) H1 l1 → W p l e R s m args below meth c H1 l1 cells slots Q (F0 m pc ls [.int r])) : W p l e R s m args below meth c H locs cells slots Q (F0 m 36 ls []) := by
  have hx := X.1.1
  have hb := X.1.2.1
  have m9 : 999 ∈ jIds k := jI_x xm_999
  have m19 : 1999 ∈ jIds k := jI_x (by decide +kernel)
  have m24 : 24 ∈ jIds k := jI_x (by decide +kernel)
  have o9 : ∀ {i : Nat} {v : Int32} {τ : cS}, (si τ (990 + k) i v).1 999 = τ.1 999 := fun {i v τ} => si_o (by omega)
  unfold x_imB at hf
  replace hf : (if σ.1 999 0 = 0 then some ((si (si (si σ (990 + k) 1 (if σ.1 999 0 = 0 then 0 else 1)) (990 + k) 2 (σ.1 999 6)) (990 + k) 3 (σ.1 999 7)), 0) else (d_copies (vw2 (si (si (si σ (990 + k) 1 (if σ.1 999 0 = 0 then 0 else 1)) (990 + k) 2 (σ.1 999 6)) (990 + k) 3 (σ.1 999 7)) (10000 + 1000 * k) 1000)).bind fun δ => some (pb2 (si (si (si σ (990 + k) 1 (if σ.1 999 0 = 0 then 0 else 1)) (990 + k) 2 (σ.1 999 6)) (990 + k) 3 (σ.1 999 7)) (10000 + 1000 * k) 1000 δ, (pb2 (si (si (si σ (990 + k) 1 (if σ.1 999 0 = 0 then 0 else 1)) (990 + k) 2 (σ.1 999 6)) (990 + k) 3 (σ.1 999 7)) (10000 + 1000 * k) 1000 δ).1 1999 8)) = some (σr, r) := hf
  refine lv_aload_n hx hb dX0_image_36 rfl (lv_at hl 0 rfl) ?_
  refine xg_24 X hW m9 dX0_image_37 ?_
  refine lv_iload_n hx hb dX0_image_40 rfl (lv_at hl 1 rfl) ?_
  refine ig_a X hW m24 h4 (v := .ref (ad (990 + k))) (by rw [hq]; rfl) dX0_image_41 ?_
  refine lv_astore_n (lv' := [(2, .ref (ad (990 + k))), (0, .ref (ad 999)), (1, .int (nI k))]) hx hb dX0_image_42 rfl hl (by decide) rfl (fun ls hl => ?_)
  refine lv_aload_n hx hb dX0_image_43 rfl (lv_at hl 0 rfl) ?_
  refine lv_aload_n hx hb dX0_image_44 rfl (lv_at hl 1 rfl) ?_
  -- behind isTold
  have tail : ∀ (H : Heap) (locs : List Loc), WB g A s.heap (jIds k) ad (xE g ad q (si σ (990 + k) 1 (if σ.1 999 0 = 0 then 0 else 1))) H locs → W p l e R s m args below meth c H locs cells slots Q (F0 m 59 ls []) := by
    intro H locs hW
    refine lv_aload_n hx hb dX0_image_59 rfl (lv_at hl 0 rfl) ?_
    refine lv_aload_n hx hb dX0_image_60 rfl (lv_at hl 1 rfl) ?_
    refine xg_6 X hW m9 dX0_image_61 ?_
    rw [o9]
    refine ip_2 X hW jI_i h4 dX0_image_64 (fun H locs hW => ?_)
    refine lv_aload_n hx hb dX0_image_67 rfl (lv_at hl 0 rfl) ?_
    refine lv_aload_n hx hb dX0_image_68 rfl (lv_at hl 1 rfl) ?_
    refine xg_7 X hW m9 dX0_image_69 ?_
    rw [o9, o9]
    refine ip_3 X hW jI_i h4 dX0_image_72 (fun H locs hW => ?_)
    refine lv_aload_n hx hb dX0_image_75 rfl (lv_at hl 1 rfl) ?_
    refine xg_0 X hW m9 dX0_image_76 ?_
    rw [o9, o9, o9]
    by_cases c0 : σ.1 999 0 = 0
    · rw [dn_n c0]
      replace hf := ip hf c0
      cases hf
      refine lv_ifnonnullN hx hb dX0_image_79 ?_
      refine lv_iconst (v := 0) hx hb dX0_image_82 (by decide) ?_
      exact kk H locs 83 ls dX0_image_83 hW
    · rw [dn_s c0]
      replace hf := ine hf c0
      obtain ⟨δ, h1, hf⟩ := bd_e hf
      cases hf
      have c0' : ¬ (si (si (si σ (990 + k) 1 (if σ.1 999 0 = 0 then 0 else 1)) (990 + k) 2 (σ.1 999 6)) (990 + k) 3 (σ.1 999 7)).1 999 0 = 0 := by rw [o9, o9, o9]; exact c0
      refine lv_ifnonnull (x := ad 1999) (tgt := 84) hx hb dX0_image_79 (by decide) ?_
      refine lv_aload_n hx hb dX0_image_84 rfl (lv_at hl 0 rfl) ?_
      refine ig_0 X hW jI_i h4 dX0_image_85 ?_
      refine lv_aload_n hx hb dX0_image_88 rfl (lv_at hl 1 rfl) ?_
      refine xg_0s X hW m9 c0' dX0_image_89 ?_
      refine ik_copies X hW (b := 10000 + 1000 * k) (b2 := 1000) (by omega) (by omega) (by omega) (jch_im h4) (jch_x h4 (by decide)) h1 hR hl (Nat.le_of_ble_eq_true rfl) hcs dX0_image_92 (fun H locs hW => ?_)
      refine lv_pop hx hb dX0_image_95 rfl ?_
      have c0'' : ¬ (pb2 (si (si (si σ (990 + k) 1 (if σ.1 999 0 = 0 then 0 else 1)) (990 + k) 2 (σ.1 999 6)) (990 + k) 3 (σ.1 999 7)) (10000 + 1000 * k) 1000 δ).1 999 0 = 0 := by
        rw [pb2_o (by omega) (by omega) (by omega)]
        exact c0'
      generalize pb2 (si (si (si σ (990 + k) 1 (if σ.1 999 0 = 0 then 0 else 1)) (990 + k) 2 (σ.1 999 6)) (990 + k) 3 (σ.1 999 7)) (10000 + 1000 * k) 1000 δ = σ5 at *
      refine lv_aload_n hx hb dX0_image_96 rfl (lv_at hl 1 rfl) ?_
      refine xg_0s X hW m9 c0'' dX0_image_97 ?_
      refine xg_1008 X hW m19 dX0_image_100 ?_
      exact kk H locs 103 ls dX0_image_103 hW
  refine xg_0 X hW m9 dX0_image_45 ?_
  by_cases c0 : σ.1 999 0 = 0
  · rw [dn_n c0]
    refine lv_ifnullN (tgt := 55) hx hb dX0_image_48 (by decide) ?_
    refine lv_iconst (v := 0) hx hb dX0_image_55 (by decide) ?_
    refine ip_1 X hW jI_i h4 (v := 0) (Or.inl rfl) dX0_image_56 (fun H locs hW => ?_)
    exact tail H locs (by rw [if_pos c0]; exact hW)
  · rw [dn_s c0]
    refine lv_ifnull (x := ad 1999) hx hb dX0_image_48 ?_
    refine lv_iconst (v := 1) hx hb dX0_image_51 (by decide) ?_
    refine lv_goto (tgt := 56) hx hb dX0_image_52 (by decide) ?_
    refine ip_1 X hW jI_i h4 (v := 1) (Or.inr rfl) dX0_image_56 (fun H locs hW => ?_)
    exact tail H locs (by rw [if_neg c0]; exact hW)
/-- image of a place where one was made -/
theorem w_x_imageE (l : Launch) (h4 : k < 4) (had : wI (fun _ => True) (jIds k) ad) (hq : q.2 k = some (ad (990 + k))) (hf : x_imB σ k = some (σr, r)) : MC l yX0_image cX0_image 3 (some .int) 6 200 g (jIds k) ad (xE g ad q σ) (xE g ad q σr) [.ref (ad 999), .int (nI k)] (some (.int r)) := by
  refine MC.of (by decide) (jI_nd h4) had (Nat.le_of_ble_eq_true rfl) (fun p e s m below meth c A ls X hW hl => ?_)
  have hx := X.1.1
  have hb := X.1.2.1
  have hl : lv_has ls 3 [(0, .ref (ad 999)), (1, .int (nI k))] := hl
  generalize ([.ref (ad 999), .int (nI k)] : List Value).toArray = args at X ⊢
  refine lv_iload_n hx hb dX0_image_0 rfl (lv_at hl 1 rfl) ?_
  refine lv_i2l (v := (nI k).toInt64) hx hb dX0_image_1 rfl ?_
  refine lv_lconst (v := 0) hx hb dX0_image_2 (by decide) ?_
  refine lv_ldc2 (v := 3) hx hb X.1.2.2.2.1 (X.1.2.2.2.2 _ q963) dX0_image_3 ?_
  have hin : x_in (nI k).toInt64 0 3 = some 1 := (x_in_eq (nI k) 0 3).trans (congrArg some (ib_1 ⟨nI_pos' (by omega), nI_le (b := 3) (by omega) (by decide)⟩))
  refine kh_in X hW hin (by decide) hl (Nat.le_of_ble_eq_true rfl) dX0_image_6 (fun H locs hW => ?_)
  refine lv_if_ne (tgt := 14) hx hb dX0_image_9 (by decide) (fun c_4 => ?_) (fun c_4 => absurd c_4 (by decide))
  refine lv_aload_n hx hb dX0_image_14 rfl (lv_at hl 0 rfl) ?_
  refine xg_24 X hW (jI_x xm_999) dX0_image_15 ?_
  refine lv_iload_n hx hb dX0_image_18 rfl (lv_at hl 1 rfl) ?_
  refine ig_a X hW (jI_x (by decide +kernel)) h4 (v := .ref (ad (990 + k))) (by rw [hq]; rfl) dX0_image_19 ?_
  refine lv_ifnonnull (x := ad (990 + k)) (tgt := 36) hx hb dX0_image_20 (by decide) ?_
  exact wb_im36 X h4 hq ⟨by decide, by decide⟩ ⟨Nat.le_refl _, Nat.le_refl _⟩ hW hl hf (fun H1 l1 pc ls hdg hW => r_iret X hW (fun _ _ => rfl) rfl hdg)
/-- image where there is no place -/
theorem w_x_imageN (l : Launch) {v : Int32} (had : xI_ ad) (hv : x_in v.toInt64 0 3 = some 0) : MC l yX0_image cX0_image 3 (some .int) 6 200 g xIds ad (xE g ad q σ) (xE g ad q σ) [.ref (ad 999), .int v] (some (.int (-1))) := by
  refine MC.of (by decide) xIds_nd had (Nat.le_of_ble_eq_true rfl) (fun p e s m below meth c A ls X hW hl => ?_)
  have hx := X.1.1
  have hb := X.1.2.1
  have hl : lv_has ls 3 [(0, .ref (ad 999)), (1, .int v)] := hl
  generalize ([.ref (ad 999), .int v] : List Value).toArray = args at X ⊢
  refine lv_iload_n hx hb dX0_image_0 rfl (lv_at hl 1 rfl) ?_
  refine lv_i2l (v := v.toInt64) hx hb dX0_image_1 rfl ?_
  refine lv_lconst (v := 0) hx hb dX0_image_2 (by decide) ?_
  refine lv_ldc2 (v := 3) hx hb X.1.2.2.2.1 (X.1.2.2.2.2 _ q963) dX0_image_3 ?_
  refine kh_in X hW hv (by decide) hl (Nat.le_of_ble_eq_true rfl) dX0_image_6 (fun H locs hW => ?_)
  refine lv_if_ne (tgt := 14) hx hb dX0_image_9 (by decide) (fun c_4 => absurd rfl c_4) (fun c_4 => ?_)
  refine lv_iconst (v := -1) hx hb dX0_image_12 (by decide) ?_
  exact r_iret X hW (fun _ _ => rfl) rfl dX0_image_13
end IN
