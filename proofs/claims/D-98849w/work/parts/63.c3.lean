/-! the constructors of Fault and its superclasses; strings into arrays -/
set_option maxRecDepth 100000
def fF0 : List Value := [.null, .null, .null, .null, .null, .int 0, .int 0, .int 0]
theorem w_J0_init_2 (l : Launch) {g : gG} {ad : Nat → Nat} {st : Nat} : MC l yJ0_init_2 cJ0_init_2 5 none 2 60 g [0] ad (oneE (.inr (2, fF0))) (oneE (.inr (2, [.null, .null, .null, .ref st, .null, .int 0, .int 0, .int 0]))) [.ref (ad 0), .ref st, .null, .int 0, .int 0] none := by
  refine MC.of (by decide) (by decide) wI_0 (Nat.le_of_ble_eq_true rfl) (fun p e s m below meth c A ls X hW hl => ?_)
  have hx := X.1.1
  have hb := X.1.2.1
  have hl : lv_has ls 5 [(0, .ref (ad 0)), (1, .ref st), (2, .null), (3, .int 0), (4, .int 0)] := hl
  generalize ([.ref (ad 0), .ref st, .null, .int 0, .int 0] : List Value).toArray = args at X ⊢
  refine lv_aload_n hx hb dJ0_init_2_0 rfl (lv_at hl 0 rfl) ?_
  refine W.objInit hx hb X.1.2.2.2.1 (X.1.2.2.2.2 _ q296) (X.1.2.2.2.2 _ q152) (X.1.2.2.2.2 _ q153) rfl (by rw [X.1.2.2.1]; exact hl.1) rfl dJ0_init_2_1 (Nat.le_of_ble_eq_true rfl) (Nat.le_of_ble_eq_true rfl) ?_
  refine W.eq (g2 := F0 m 4 ls []) rfl ?_
  refine lv_aload_n hx hb dJ0_init_2_4 rfl (lv_at hl 0 rfl) ?_
  refine lv_aload_n hx hb dJ0_init_2_5 rfl (lv_at hl 0 rfl) ?_
  refine r_put X hW (k := 0) (ci := 2) (j := 0) (N := 8) List.mem_cons_self rfl rfl in_X2 tyX2_ok nmX2 (by decide) q329 rfl rfl rfl (by show 0 < 8; decide) dJ0_init_2_6 (fun H locs hW => ?_)
  replace hW := hW.e (E' := oneE (.inr (2, [.ref (ad 0), .null, .null, .null, .null, .int 0, .int 0, .int 0]))) wone_up
  refine lv_aload_n hx hb dJ0_init_2_9 rfl (lv_at hl 0 rfl) ?_
  obtain ⟨v, hv, hZ⟩ : ∃ v : Value, (v = .null ∨ ∃ t, v = .ref t) ∧ va_Z Bundle.tN "UNASSIGNED_STACK" Bundle.steD v A s s.heap := by
    rcases X.2.2.2.2.1.2.2.2.1.1 with h | ⟨t, h⟩
    · exact ⟨_, Or.inl rfl, h⟩
    · exact ⟨_, Or.inr ⟨t, rfl⟩, h⟩
  refine va_gets hx hb hZ hW.2.2 X.1.2.2.2.1 (X.1.2.2.2.2 _ q297) (fun _ h => h) dJ0_init_2_10 ?_
  refine r_put X hW (k := 0) (ci := 2) (j := 1) (N := 8) List.mem_cons_self rfl rfl in_X2 tyX2_ok nmX2 (by decide) q330 rfl (by rcases hv with rfl | ⟨t, rfl⟩ <;> rfl) (by rcases hv with rfl | ⟨t, rfl⟩ <;> rfl) (by show 1 < 8; decide) dJ0_init_2_13 (fun H locs hW => ?_)
  replace hW := hW.e (E' := oneE (.inr (2, [.ref (ad 0), v, .null, .null, .null, .int 0, .int 0, .int 0]))) wone_up
  refine lv_aload_n hx hb dJ0_init_2_16 rfl (lv_at hl 0 rfl) ?_
  obtain ⟨v2, hv2, hZ2⟩ : ∃ v : Value, (v = .null ∨ ∃ t, v = .ref t) ∧ va_Z Bundle.tN "SUPPRESSED_SENTINEL" Bundle.listD v A s s.heap := by
    rcases X.2.2.2.2.1.2.2.2.2.1.1 with h | ⟨t, h⟩
    · exact ⟨_, Or.inl rfl, h⟩
    · exact ⟨_, Or.inr ⟨t, rfl⟩, h⟩
  refine va_gets hx hb hZ2 hW.2.2 X.1.2.2.2.1 (X.1.2.2.2.2 _ q299) (fun _ h => h) dJ0_init_2_17 ?_
  refine r_put X hW (k := 0) (ci := 2) (j := 2) (N := 8) List.mem_cons_self rfl rfl in_X2 tyX2_ok nmX2 (by decide) q331 rfl (by rcases hv2 with rfl | ⟨t, rfl⟩ <;> rfl) (by rcases hv2 with rfl | ⟨t, rfl⟩ <;> rfl) (by show 2 < 8; decide) dJ0_init_2_20 (fun H locs hW => ?_)
  replace hW := hW.e (E' := oneE (.inr (2, [.ref (ad 0), v, v2, .null, .null, .int 0, .int 0, .int 0]))) wone_up
  refine lv_iload hx hb dJ0_init_2_23 (lv_at hl 4 rfl) ?_
  refine lv_if_eq (tgt := 36) hx hb dJ0_init_2_25 (by decide) (fun _ => ?_) (fun c9 => absurd rfl c9)
  refine lv_aload_n hx hb dJ0_init_2_36 rfl (lv_at hl 0 rfl) ?_
  refine lv_null hx hb dJ0_init_2_37 ?_
  refine r_put X hW (k := 0) (ci := 2) (j := 1) (N := 8) List.mem_cons_self rfl rfl in_X2 tyX2_ok nmX2 (by decide) q330 rfl rfl rfl (by show 1 < 8; decide) dJ0_init_2_38 (fun H locs hW => ?_)
  replace hW := hW.e (E' := oneE (.inr (2, [.ref (ad 0), .null, v2, .null, .null, .int 0, .int 0, .int 0]))) wone_up
  refine lv_aload_n hx hb dJ0_init_2_41 rfl (lv_at hl 0 rfl) ?_
  refine lv_aload_n hx hb dJ0_init_2_42 rfl (lv_at hl 1 rfl) ?_
  refine r_put X hW (k := 0) (ci := 2) (j := 3) (N := 8) List.mem_cons_self rfl rfl in_X2 tyX2_ok nmX2 (by decide) q328 rfl rfl rfl (by show 3 < 8; decide) dJ0_init_2_43 (fun H locs hW => ?_)
  replace hW := hW.e (E' := oneE (.inr (2, [.ref (ad 0), .null, v2, .ref st, .null, .int 0, .int 0, .int 0]))) wone_up
  refine lv_aload_n hx hb dJ0_init_2_46 rfl (lv_at hl 0 rfl) ?_
  refine lv_aload_nN hx hb dJ0_init_2_47 rfl (lv_at hl 2 rfl) ?_
  refine r_put X hW (k := 0) (ci := 2) (j := 0) (N := 8) List.mem_cons_self rfl rfl in_X2 tyX2_ok nmX2 (by decide) q329 rfl rfl rfl (by show 0 < 8; decide) dJ0_init_2_48 (fun H locs hW => ?_)
  replace hW := hW.e (E' := oneE (.inr (2, [.null, .null, v2, .ref st, .null, .int 0, .int 0, .int 0]))) wone_up
  refine lv_iload_n hx hb dJ0_init_2_51 rfl (lv_at hl 3 rfl) ?_
  refine lv_if_ne (tgt := 60) hx hb dJ0_init_2_52 (by decide) (fun c9 => absurd rfl c9) (fun _ => ?_)
  refine lv_aload_n hx hb dJ0_init_2_55 rfl (lv_at hl 0 rfl) ?_
  refine lv_null hx hb dJ0_init_2_56 ?_
  refine r_put X hW (k := 0) (ci := 2) (j := 2) (N := 8) List.mem_cons_self rfl rfl in_X2 tyX2_ok nmX2 (by decide) q331 rfl rfl rfl (by show 2 < 8; decide) dJ0_init_2_57 (fun H locs hW => ?_)
  replace hW := hW.e (E' := oneE (.inr (2, [.null, .null, .null, .ref st, .null, .int 0, .int 0, .int 0]))) wone_up
  exact r_vret X hW (fun _ _ => rfl) rfl dJ0_init_2_60
theorem w_J1_init (l : Launch) {g : gG} {ad : Nat → Nat} {st : Nat} : MC l yJ1_init cJ1_init 5 none 3 100 g [0] ad (oneE (.inr (2, fF0))) (oneE (.inr (2, [.null, .null, .null, .ref st, .null, .int 0, .int 0, .int 0]))) [.ref (ad 0), .ref st, .null, .int 0, .int 0] none := by
  refine MC.of (by decide) (by decide) wI_0 (Nat.le_of_ble_eq_true rfl) (fun p e s m below meth c A ls X hW hl => ?_)
  have hx := X.1.1
  have hb := X.1.2.1
  have hl : lv_has ls 5 [(0, .ref (ad 0)), (1, .ref st), (2, .null), (3, .int 0), (4, .int 0)] := hl
  generalize ([.ref (ad 0), .ref st, .null, .int 0, .int 0] : List Value).toArray = args at X ⊢
  refine lv_aload_n hx hb dJ1_init_0 rfl (lv_at hl 0 rfl) ?_
  refine lv_aload_n hx hb dJ1_init_1 rfl (lv_at hl 1 rfl) ?_
  refine lv_aload_nN hx hb dJ1_init_2 rfl (lv_at hl 2 rfl) ?_
  refine lv_iload_n hx hb dJ1_init_3 rfl (lv_at hl 3 rfl) ?_
  refine lv_iload hx hb dJ1_init_4 (lv_at hl 4 rfl) ?_
  refine r_callI X hW Sub.all (w_J0_init_2 l) q322 q122 q320 q321 rfl ⟨by decide, by decide, by decide +kernel⟩ (n := 4) (rest := []) (by decide) hl rfl rfl (Nat.le_of_ble_eq_true rfl) ⟨Nat.zero_le _, Nat.zero_le _⟩ dJ1_init_6 (fun H locs hW => ?_)
  exact r_vret X hW (fun _ _ => rfl) rfl dJ1_init_9
theorem w_J2_init (l : Launch) {g : gG} {ad : Nat → Nat} {st : Nat} : MC l yJ2_init cJ2_init 5 none 4 140 g [0] ad (oneE (.inr (2, fF0))) (oneE (.inr (2, [.null, .null, .null, .ref st, .null, .int 0, .int 0, .int 0]))) [.ref (ad 0), .ref st, .null, .int 0, .int 0] none := by
  refine MC.of (by decide) (by decide) wI_0 (Nat.le_of_ble_eq_true rfl) (fun p e s m below meth c A ls X hW hl => ?_)
  have hx := X.1.1
  have hb := X.1.2.1
  have hl : lv_has ls 5 [(0, .ref (ad 0)), (1, .ref st), (2, .null), (3, .int 0), (4, .int 0)] := hl
  generalize ([.ref (ad 0), .ref st, .null, .int 0, .int 0] : List Value).toArray = args at X ⊢
  refine lv_aload_n hx hb dJ2_init_0 rfl (lv_at hl 0 rfl) ?_
  refine lv_aload_n hx hb dJ2_init_1 rfl (lv_at hl 1 rfl) ?_
  refine lv_aload_nN hx hb dJ2_init_2 rfl (lv_at hl 2 rfl) ?_
  refine lv_iload_n hx hb dJ2_init_3 rfl (lv_at hl 3 rfl) ?_
  refine lv_iload hx hb dJ2_init_4 (lv_at hl 4 rfl) ?_
  refine r_callI X hW Sub.all (w_J1_init l) q319 q123 q317 q318 rfl ⟨by decide, by decide, by decide +kernel⟩ (n := 4) (rest := []) (by decide) hl rfl rfl (Nat.le_of_ble_eq_true rfl) ⟨Nat.zero_le _, Nat.zero_le _⟩ dJ2_init_6 (fun H locs hW => ?_)
  exact r_vret X hW (fun _ _ => rfl) rfl dJ2_init_9
def fF1 (g : gG) : List Value := [.null, .null, .null, .ref (g.2.2.1 17), .null, .int 0, .int 0, .int 0]
theorem w_X2_init (l : Launch) {g : gG} {a : Nat} : MGo (ι := Unit) l yX2_init cX2_init 1 5 180 0 0 g a (.inr (2, fF0)) (fun _ => True) (fun _ => .inr (2, fF1 g)) (fun _ => []) := by
  refine MGo.of (by decide) (Nat.le_of_ble_eq_true rfl) (fun p e s m args below meth c ls X hin hW hl => ?_)
  have hx := X.1.1
  have hb := X.1.2.1
  have hWB : WB g (wA [0] (fun _ => a) s.heap.size) s.heap [0] (fun _ => a) (oneE (.inr (2, fF0))) s.heap [] := ⟨hW.1, ⟨by decide, wI_0.1, fun k hk => Or.inl ⟨k, hk, rfl⟩⟩, hW.2.2⟩
  refine lv_aload_n hx hb dX2_init_0 rfl (lv_at hl 0 rfl) ?_
  refine va_ldcS hx hb X.1.2.2.2.1 (X.2.2.2.2.1.1 17 _ rfl).1 dX2_init_1 ?_
  refine lv_null hx hb dX2_init_3 ?_
  refine lv_iconst (v := 0) hx hb dX2_init_4 (by decide) ?_
  refine lv_iconst (v := 0) hx hb dX2_init_5 (by decide) ?_
  refine r_callI X hWB Sub.all (w_J2_init l) q316 q124 q314 q315 rfl ⟨by decide, by decide, by decide +kernel⟩ (n := 4) (rest := []) (by decide) hl rfl rfl (Nat.le_of_ble_eq_true rfl) ⟨Nat.zero_le _, Nat.zero_le _⟩ dX2_init_6 (fun H locs hW2 => ?_)
  exact l_ret X () trivial (⟨hW2.1, wl_D (E := oneE (.inr (2, fF1 g))) hW2.2.1.1 hW2.2.1.2, hW2.2.2⟩ : LW g (wA [0] (fun _ => a) s.heap.size) s.heap [(a, .inr (2, fF1 g))] H locs) dX2_init_9
section C3
variable {p : Program} {l : Launch} {e : Env} {R : Room} {s : State} {m : MethodId} {args : Array Value} {below : List Frame} {meth : Method} {c : Code} {H : Heap} {locs : List Loc} {cells slots : Nat} {Q : State → Prop}
variable {cc : ByteArray} {nL : Nat} {own : String} {ret : Option FieldType} {g : gG} {A : Nat → Prop} {ws : va_W} {pc : Nat} {ls : Array Slot} {rest : List Value}
theorem l_aastS (X : MX p s m args meth c cc nL own ret g A) (hW : LW g A s.heap ws H locs) (q0 : Nat) {a n i0 : Nat} {f : Nat → Option Nat} (hi : i0 < 43) (he : ws[q0]? = some (a, .inl (g.2.1 5, n, rr f))) {i : Int32} (hin : inb i n = true) (hdg : decode cc pc = .ok (.aastore, 1))
    (kk : ∀ (H1 : Heap) (l1 : List Loc), LW g A s.heap (ws.set q0 (a, .inl (g.2.1 5, n, rr (va_up f (ix i) (some (g.2.2.1 i0)))))) H1 l1 → W p l e R s m args below meth c H1 l1 cells slots Q (F0 m (pc + 1) ls rest)) : W p l e R s m args below meth c H locs cells slots Q (F0 m pc ls (.ref (g.2.2.1 i0) :: .int i :: .ref a :: rest)) := by
  have hq : ∃ q, stT[i0]? = some q := ⟨_, List.getElem?_eq_getElem (show i0 < stT.length from hi)⟩
  obtain ⟨q, hq⟩ := hq
  obtain ⟨cell, h1, h2, h3, h4⟩ := ((X.2.2.2.2.1.1 i0 q hq).2.1).kept hW.2.2.2.1
  exact vb_astq X.1.1 X.1.2.1 X.2.2.2.1.1 hW.1 hW.2.1 hW.2.2 q0 5 (E := "java/lang/String") (C := "java/lang/String") he rfl ⟨cell, h1, h2, h3⟩ (fun c1 c2 e1 e2 => by
    have := Option.some.inj (e1.symm.trans e2)
    subst this
    have h9 : ∀ n : Nat, s.vm.assignableAux (n + 1) c1 c1 = true := fun n => by simp only [Vm.assignableAux, beq_self_eq_true, Bool.true_or]
    exact h9 255) (inb_in hin) hdg (fun H1 l1 hP hD hS => kk H1 l1 ⟨hP, hD, hS⟩)
theorem LW.arr (hW : LW g A s.heap ws H locs) (q0 : Nat) {a n : Nat} {cA : ClassId} {f f' : Nat → Option Nat} (he : ws[q0]? = some (a, .inl (cA, n, rr f))) (hf : ∀ i, i < n → f i = f' i) : LW g A s.heap (ws.set q0 (a, .inl (cA, n, rr f'))) H locs := by
  have hl0 : q0 < ws.length := (List.getElem?_eq_some_iff.mp he).1
  have hc : vp_cell cA (n, rr f') = vp_cell cA (n, rr f) := by
    show arrV cA n (fun j => va_rf (f' j)) = arrV cA n (fun j => va_rf (f j))
    unfold arrV
    congr 1
    apply Array.ext
    · simp
    · intro j h1 h2
      simp at h1
      simp [hf j h1]
  refine ⟨fun i z hi => ?_, ⟨fun i j p q hi hj e => ?_, fun k q hk => ?_⟩, hW.2.2⟩
  · rw [List.getElem?_set] at hi
    by_cases hq : q0 = i
    · subst hq
      rw [if_pos rfl, if_pos hl0] at hi
      cases hi
      have := hW.1 q0 _ he
      show H[a]? = some (vp_cell cA (n, rr f'))
      rw [hc]
      exact this
    · rw [if_neg hq] at hi
      exact hW.1 i z hi
  all_goals
    have gt : ∀ (i : Nat) (z : Nat × va_E), (ws.set q0 (a, .inl (cA, n, rr f')))[i]? = some z → ∃ z0, ws[i]? = some z0 ∧ z0.1 = z.1 := by
      intro i z hi
      rw [List.getElem?_set] at hi
      by_cases hq : q0 = i
      · subst hq
        rw [if_pos rfl, if_pos hl0] at hi
        cases hi
        exact ⟨_, he, rfl⟩
      · rw [if_neg hq] at hi
        exact ⟨z, hi, rfl⟩
  · obtain ⟨p0, h1, h2⟩ := gt i p hi
    obtain ⟨q1, h3, h4⟩ := gt j q hj
    exact hW.2.1.1 i j p0 q1 h1 h3 (by rw [h2, h4, e])
  · obtain ⟨q1, h1, h2⟩ := gt k q hk
    rw [← h2]
    exact hW.2.1.2 k q1 h1
theorem LW.sel (hW : LW g A s.heap ws H locs) (is : List Nat) {ws' : va_W} (hn : is.Nodup) (hs : is.map (fun i => ws[i]?) = ws'.map some) : LW g A s.heap ws' H locs := by
  have key : ∀ (i : Nat) (z : Nat × va_E), ws'[i]? = some z → ∃ j, is[i]? = some j ∧ ws[j]? = some z := by
    intro i z hi
    have h1 : (ws'.map some)[i]? = some (some z) := by simp [hi]
    rw [← hs, List.getElem?_map, Option.map_eq_some_iff] at h1
    obtain ⟨j, h2, h3⟩ := h1
    exact ⟨j, h2, h3⟩
  refine ⟨fun i z hi => ?_, ⟨fun i j p q hi hj e => ?_, fun k q hk => ?_⟩, hW.2.2⟩
  · obtain ⟨j, -, h⟩ := key i z hi
    exact hW.1 j z h
  · obtain ⟨i2, h1, h2⟩ := key i p hi
    obtain ⟨j2, h3, h4⟩ := key j q hj
    have := hW.2.1.1 i2 j2 p q h2 h4 e
    subst this
    exact (List.getElem?_inj (List.getElem?_eq_some_iff.mp h1).1 hn).mp (h1.trans h3.symm)
  · obtain ⟨j, -, h⟩ := key k q hk
    exact hW.2.1.2 j q h
end C3
