/-! helpers for DoughBorder.strip, rule: a Text made on top of the class's world, calls that throw with cells made -/
set_option maxRecDepth 100000
theorem WB.grow {g : gG} {A : Nat → Prop} {H0 H H1 : Heap} {ids : List Nat} {ad : Nat → Nat} {E : Nat → va_E} {locs : List Loc} {b a : Nat} {x : va_E} (hW : WB g A H0 ids ad E H locs) (hb : b ∉ ids) (hP : va_P g.1 clG (wl ids ad E ++ [(a, x)]) H1) (hD : va_D A (wl ids ad E ++ [(a, x)])) (hS : va_S A H0 H1 locs) : WB g A H0 (b :: ids) (va_up ad b a) (va_up E b x) H1 locs := by
  have old : ∀ k ∈ ids, va_up ad b a k = ad k ∧ va_up E b x k = E k := fun k hk => by
    have : k ≠ b := fun e => hb (e ▸ hk)
    simp [va_up, this]
  have nw : va_up ad b a b = a ∧ va_up E b x b = x := by simp [va_up]
  have far : ∀ k ∈ ids, ad k ≠ a := by
    intro k hk e
    obtain ⟨j, -, hj⟩ := wl_i (ad := ad) (E := E) hk
    have hlt := (List.getElem?_eq_some_iff.mp hj).1
    have := hD.1 j (wl ids ad E).length _ (a, x) (by rw [List.getElem?_append_left hlt]; exact hj) (by rw [List.getElem?_append_right (Nat.le_refl _), Nat.sub_self]; rfl) e
    omega
  obtain ⟨h1, h2⟩ := wl_app1 (ids' := b :: ids) (ad' := va_up ad b a) (E' := va_up E b x) hP hD (fun k hk => by
    rcases List.mem_cons.mp hk with rfl | hk
    · exact Or.inl (by rw [nw.1, nw.2])
    · exact Or.inr ⟨k, hk, by rw [(old k hk).1, (old k hk).2]⟩) (fun i hi j hj e => by
    rcases List.mem_cons.mp hi with h1 | h1 <;> rcases List.mem_cons.mp hj with h2 | h2
    · rw [h1, h2]
    · rw [h1, nw.1, (old j h2).1] at e; exact absurd e.symm (far j h2)
    · rw [h2, nw.1, (old i h1).1] at e; exact absurd e (far i h1)
    · rw [(old i h1).1, (old j h2).1] at e; exact hW.2.1.2.1 i j h1 h2 e)
  exact ⟨h1, ⟨List.nodup_cons.mpr ⟨hb, hW.2.1.1⟩, h2⟩, hS⟩
section CT
variable {p : Program} {l : Launch} {e : Env} {R : Room} {s : State} {m : MethodId} {args : Array Value} {below : List Frame} {meth : Method} {c : Code} {H : Heap} {locs : List Loc} {cells slots : Nat} {Q : State → Prop}
variable {cc : ByteArray} {nL : Nat} {own : String} {ret : Option FieldType} {g : gG} {A : Nat → Prop} {ids : List Nat} {ad : Nat → Nat} {q : xR} {σ : cS} {pc : Nat} {ls : Array Slot} {rest : List Value} {lv : List (Nat × Value)}
theorem xIds_990 : ∀ k ∈ xIds, k < 990 ∨ 997 ≤ k := by decide +kernel
/-- new Text, its constructor: behind it a Text lies on top of the class's world -/
theorem x_newT (X : MX p s m args meth c cc nL RX0 ret g A) (hW : WB g A s.heap xIds ad (xE g ad q σ) H locs) (hcs : cells + 1 ≤ R.cells ∧ slots + 7 ≤ R.slots) (hdg : decode cc pc = .ok (.new 137, 3))
    (kk : ∀ (a : Nat) (H1 : Heap), WB g A s.heap xtIds (va_up ad 997 a) (tE g (va_up ad 997 a) q σ tF0) H1 locs → W p l e R s m args below meth c H1 locs (cells + 1) (slots + 7) Q (F0 m (pc + 3) ls (.ref a :: rest))) : W p l e R s m args below meth c H locs cells slots Q (F0 m pc ls rest) := by
  refine va_new (ci := 4) (fs := tF0) (C := RX4) (T := TX4) (N := 7) X.1.1 X.1.2.1 X.1.2.2.2.2 in_X4 tyX4 tyX4_ok X.1.2.2.2.1 (X.1.2.2.2.2 _ q468) (X.1.2.2.2.2 _ q469) (X.1.2.2.2.2 _ q127) X.2.2.2.1.1 hW.1 hW.D hW.2.2 X.2.2.2.2.2 rfl (fun j hj => by rcases (show j = 0 ∨ j = 1 ∨ j = 2 ∨ j = 3 ∨ j = 4 ∨ j = 5 ∨ j = 6 by omega) with rfl | rfl | rfl | rfl | rfl | rfl | rfl <;> rfl) hcs.1 hcs.2 hdg (fun a H1 hP hD hS => ?_)
  have h := WB.grow hW (b := 997) (fun h => xIds_997 _ h rfl) hP hD hS
  refine kk a H1 (h.e (fun k hk => ?_))
  rcases List.mem_cons.mp hk with rfl | hk
  · simp [tE, va_up]
  · have hne := xIds_997 k hk
    unfold tE
    rw [if_neg hne, xE_997 (xIds_990 k hk)]
    simp [va_up, hne]
theorem x_initT (X : MX p s m args meth c cc nL RX0 ret g A) (hW : WB g A s.heap xtIds ad (tE g ad q σ tF0) H locs) (hR : 3 ≤ R.frames ∧ 81 ≤ R.locals) (hls : lv_has ls nL lv) (hcat : (rest.map fun v => v.category).sum ≤ 8) (hcs : cells ≤ R.cells ∧ slots ≤ R.slots) (hdg : decode cc pc = .ok (.invokespecial 139, 3))
    (kk : ∀ (H1 : Heap) (l1 : List Loc), WB g A s.heap xtIds ad (xE g ad q (clT σ)) H1 l1 → W p l e R s m args below meth c H1 l1 cells slots Q (F0 m (pc + 3) ls rest)) : W p l e R s m args below meth c H locs cells slots Q (F0 m pc ls (.ref (ad 999) :: .ref (ad 997) :: rest)) := by
  have hsub : ∀ k ∈ [997, 999], k ∈ xtIds := by decide +kernel
  have hI : wI (fun _ => True) [997, 999] ad := ⟨fun i j hi hj e => hW.2.1.2.1 i j (hsub i hi) (hsub j hj) e, fun _ _ => trivial⟩
  have hs : Sub xtIds ad (tE g ad q σ tF0) (xE g ad q (clT σ)) [997, 999] ad (tE g ad q σ tF0) (xE g ad q (clT σ)) := by
    refine ⟨fun k hk => ⟨k, hsub k hk, rfl, rfl⟩, fun j hj => ?_⟩
    by_cases h : j ∈ [997, 999]
    · exact Or.inl ⟨j, h, rfl, rfl⟩
    · refine Or.inr ⟨?_, fun k hk e => h ((hW.2.1.2.1 j k hj (hsub k hk) e) ▸ hk)⟩
      have hne : j ≠ 997 := fun e => h (by rw [e]; decide)
      unfold tE
      rw [if_neg hne]
      exact xE_eq (sA_ne j hne).1 (sA_ne j hne).2
  exact r_callIN X hW hs (w_X4_init l hI) q472 q127 q470 q471 rfl ⟨by decide, by decide, by decide +kernel⟩ (n := 1) hR hls rfl rfl hcat hcs hdg kk
/-- the Text is left behind -/
theorem WB.dropT {H0 : Heap} {a : Nat} (hW : WB g A H0 xtIds (va_up ad 997 a) (xE g (va_up ad 997 a) q σ) H locs) : WB g A H0 xIds ad (xE g ad q σ) H locs :=
  hW.perm xIds_nd id (fun k hk => ⟨List.mem_cons_of_mem _ hk, by simp [va_up, xIds_997 k hk], (xE_997 (xIds_990 k hk)).symm⟩) (fun _ _ _ _ e => e)
theorem x_callT {ρ : Type} {rvf : ρ → Option Value} {o : Option ρ} {E : Nat → va_E} (X : MX p s m args meth c cc nL own ret g A) (hW : WB g A s.heap ids ad E H locs) {ids2 : List Nat} {ad2 : Nat → Nat} {E' E2 E2' : Nat → va_E} (hs : Sub ids ad E E' ids2 ad2 E2 E2') {y : MethodName} {bytes : ByteArray} {maxL fr2 lo2 index n ci k0 N : Nat} {ret2 : Option FieldType} {C : String} {T : u_T} {fs : List Value} {As st : List Value}
    (hM : MT l y bytes maxL ret2 fr2 lo2 g ids2 ad2 E2 E2' (.ref (ad k0) :: As) rvf o) (hG : GoodIn lw_all (wsV own index C y (ws_ y bytes maxL ret2))) (hd : y.cls = C ∧ y.cls ≠ "java/lang/invoke/MethodHandle" ∧ y.cls ≠ "java/lang/invoke/VarHandle" ∧ (parseMethodDescriptor y.desc).map (fun d => d.parameters.length) = some n)
    (hk : k0 ∈ ids) (hE : E k0 = .inr (ci, fs)) (hc : clG[ci]? = some (C, T, N)) (hR : fr2 + 1 ≤ R.frames ∧ 8 + (maxL + 11) + lo2 ≤ R.locals) (hls : lv_has ls nL lv) (hn : As.length = n) (hst : st = As.reverse ++ .ref (ad k0) :: rest) (hcat : (rest.map fun v => v.category).sum ≤ 8) (hcs : cells ≤ R.cells ∧ slots ≤ R.slots) (hdg : decode cc pc = .ok (.invokevirtual index, 3))
    (kx : o = none → ∀ (H1 : Heap) (l1 : List Loc) (q9 : Addr) (ce : Cell), WB g A s.heap ids ad E' H1 l1 → H1[q9]? = some ce → ce.vm = .none → s.vm.findClass RX2 = some ce.cls → vx_W p l e R s m args below meth c H1 l1 cells slots Q (F0 m pc ls rest) q9)
    (kk : ∀ r : ρ, o = some r → ∀ (H1 : Heap) (l1 : List Loc), WB g A s.heap ids ad E' H1 l1 → W p l e R s m args below meth c H1 l1 cells slots Q (F0 m (pc + 3) ls ((rvf r).toList ++ rest))) : W p l e R s m args below meth c H locs cells slots Q (F0 m pc ls st) := by
  obtain ⟨q0, -, hq⟩ := wl_i (ad := ad) (E := E) hk
  rw [hE] at hq
  have hr := vx_runV (R := R) (e := e) (below := below) (meth := meth) (locs := locs) X.1 (hM H.size) (cwV n X.1.2.2.2.2 hG rfl rfl rfl hd hR) ⟨pre_blind, va_recv X.2.2.2.1.1 hW.1 hc hq, fun U hU hWm => ⟨rfl, r_pre X hW hs U hU hWm⟩⟩ (g := F0 m pc ls st) rfl hn hls.1 hst (lv_room hcat) hdg (cells := cells) (slots := slots) hcs
  intro T hT XS
  have hA := hs.adr hW.2.1.2 hW.2.2 X.2.2.2.2.2
  have hS := hW.2.2
  have fin : ∀ (st₀ t T' : State) (L : List Loc), st₀.heap = H → (∀ q ∈ L, wA ids2 ad2 H.size q.base) → T'.heap = t.heap → va_P g.1 clG (wl ids2 ad2 E2') t.heap → va_F (wA ids2 ad2 H.size) st₀ t → WB g A s.heap ids ad E' T'.heap (locs ++ L) := by
    intro st₀ t T' L h0 hL e1 hb hF
    obtain ⟨hz, hk⟩ := hF
    rw [h0] at hz hk
    exact ⟨by rw [e1]; exact hs.join hW.1 hb hk, hW.2.1, Nat.le_trans hS.1 (by rw [e1]; exact hz), fun q h1 h2 => by rw [e1, hk q (Nat.lt_of_lt_of_le h1 hS.1) (fun z => h2 (hA q z))]; exact hS.2.1 q h1 h2, fun q hq => by
      rcases List.mem_append.mp hq with h | h
      · exact hS.2.2 q h
      · exact hA _ (hL q h)⟩
  rcases hr T hT XS with ⟨v, st₀, t, T', L, h0, X', hL, e1, e2, ⟨⟨⟨r, ho, hv⟩, hb⟩, hF⟩, stp⟩ | ⟨q9, st₀, t, T', L, En, ce, h0, X', hL, e1, e2, ⟨rfl, ho, hb, hF⟩, hc1, hc2, hc3, stp⟩
  · cases hv
    obtain ⟨t2, a1, b1⟩ := kk r ho T'.heap (locs ++ L) (fin st₀ t T' L h0 hL e1 hb hF) T' rfl X'
    exact ⟨t2, stp t2 a1, b1⟩
  · obtain ⟨t2, a1, b1⟩ := kx ho T'.heap (locs ++ L) q9 ce (fin st₀ t T' L h0 hL e1 hb hF) (by rw [e1]; exact hc1) hc2 hc3 T' rfl X'
    exact ⟨t2, Steps.trans stp a1, b1⟩
/-- a part by its numbers -/
theorem Sub.part {g : gG} {A : Nat → Prop} {ids ids2 : List Nat} {ad : Nat → Nat} {q : xR} {σ σ' : cS} (hI : wI A ids ad) (hsub : ∀ k ∈ ids2, k ∈ ids) (hσ : ∀ k ∈ ids, k ∉ ids2 → xE g ad q σ' k = xE g ad q σ k) : Sub ids ad (xE g ad q σ) (xE g ad q σ') ids2 ad (xE g ad q σ) (xE g ad q σ') := by
  refine ⟨fun k hk => ⟨k, hsub k hk, rfl, rfl⟩, fun j hj => ?_⟩
  by_cases h : j ∈ ids2
  · exact Or.inl ⟨j, h, rfl, rfl⟩
  · exact Or.inr ⟨hσ j hj h, fun k hk e => h ((hI.1 j k hj (hsub k hk) e) ▸ hk)⟩
end CT
