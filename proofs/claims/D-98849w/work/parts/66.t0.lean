/-! Text's constructor -/
set_option maxRecDepth 100000
def tF0 : List Value := [.null, .null, .int 0, .int 0, .int 0, .int 0, .null]
def tE (g : gG) (ad : Nat → Nat) (q : xR) (σ : cS) (fs : List Value) : Nat → va_E := fun k => if k = 997 then .inr (4, fs) else xE g ad q σ k
theorem tE_up {g : gG} {ad : Nat → Nat} {q : xR} {σ : cS} {fs fs' : List Value} : ∀ k ∈ [997, 999], tE g ad q σ fs' k = va_up (tE g ad q σ fs) 997 (.inr (4, fs')) k := by
  intro k hk
  simp only [List.mem_cons, List.not_mem_nil, or_false] at hk
  rcases hk with rfl | rfl <;> rfl
/-- a Text as it is made -/
def clT (σ : cS) : cS := sA σ 997 (fun _ => 0)
theorem w_X4_init (l : Launch) {g : gG} {ad : Nat → Nat} {q : xR} {σ : cS} (had : wI (fun _ => True) [997, 999] ad) : MC l yX4_init cX4_init 2 none 2 60 g [997, 999] ad (tE g ad q σ tF0) (xE g ad q (clT σ)) [.ref (ad 997), .ref (ad 999)] none := by
  refine MC.ofI (by decide) (by decide) had (Nat.le_of_ble_eq_true rfl) (fun p e s m below meth c A ls X hin hW hl => ?_)
  have hx := X.1.1
  have hb := X.1.2.1
  have hl : lv_has ls 2 [(0, .ref (ad 997)), (1, .ref (ad 999))] := hl
  generalize ([.ref (ad 997), .ref (ad 999)] : List Value).toArray = args at X ⊢
  refine lv_aload_n hx hb dX4_init_0 rfl (lv_at hl 0 rfl) ?_
  refine lv_aload_n hx hb dX4_init_1 rfl (lv_at hl 1 rfl) ?_
  refine r_putF X hW hin (k := 997) (ci := 4) (j := 6) (N := 7) (by decide) rfl rfl in_X4 tyX4_ok nmX4 (by decide) q480 rfl rfl rfl rfl (by show 6 < 7; decide) dX4_init_2 (fun H locs hW => ?_)
  replace hW := hW.e (E' := tE g ad q σ [.null, .null, .int 0, .int 0, .int 0, .int 0, .ref (ad 999)]) tE_up
  refine lv_aload_n hx hb dX4_init_5 rfl (lv_at hl 0 rfl) ?_
  refine W.objInit hx hb X.1.2.2.2.1 (X.1.2.2.2.2 _ q473) (X.1.2.2.2.2 _ q152) (X.1.2.2.2.2 _ q153) rfl (by rw [X.1.2.2.1]; exact hl.1) rfl dX4_init_6 (Nat.le_of_ble_eq_true rfl) (Nat.le_of_ble_eq_true rfl) ?_
  refine W.eq (g2 := F0 m 9 ls []) rfl ?_
  refine lv_aload_n hx hb dX4_init_9 rfl (lv_at hl 0 rfl) ?_
  refine lv_aload_n hx hb dX4_init_10 rfl (lv_at hl 0 rfl) ?_
  refine r_get X hW (k := 997) (ci := 4) (by decide) rfl rfl in_X4 (j := 6) (N := 7) (by decide) q480 rfl dX4_init_11 ?_
  refine r_getN X hW (k := 999) (ci := 0) (by decide) rfl rfl in_X0 (j := 13) (N := 25) (by decide) q388 rfl dX4_init_14 ?_
  refine r_putF X hW hin (k := 997) (ci := 4) (j := 0) (N := 7) (by decide) rfl rfl in_X4 tyX4_ok nmX4 (by decide) q474 rfl rfl rfl rfl (by show 0 < 7; decide) dX4_init_17 (fun H locs hW => ?_)
  replace hW := hW.e (E' := tE g ad q σ [.ref (ad 13), .null, .int 0, .int 0, .int 0, .int 0, .ref (ad 999)]) tE_up
  refine lv_aload_n hx hb dX4_init_20 rfl (lv_at hl 0 rfl) ?_
  refine lv_aload_n hx hb dX4_init_21 rfl (lv_at hl 0 rfl) ?_
  refine r_get X hW (k := 997) (ci := 4) (by decide) rfl rfl in_X4 (j := 6) (N := 7) (by decide) q480 rfl dX4_init_22 ?_
  refine r_getN X hW (k := 999) (ci := 0) (by decide) rfl rfl in_X0 (j := 4) (N := 25) (by decide) q372 rfl dX4_init_25 ?_
  refine r_putF X hW hin (k := 997) (ci := 4) (j := 1) (N := 7) (by decide) rfl rfl in_X4 tyX4_ok nmX4 (by decide) q475 rfl rfl rfl rfl (by show 1 < 7; decide) dX4_init_28 (fun H locs hW => ?_)
  replace hW := hW.e (E' := tE g ad q σ [.ref (ad 13), .ref (ad 8999), .int 0, .int 0, .int 0, .int 0, .ref (ad 999)]) tE_up
  refine r_vret X hW (fun k hk => ?_) rfl dX4_init_31
  simp only [List.mem_cons, List.not_mem_nil, or_false] at hk
  rcases hk with rfl | rfl
  · rfl
  · exact xE_eq (sA_ne 999 (by decide)).1 (sA_ne 999 (by decide)).2
/-! the class's world with a Text: block 997 on top -/
def xtIds : List Nat := 997 :: xIds
theorem xtIds_nd : xtIds.Nodup := by decide +kernel
theorem tIds_xt : ∀ k ∈ tIds, k ∈ xtIds := by decide +kernel
theorem xIds_997 : ∀ k ∈ xIds, k ≠ 997 := by decide +kernel
/-- no cell of the class's world holds the address of block 997 -/
theorem xE_997 {g : gG} {ad : Nat → Nat} {q : xR} {σ : cS} {a k : Nat} (hk : k < 990 ∨ 997 ≤ k) : xE g (va_up ad 997 a) q σ k = xE g ad q σ k := by
  have h9 : ∀ j, j ≠ 997 → va_up ad 997 a j = ad j := fun j h => by simp [va_up, h]
  by_cases h1 : 1000 ≤ k
  · rw [xE_d h1, xE_d h1]
    unfold dE
    by_cases h2 : k % 1000 = 999
    · rw [if_pos h2, if_pos h2]
      unfold dF
      rw [h9 _ (by omega), h9 _ (by omega), h9 _ (by omega), h9 _ (by omega), h9 _ (by omega), h9 _ (by omega), h9 _ (by omega), h9 _ (by omega), h9 _ (by omega), h9 _ (by omega), h9 _ (by omega), h9 _ (by omega), h9 _ (by omega), h9 _ (by omega), h9 _ (by omega)]
    · rw [if_neg h2, if_neg h2]
  · rw [xE_o (by omega), xE_o (by omega)]
    unfold oE
    by_cases h2 : k = 999
    · subst h2
      rfl
    rw [if_neg h2, if_neg h2]
    by_cases h3 : k = 998
    · rw [if_pos h3, if_pos h3]
    rw [if_neg h3, if_neg h3]
    by_cases h4 : k = 997
    · rw [if_pos h4, if_pos h4]
      rfl
    rw [if_neg h4, if_neg h4, if_neg (show ¬ 990 ≤ k by omega), if_neg (show ¬ 990 ≤ k by omega)]
    by_cases h5 : k = 9
    · rw [if_pos h5, if_pos h5]
    rw [if_neg h5, if_neg h5]
    by_cases h6 : k = 3
    · rw [if_pos h6, if_pos h6]
      rw [show (fun i => some (va_up ad 997 a (1000 * (i + 3) + 999))) = (fun i => some (ad (1000 * (i + 3) + 999))) from funext fun i => by rw [h9 _ (by omega)]]
    rw [if_neg h6, if_neg h6]
