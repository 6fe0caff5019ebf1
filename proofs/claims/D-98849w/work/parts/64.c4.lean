/-! the constructors of Image, DoughBorder -/
set_option maxRecDepth 100000
def iF0 : List Value := [.null, .int 0, .int 0, .int 0]
/-- an image of its own: block 990 its object, 10000 its Dough -/
def iD (d : Nat → Nat) : Nat → Nat := fun k => if k = 990 then d 990 else d (k - 10000)
set_option maxHeartbeats 4000000 in
theorem w_X15_init (l : Launch) {g : gG} {a : Nat} : MGo (ι := Nat → Nat) l yX15_init cX15_init 1 3 90 16 1072 g a (.inr (13, iF0)) (fun _ => True) (fun d => .inr (13, [.ref (d 999), .int 0, .int 0, .int 0])) (fun d => wl dIds d (dE g d σZ)) := by
  refine MGo.of (by decide) (Nat.le_of_ble_eq_true rfl) (fun p e s m args below meth c ls X hin hW hl => ?_)
  have hx := X.1.1
  have hb := X.1.2.1
  refine lv_aload_n hx hb dX15_init_0 rfl (lv_at hl 0 rfl) ?_
  refine W.objInit hx hb X.1.2.2.2.1 (X.1.2.2.2.2 _ q1122) (X.1.2.2.2.2 _ q152) (X.1.2.2.2.2 _ q153) rfl (by rw [X.1.2.2.1]; exact hl.1) rfl dX15_init_1 (Nat.le_of_ble_eq_true rfl) (Nat.le_of_ble_eq_true rfl) ?_
  refine W.eq (g2 := F0 m 4 ls []) rfl ?_
  refine lv_aload_n hx hb dX15_init_4 rfl (lv_at hl 0 rfl) ?_
  refine l_new X hW (T := TX1) in_X1 tyX1 tyX1_ok q1123 q155 q121 (ci := 1) rfl (fs := dF0) (fun j hj => by rcases (show j = 0 ∨ j = 1 ∨ j = 2 ∨ j = 3 ∨ j = 4 ∨ j = 5 ∨ j = 6 ∨ j = 7 ∨ j = 8 ∨ j = 9 ∨ j = 10 ∨ j = 11 ∨ j = 12 ∨ j = 13 ∨ j = 14 ∨ j = 15 ∨ j = 16 ∨ j = 17 ∨ j = 18 ∨ j = 19 ∨ j = 20 ∨ j = 21 ∨ j = 22 ∨ j = 23 by omega) with rfl | rfl | rfl | rfl | rfl | rfl | rfl | rfl | rfl | rfl | rfl | rfl | rfl | rfl | rfl | rfl | rfl | rfl | rfl | rfl | rfl | rfl | rfl | rfl <;> rfl) ⟨Nat.le_of_ble_eq_true rfl, Nat.le_of_ble_eq_true rfl⟩ dX15_init_5 (fun b_1 H hW => ?_)
  replace hW : LW g (wA [0] (fun _ => a) s.heap.size) s.heap [(a, .inr (13, [.null, .int 0, .int 0, .int 0])), (b_1, .inr (1, dF0))] _ _ := hW
  refine lv_dup hx hb dX15_init_8 rfl ?_
  refine l_callIN X hW 1 rfl (w_X1_init l) q158 q121 q1124 q157 rfl ⟨by decide, by decide, by decide +kernel⟩ (by decide) hl (Nat.le_of_ble_eq_true rfl) ⟨Nat.le_of_ble_eq_true rfl, Nat.le_of_ble_eq_true rfl⟩ dX15_init_9 (fun d_2 H locs hd_3 hW => ?_)
  subst hd_3
  replace hW : LW g (wA [0] (fun _ => a) s.heap.size) s.heap [(a, .inr (13, [.null, .int 0, .int 0, .int 0])), (d_2 999, (dE g d_2 σZ 999)), (d_2 9, dE g d_2 σZ 9), (d_2 10, dE g d_2 σZ 10), (d_2 11, dE g d_2 σZ 11), (d_2 12, dE g d_2 σZ 12), (d_2 13, dE g d_2 σZ 13), (d_2 14, dE g d_2 σZ 14), (d_2 15, dE g d_2 σZ 15), (d_2 16, dE g d_2 σZ 16), (d_2 17, dE g d_2 σZ 17), (d_2 18, dE g d_2 σZ 18), (d_2 19, dE g d_2 σZ 19), (d_2 20, dE g d_2 σZ 20), (d_2 21, dE g d_2 σZ 21), (d_2 22, dE g d_2 σZ 22), (d_2 23, dE g d_2 σZ 23)] _ _ := hW
  refine l_putF X hW hin 0 (ci := 13) (j := 0) (N := 4) rfl rfl in_X15 tyX15_ok nmX15 (Nat.le_of_ble_eq_true rfl) q1125 rfl rfl rfl rfl (Nat.le_of_ble_eq_true rfl) dX15_init_12 (fun H locs hW => ?_)
  replace hW : LW g (wA [0] (fun _ => a) s.heap.size) s.heap [(a, .inr (13, [.ref (d_2 999), .int 0, .int 0, .int 0])), (d_2 999, (dE g d_2 σZ 999)), (d_2 9, dE g d_2 σZ 9), (d_2 10, dE g d_2 σZ 10), (d_2 11, dE g d_2 σZ 11), (d_2 12, dE g d_2 σZ 12), (d_2 13, dE g d_2 σZ 13), (d_2 14, dE g d_2 σZ 14), (d_2 15, dE g d_2 σZ 15), (d_2 16, dE g d_2 σZ 16), (d_2 17, dE g d_2 σZ 17), (d_2 18, dE g d_2 σZ 18), (d_2 19, dE g d_2 σZ 19), (d_2 20, dE g d_2 σZ 20), (d_2 21, dE g d_2 σZ 21), (d_2 22, dE g d_2 σZ 22), (d_2 23, dE g d_2 σZ 23)] _ _ := hW
  exact l_ret X d_2 trivial hW dX15_init_15
