/-! rule trees: their shape in the frozen cells, and what a rule answers -/
set_option maxRecDepth 100000
def vPair (sg : Int32) (x y : Int64) : Int64 := if sg = 43 then x + y else if sg = 45 then x - y else if sg = 42 then x * y else if y = 0 then 0 else if sg = 37 then x - x / y * y else x / y
def vCmp (sg : Int32) (x y : Int64) : Int32 := if sg = 0 then (if x < y then 1 else 0) else if sg = 1 then (if x ≤ y then 1 else 0) else if sg = 2 then (if x = y then 1 else 0) else if sg = 3 then (if y ≤ x then 1 else 0) else (if y < x then 1 else 0)
def vBoth (z x y : Int32) : Int32 := if z = 0 then (if x = 0 then (if y = 0 then 0 else 1) else 1) else (if x = 0 then 0 else (if y = 0 then 0 else 1))
theorem t_pair_eq (φ1 φ2 : Wds → Int64) (sg : Int32) (ws : Wds) : t_pair φ1 φ2 sg ws = some (vPair sg (φ1 ws) (φ2 ws)) := by
  unfold t_pair vPair
  simp only [lg_cmp_eq]
  generalize φ1 ws = x
  generalize φ2 ws = y
  by_cases hy : y = 0
  · subst hy
    simp only [if_true]
    repeat' split
    all_goals first | rfl | (subst_vars; contradiction)
  · have h1 : nzL y = true := by simp [nzL, hy]
    simp only [if_neg hy, h1, gd]
    repeat' split
    all_goals first | rfl | (subst_vars; contradiction)
theorem t_cmp_eq (φ1 φ2 : Wds → Int64) (sg : Int32) (ws : Wds) : t_cmp φ1 φ2 sg ws = some (vCmp sg (φ1 ws) (φ2 ws)) := by
  unfold t_cmp vCmp
  simp only [lg_cmp_eq, lg_cmp_ge, lg_cmp_le, lg_cmp_gt, lg_cmp_lt]
  generalize φ1 ws = x
  generalize φ2 ws = y
  have e1 : (x < y) ↔ ¬ (y ≤ x) := by rw [Int64.lt_iff_toInt_lt, Int64.le_iff_toInt_le]; omega
  have e2 : (y < x) ↔ ¬ (x ≤ y) := by rw [Int64.lt_iff_toInt_lt, Int64.le_iff_toInt_le]; omega
  simp only [e1, e2]
  repeat' split
  all_goals first | rfl | (exfalso; simp_all; done) | simp_all
theorem t_both_eq (τ1 τ2 : Wds → Int32) (z : Int32) (ws : Wds) : t_both τ1 τ2 z ws = some (vBoth z (τ1 ws) (τ2 ws)) := by
  unfold t_both vBoth
  repeat' split
  all_goals rfl
theorem t_not_eq (τ1 : Wds → Int32) (ws : Wds) : t_not τ1 ws = some (if τ1 ws = 0 then 1 else 0) := by
  unfold t_not
  split <;> rfl
def FVal (L : va_W) : Nat → (Wds → Int64) → Nat → Prop
  | 0, _, _ => False
  | d + 1, φ, a => (∃ n : Int64, (a, .inr (7, [.long n])) ∈ L ∧ φ = fun _ => n) ∨ (∃ w : Nat, w < 12 ∧ (a, .inr (8, [.int (nI w)])) ∈ L ∧ φ = fun ws => ws w) ∨ (∃ (φ1 φ2 : Wds → Int64) (sg : Int32) (a1 a2 : Nat), (a, .inr (9, [.ref a1, .ref a2, .int sg])) ∈ L ∧ FVal L d φ1 a1 ∧ FVal L d φ2 a2 ∧ φ = fun ws => vPair sg (φ1 ws) (φ2 ws))
def FTest (L : va_W) : Nat → (Wds → Int32) → Nat → Prop
  | 0, _, _ => False
  | d + 1, τ, a => (∃ (τ1 : Wds → Int32) (a1 : Nat), (a, .inr (10, [.ref a1])) ∈ L ∧ FTest L d τ1 a1 ∧ τ = fun ws => if τ1 ws = 0 then 1 else 0) ∨ (∃ (φ1 φ2 : Wds → Int64) (sg : Int32) (a1 a2 : Nat), (a, .inr (11, [.ref a1, .ref a2, .int sg])) ∈ L ∧ FVal L d φ1 a1 ∧ FVal L d φ2 a2 ∧ τ = fun ws => vCmp sg (φ1 ws) (φ2 ws)) ∨ (∃ (τ1 τ2 : Wds → Int32) (z : Int32) (a1 a2 : Nat), (a, .inr (12, [.ref a1, .ref a2, .int z])) ∈ L ∧ FTest L d τ1 a1 ∧ FTest L d τ2 a2 ∧ τ = fun ws => vBoth z (τ1 ws) (τ2 ws))
theorem fval_of (l : Launch) (g : gG) : ∀ (d : Nat) (φ : Wds → Int64) (a : Nat), FVal g.2.2.2.2 d φ a → OfC l g d φ a := by
  intro d
  induction d with
  | zero => intro φ a h; exact h.elim
  | succ d ih =>
    intro φ a h ad ws
    rcases h with ⟨n, ha, rfl⟩ | ⟨w, hw, ha, rfl⟩ | ⟨φ1, φ2, sg, a1, a2, ha, h1, h2, rfl⟩
    · exact ⟨RX8, yX8_of, cX8_of, 2, 7, 1, TX8, _, ha, rfl, q919, q920, q136, q921, by decide, wt_num l ha rfl⟩
    · refine ⟨RX9, yX9_of, cX9_of, 2, 8, 1, TX9, _, ha, rfl, q928, q926, q137, q927, by decide, wt_word l ha ?_⟩
      unfold t_word
      rw [inb_of (vp_in_nI hw (by decide)), show ix (nI w) = w from nI_clamp (by omega)]
      rfl
    · exact ⟨RX10, yX10_of, cX10_of, 6, 9, 3, TX10, _, ha, rfl, q922, q923, q138, q924, by decide, wt_pair l ha (ih _ _ h1) (ih _ _ h2) (t_pair_eq _ _ _ _)⟩
theorem ftest_is (l : Launch) (g : gG) : ∀ (d : Nat) (τ : Wds → Int32) (a : Nat), FTest g.2.2.2.2 d τ a → IsC l g d τ a := by
  intro d
  induction d with
  | zero => intro φ a h; exact h.elim
  | succ d ih =>
    intro τ a h ad ws
    rcases h with ⟨τ1, a1, ha, h1, rfl⟩ | ⟨φ1, φ2, sg, a1, a2, ha, h1, h2, rfl⟩ | ⟨τ1, τ2, z, a1, a2, ha, h1, h2, rfl⟩
    · exact ⟨RX12, yX12_is, cX12_is, 2, 10, 1, TX12, _, ha, rfl, q933, q929, q140, q930, by decide, wt_not l ha (ih _ _ h1) (t_not_eq _ _)⟩
    · exact ⟨RX13, yX13_is, cX13_is, 6, 11, 3, TX13, _, ha, rfl, q932, q914, q141, q915, by decide, wt_cmp l ha (fval_of l g _ _ _ h1) (fval_of l g _ _ _ h2) (t_cmp_eq _ _ _ _)⟩
    · exact ⟨RX14, yX14_is, cX14_is, 2, 12, 3, TX14, _, ha, rfl, q910, q911, q142, q912, by decide, wt_both l ha (ih _ _ h1) (ih _ _ h2) (t_both_eq _ _ _ _)⟩
/-- what a rule is: its clauses, each a sum and perhaps a test -/
abbrev RS : Type := List ((Wds → Int64) × Option (Wds → Int32))
def lim3 (x : Int64) : Int32 := (jmaxL (-3) (jminL 3 x)).toInt32
def fitq (o : Option (Wds → Int32)) (ws : Wds) : Int32 := match o with
  | none => 1
  | some τ => if τ ws = 0 then 0 else 1
def rfeet : RS → Wds → Int32
  | [], _ => 0
  | q :: r, ws => if fitq q.2 ws = 0 then rfeet r ws else lim3 (q.1 ws)
def FClause (L : va_W) (d : Nat) (q : (Wds → Int64) × Option (Wds → Int32)) (a : Nat) : Prop := ∃ (va : Nat) (ta : Option Nat), (a, .inr (6, [.ref va, va_rf ta])) ∈ L ∧ FVal L d q.1 va ∧ match q.2 with
  | none => ta = none
  | some τ => ∃ t, ta = some t ∧ FTest L d τ t
def FRule (g : gG) (d : Nat) (r : RS) (a : Nat) : Prop := ∃ (ca : Nat) (f : Nat → Option Nat), (a, .inr (5, [.ref ca, .int (nI r.length)])) ∈ g.2.2.2.2 ∧ (ca, .inl (g.2.1 8, 12, .inr (.inr (.inr (.inr f))))) ∈ g.2.2.2.2 ∧ r.length ≤ 12 ∧ ∀ (i : Nat) (q : (Wds → Int64) × Option (Wds → Int32)), r[i]? = some q → ∃ b, f i = some b ∧ FClause g.2.2.2.2 d q b
theorem w_fits (l : Launch) {g : gG} {d a : Nat} {q : (Wds → Int64) × Option (Wds → Int32)} (ha : FClause g.2.2.2.2 d q a) {ad : Nat → Nat} {ws : Wds} : MC l yX6_fits cX6_fits 2 (some .boolean) (d + 2) (100 + 40 * d) g [23] ad (wE g ws) (wE g ws) [.ref a, .ref (ad 23)] (some (.int (fitq q.2 ws))) := by
  obtain ⟨va, ta, ha, h1, h2⟩ := ha
  refine MC.of (by decide) (by decide) wI_23 (Nat.le_of_ble_eq_true rfl) (fun p e s m below meth c A ls X hW hl => ?_)
  have hx := X.1.1
  have hb := X.1.2.1
  have hl : lv_has ls 2 [(0, .ref a), (1, .ref (ad 23))] := hl
  obtain ⟨φ, o⟩ := q
  refine lv_aload_n hx hb dX6_fits_0 rfl (lv_at hl 0 rfl) ?_
  cases o with
  | none =>
    have h2 : ta = none := h2
    subst h2
    refine r_fget X hW ha rfl in_X6 (j := 1) (N := 2) (Nat.le_of_ble_eq_true rfl) q661 rfl dX6_fits_1 ?_
    refine lv_ifnullN (tgt := 18) hx hb dX6_fits_4 (by decide) ?_
    refine lv_iconst (v := 1) hx hb dX6_fits_18 (by decide) ?_
    refine lv_goto (tgt := 23) hx hb dX6_fits_19 (by decide) ?_
    exact r_zret X hW (fun _ _ => rfl) rfl rfl dX6_fits_23
  | some τ =>
    obtain ⟨t, rfl, h3⟩ := h2
    refine r_fget X hW ha rfl in_X6 (j := 1) (N := 2) (Nat.le_of_ble_eq_true rfl) q661 rfl dX6_fits_1 ?_
    refine lv_ifnull (x := t) hx hb dX6_fits_4 ?_
    refine lv_aload_n hx hb dX6_fits_7 rfl (lv_at hl 0 rfl) ?_
    refine r_fget X hW ha rfl in_X6 (j := 1) (N := 2) (Nat.le_of_ble_eq_true rfl) q661 rfl dX6_fits_8 ?_
    refine lv_aload_n hx hb dX6_fits_11 rfl (lv_at hl 1 rfl) ?_
    refine k_is X hW (ftest_is l g d τ t h3) List.mem_cons_self rfl q907 (by show d + 2 ≤ _ ∧ _ ≤ _; constructor <;> simp <;> omega) hl (Nat.le_of_ble_eq_true rfl) dX6_fits_12 (fun H locs hW => ?_)
    refine lv_if_eq (tgt := 22) hx hb dX6_fits_15 (by decide) (fun c_1 => ?_) (fun c_1 => ?_)
    · refine lv_iconst (v := 0) hx hb dX6_fits_22 (by decide) ?_
      exact r_zret X hW (fun _ _ => rfl) (by simp [fitq, c_1]) rfl dX6_fits_23
    · refine lv_iconst (v := 1) hx hb dX6_fits_18 (by decide) ?_
      refine lv_goto (tgt := 23) hx hb dX6_fits_19 (by decide) ?_
      exact r_zret X hW (fun _ _ => rfl) (by simp [fitq, c_1]) rfl dX6_fits_23
theorem wl_feet {p : Program} {l : Launch} {e : Env} {s : State} {m : MethodId} {args : Array Value} {below : List Frame} {meth : Method} {c : Code} {g : gG} {A : Nat → Prop} {ad : Nat → Nat} (X : MX p s m args meth c cX5_feet 3 RX5 (some .int) g A) {d a ca : Nat} {R : RS} {f : Nat → Option Nat} {ws : Wds} {v : Int32} (ha : (a, .inr (5, [.ref ca, .int (nI R.length)])) ∈ g.2.2.2.2) (hca : (ca, .inl (g.2.1 8, 12, .inr (.inr (.inr (.inr f))))) ∈ g.2.2.2.2) (hn : R.length ≤ 12) (hR : ∀ (i : Nat) (q : (Wds → Int64) × Option (Wds → Int32)), R[i]? = some q → ∃ b, f i = some b ∧ FClause g.2.2.2.2 d q b) :
    ∀ (r : RS) (i : Nat) (H : Heap) (locs : List Loc) (ls : Array Slot), R.drop i = r → i + r.length = R.length → rfeet r ws = v → WB g A s.heap [23] ad (wE g ws) H locs → lv_has ls 3 [(2, .int (nI i)), (0, .ref a), (1, .ref (ad 23))] → W p l e (rm_ (d + 3) (200 + 40 * d)) s m args below meth c H locs 0 0 (Qm below g [23] ad (wE g ws) (some (.int v)) A args s) (F0 m 2 ls []) := by
  have hx := X.1.1
  have hb := X.1.2.1
  intro r
  induction r with
  | nil =>
    intro i H locs ls hd hi hv hW hl
    have hi : i = R.length := hi
    refine lv_iload_n hx hb dX5_feet_2 rfl (lv_at hl 0 rfl) ?_
    refine lv_aload_n hx hb dX5_feet_3 rfl (lv_at hl 1 rfl) ?_
    refine r_fget X hW ha rfl in_X5 (j := 1) (N := 2) (Nat.le_of_ble_eq_true rfl) q642 rfl dX5_feet_4 ?_
    refine lv_icmp_ge (tgt := 56) hx hb dX5_feet_7 (by decide) (fun c_1 => ?_) (fun c_1 => ?_)
    · refine lv_iconst (v := 0) hx hb dX5_feet_56 (by decide) ?_
      exact r_iret X hW (fun _ _ => rfl) (by rw [← hv]; rfl) dX5_feet_57
    · exact absurd (nI_le (by omega) (by omega)) c_1
  | cons q r ih =>
    intro i H locs ls hd hi hv hW hl
    have hi : i + (r.length + 1) = R.length := hi
    have hq : R[i]? = some q := by rw [← List.head?_drop, hd]; rfl
    obtain ⟨b, hb1, hb2⟩ := hR i q hq
    have hd2 : R.drop (i + 1) = r := by rw [← List.tail_drop, hd]; rfl
    have hin : inb (nI i) 12 = true := inb_of (vp_in_nI (by omega) (by decide))
    have hix : ix (nI i) = i := nI_clamp (by omega)
    refine lv_iload_n hx hb dX5_feet_2 rfl (lv_at hl 0 rfl) ?_
    refine lv_aload_n hx hb dX5_feet_3 rfl (lv_at hl 1 rfl) ?_
    refine r_fget X hW ha rfl in_X5 (j := 1) (N := 2) (Nat.le_of_ble_eq_true rfl) q642 rfl dX5_feet_4 ?_
    refine lv_icmp_ge (tgt := 56) hx hb dX5_feet_7 (by decide) (fun c_1 => absurd c_1 (nI_ge (by omega) (by omega))) (fun c_1 => ?_)
    refine lv_aload_n hx hb dX5_feet_10 rfl (lv_at hl 1 rfl) ?_
    refine r_fget X hW ha rfl in_X5 (j := 0) (N := 2) (Nat.le_of_ble_eq_true rfl) q640 rfl dX5_feet_11 ?_
    refine lv_iload_n hx hb dX5_feet_14 rfl (lv_at hl 0 rfl) ?_
    refine r_fald X hW (t0 := 8) hca rfl hin dX5_feet_15 ?_
    rw [hix, hb1]
    refine lv_aload_n hx hb dX5_feet_16 rfl (lv_at hl 2 rfl) ?_
    have hb2' := hb2
    obtain ⟨va, ta, hc, hv1, -⟩ := hb2'
    refine r_callVr X hW (Sub.one hW.2.1.2 List.mem_cons_self rfl (E2 := wE g ws) (k2 := 23) rfl) (w_fits l hb2 (ad := fun _ => ad 23)) (lw_V q903 q904 q905 q134 q906) ⟨rfl, by decide, by decide, by decide +kernel⟩ (fz_recv X hW hc rfl) (n := 1) (rest := []) ⟨by show d + 2 + 1 ≤ _; simp, by show 8 + (2 + 11) + (100 + 40 * d) ≤ _; simp; omega⟩ hl rfl rfl (Nat.le_of_ble_eq_true rfl) ⟨Nat.zero_le _, Nat.zero_le _⟩ dX5_feet_17 (fun H locs hW => ?_)
    refine lv_if_eq (tgt := 50) hx hb dX5_feet_20 (by decide) (fun c_2 => ?_) (fun c_2 => ?_)
    · refine lv_iinc (v := nI i + 1) (lv' := [(2, .int (nI i + 1)), (0, .ref a), (1, .ref (ad 23))]) hx hb dX5_feet_50 hl (k := 0) rfl (ii_v _ _ _ (by decide)) (by decide) rfl (fun ls hl => ?_)
      refine lv_goto (tgt := 2) hx hb dX5_feet_53 (by decide) ?_
      rw [nI_1] at hl
      exact ih (i + 1) H locs ls hd2 (by omega) (by rw [← hv, rfeet, if_pos c_2]) hW hl
    · refine lv_ldc2 (v := (-3)) hx hb X.1.2.2.2.1 (X.1.2.2.2.2 _ q934) dX5_feet_23 ?_
      refine lv_ldc2 (v := 3) hx hb X.1.2.2.2.1 (X.1.2.2.2.2 _ q935) dX5_feet_26 ?_
      refine lv_aload_n hx hb dX5_feet_29 rfl (lv_at hl 1 rfl) ?_
      refine r_fget X hW ha rfl in_X5 (j := 0) (N := 2) (Nat.le_of_ble_eq_true rfl) q640 rfl dX5_feet_30 ?_
      refine lv_iload_n hx hb dX5_feet_33 rfl (lv_at hl 0 rfl) ?_
      refine r_fald X hW (t0 := 8) hca rfl hin dX5_feet_34 ?_
      rw [hix, hb1]
      refine r_fgetN X hW hc rfl in_X6 (j := 0) (N := 2) (Nat.le_of_ble_eq_true rfl) q659 rfl dX5_feet_35 ?_
      refine lv_aload_n hx hb dX5_feet_38 rfl (lv_at hl 2 rfl) ?_
      refine k_of X hW (fval_of l g d q.1 va hv1) List.mem_cons_self rfl q936 (by show d + 2 ≤ _ ∧ _ ≤ _; constructor <;> simp <;> omega) hl (Nat.le_of_ble_eq_true rfl) dX5_feet_39 (fun H locs hW => ?_)
      refine r_minL X hl q937 (by show 1 ≤ _ ∧ _ ≤ _; constructor <;> simp <;> omega) (Nat.le_of_ble_eq_true rfl) dX5_feet_42 ?_
      refine r_maxL X hl q940 (by show 1 ≤ _ ∧ _ ≤ _; constructor <;> simp <;> omega) (Nat.le_of_ble_eq_true rfl) dX5_feet_45 ?_
      refine lv_l2i (v := lim3 (q.1 ws)) hx hb dX5_feet_48 rfl ?_
      exact r_iret X hW (fun _ _ => rfl) (by rw [← hv, rfeet, if_neg c_2]) dX5_feet_49
theorem w_feet (l : Launch) {g : gG} {d a : Nat} {R : RS} (ha : FRule g d R a) {ad : Nat → Nat} {ws : Wds} : MC l yX5_feet cX5_feet 3 (some .int) (d + 3) (200 + 40 * d) g [23] ad (wE g ws) (wE g ws) [.ref a, .ref (ad 23)] (some (.int (rfeet R ws))) := by
  obtain ⟨ca, f, h1, h2, h3, h4⟩ := ha
  refine MC.of (by decide) (by decide) wI_23 (Nat.le_of_ble_eq_true rfl) (fun p e s m below meth c A ls X hW hl => ?_)
  have hx := X.1.1
  have hb := X.1.2.1
  have hl : lv_has ls 3 [(0, .ref a), (1, .ref (ad 23))] := hl
  refine lv_iconst (v := 0) hx hb dX5_feet_0 (by decide) ?_
  refine lv_istore_n (lv' := [(2, .int 0), (0, .ref a), (1, .ref (ad 23))]) hx hb dX5_feet_1 rfl hl (by decide) rfl (fun ls hl => ?_)
  exact wl_feet X h1 h2 h3 h4 R 0 _ _ ls rfl (by omega) rfl hW hl
