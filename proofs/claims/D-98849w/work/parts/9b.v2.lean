/-! image: one is made -/
set_option maxRecDepth 100000
def B_ (k : Nat) : Nat := 10000 + 1000 * k
/-- the class's world with an image all zero -/
def im0 (σ : cS) (k : Nat) : cS := (fun j => if j = 990 + k ∨ (10000 + 1000 * k ≤ j ∧ j < 10000 + 1000 * k + 1000) then (fun _ => 0) else σ.1 j, fun j => if j = 990 + k ∨ (10000 + 1000 * k ≤ j ∧ j < 10000 + 1000 * k + 1000) then (fun _ => 0) else σ.2 j)
def adj (k a : Nat) (d ad : Nat → Nat) : Nat → Nat := fun j => if j = 990 + k then a else if 10000 + 1000 * k ≤ j ∧ j < 10000 + 1000 * k + 1000 then d (j - (10000 + 1000 * k)) else ad j
theorem adj_i {k a : Nat} {d ad : Nat → Nat} : adj k a d ad (990 + k) = a := if_pos rfl
theorem adj_c {k a j : Nat} {d ad : Nat → Nat} (hk : k < 4) (hj : j < 1000) : adj k a d ad (10000 + 1000 * k + j) = d j := by
  unfold adj
  rw [if_neg (by omega), if_pos (by omega), show 10000 + 1000 * k + j - (10000 + 1000 * k) = j by omega]
theorem adj_x {k a j : Nat} {d ad : Nat → Nat} (hk : k < 4) (hj : j < 990 ∨ 997 ≤ j) (h2 : j < 10000) : adj k a d ad j = ad j := by
  unfold adj
  rw [if_neg (by omega), if_neg (by omega)]
theorem im0_x {σ : cS} {k j : Nat} (hk : k < 4) (hj : j < 990 ∨ 997 ≤ j) (h2 : j < 10000) : (im0 σ k).1 j = σ.1 j ∧ (im0 σ k).2 j = σ.2 j := by
  unfold im0
  exact ⟨if_neg (by omega), if_neg (by omega)⟩
/-- a cell of the class's world by the addresses that it names -/
theorem xE_adj {g : gG} {ad ad' : Nat → Nat} {q q' : xR} {σ : cS} (h : ∀ j, (j < 990 ∨ 997 ≤ j) → j < 10000 → ad' j = ad j) (hq : q'.1 = q.1) {j : Nat} (hj : j ∈ xIds) (h3 : j ≠ 3) (h24 : j ≠ 24) : xE g ad' q' σ j = xE g ad q σ j := by
  have hb := xI_bd j hj
  unfold xE
  by_cases h1 : 1000 ≤ j
  · rw [if_pos h1, if_pos h1]
    unfold dE
    by_cases h9 : j % 1000 = 999
    · rw [if_pos h9, if_pos h9]
      unfold dF
      rw [h (j - 999 + 9) (by omega) (by omega), h (j - 999 + 10) (by omega) (by omega), h (j - 999 + 11) (by omega) (by omega), h (j - 999 + 12) (by omega) (by omega), h (j - 999 + 13) (by omega) (by omega), h (j - 999 + 14) (by omega) (by omega), h (j - 999 + 15) (by omega) (by omega), h (j - 999 + 16) (by omega) (by omega), h (j - 999 + 17) (by omega) (by omega), h (j - 999 + 18) (by omega) (by omega), h (j - 999 + 19) (by omega) (by omega), h (j - 999 + 20) (by omega) (by omega), h (j - 999 + 21) (by omega) (by omega), h (j - 999 + 22) (by omega) (by omega), h (j - 999 + 23) (by omega) (by omega)]
    · rw [if_neg h9, if_neg h9]
  · rw [if_neg h1, if_neg h1]
    unfold oE
    by_cases a1 : j = 999
    · rw [if_pos a1, if_pos a1]
      unfold xF dn
      rw [h 1999 (by decide) (by decide), h 2999 (by decide) (by decide), h 3 (by decide) (by decide), h 8999 (by decide) (by decide), h 9999 (by decide) (by decide), h 998 (by decide) (by decide), h 9 (by decide) (by decide), h 11 (by decide) (by decide), h 12 (by decide) (by decide), h 13 (by decide) (by decide), h 14 (by decide) (by decide), h 16 (by decide) (by decide), h 17 (by decide) (by decide), h 20 (by decide) (by decide), h 22 (by decide) (by decide), h 24 (by decide) (by decide)]
    · have a3 : j ≠ 997 := xIds_997 j hj
      by_cases a2 : j = 998
      · rw [if_neg a1, if_neg a1, if_pos a2, if_pos a2]
      · have a4 : ¬ 990 ≤ j := by omega
        simp only [if_neg a1, if_neg a2, if_neg a3, if_neg h3, if_neg h24, if_neg a4, hq]
theorem dF_ad {f d : Nat → Nat} {σ : cS} (h : ∀ i, i < 1000 → f i = d i) : dF f σ (999 - 999) = dF d σ (999 - 999) := by
  show dF f σ 0 = dF d σ 0
  unfold dF
  rw [h (0 + 9) (by decide), h (0 + 10) (by decide), h (0 + 11) (by decide), h (0 + 12) (by decide), h (0 + 13) (by decide), h (0 + 14) (by decide), h (0 + 15) (by decide), h (0 + 16) (by decide), h (0 + 17) (by decide), h (0 + 18) (by decide), h (0 + 19) (by decide), h (0 + 20) (by decide), h (0 + 21) (by decide), h (0 + 22) (by decide), h (0 + 23) (by decide)]
theorem va_at_arr {D : va_G} {cl : List vw_C} {a n : Nat} {cA : ClassId} {f f' : Nat → Option Nat} {H : Heap} (h : va_at D cl (a, (.inl (cA, n, rr f) : va_E)) H) (hf : ∀ i, i < n → f i = f' i) : va_at D cl (a, (.inl (cA, n, rr f') : va_E)) H := by
  have hc : vp_cell cA (n, rr f') = vp_cell cA (n, rr f) := by
    show arrV cA n (fun j => va_rf (f' j)) = arrV cA n (fun j => va_rf (f j))
    unfold arrV
    congr 1
    apply Array.ext
    · simp
    · intro j h1 h2
      simp at h1
      simp [hf j h1]
  show H[a]? = some (vp_cell cA (n, rr f'))
  rw [hc]
  exact h
def PIm (g : gG) (ad : Nat → Nat) (q : xR) (σ : cS) (k sz : Nat) (H : Heap) : Prop := ∃ ad' : Nat → Nat, (∀ j, j ≠ 990 + k → ¬ (10000 + 1000 * k ≤ j ∧ j < 10000 + 1000 * k + 1000) → ad' j = ad j) ∧ (∀ j ∈ imIds k, sz ≤ ad' j) ∧ (∀ i j, i ∈ imIds k → j ∈ imIds k → ad' i = ad' j → i = j) ∧ va_P g.1 clG (wl (jIds k) ad' (xE g ad' (q.1, va_up q.2 k (some (ad' (990 + k)))) σ)) H
theorem xI_at : xIds.length = 157 ∧ xIds[2]? = some 3 ∧ xIds[12]? = some 24 := by decide +kernel
theorem xI_ix : ∀ i, i < 157 → ∀ j, xIds[i]? = some j → (j = 3 ↔ i = 2) ∧ (j = 24 ↔ i = 12) := by
  intro i hi j hj
  have key : ∀ n v, xIds[n]? = some v → (j = v ↔ i = n) := by
    intro n v hn
    constructor
    · intro e
      subst e
      exact (List.getElem?_inj (List.getElem?_eq_some_iff.mp hj).1 xIds_nd).mp (hj.trans hn.symm)
    · intro e
      subst e
      exact Option.some.inj (hj.symm.trans hn)
  exact ⟨key 2 3 xI_at.2.1, key 12 24 xI_at.2.2⟩
/-- the list of cells behind the making, as the class's world with its new image -/
theorem im_conv {g : gG} {A : Nat → Prop} {H0 H : Heap} {locs : List Loc} {ad d : Nat → Nat} {q : xR} {σ : cS} {k a : Nat} (h4 : k < 4) (hW : LW g A H0 ((wl xIds ad (xE g ad q σ) ++ ([(a, (.inr (13, [.ref (d 999), .int 0, .int 0, .int 0]) : va_E))] ++ wl dIds d (dE g d σZ))).set 12 (ad 24, (.inl (g.2.1 7, 4, rr (va_up q.2 k (some a))) : va_E))) H locs) : WB g A H0 (jIds k) (adj k a d ad) (xE g (adj k a d ad) (q.1, va_up q.2 k (some a)) (im0 σ k)) H locs := by
  obtain ⟨hP, hD, hS⟩ := hW
  have hlen : (wl xIds ad (xE g ad q σ)).length = 157 := by rw [wl, List.length_map]; exact xI_at.1
  generalize hws : (wl xIds ad (xE g ad q σ) ++ ([(a, (.inr (13, [.ref (d 999), .int 0, .int 0, .int 0]) : va_E))] ++ wl dIds d (dE g d σZ))).set 12 (ad 24, (.inl (g.2.1 7, 4, rr (va_up q.2 k (some a))) : va_E)) = ws at hP hD
  -- where the cells of a block lie
  have lt : ∀ i (z : Nat × va_E), i < 157 → i ≠ 12 → (wl xIds ad (xE g ad q σ))[i]? = some z → ws[i]? = some z := by
    intro i z hi h12 hz
    rw [← hws, List.getElem?_set_ne (fun e => h12 e.symm), List.getElem?_append_left (by omega)]
    exact hz
  have at12 : ws[12]? = some (ad 24, (.inl (g.2.1 7, 4, rr (va_up q.2 k (some a))) : va_E)) := by
    rw [← hws, List.getElem?_set_self (by rw [List.length_append]; omega)]
  have at157 : ws[157]? = some (a, (.inr (13, [.ref (d 999), .int 0, .int 0, .int 0]) : va_E)) := by
    rw [← hws, List.getElem?_set_ne (by decide), List.getElem?_append_right (by omega), hlen]
    rfl
  have atd : ∀ n j, dIds[n]? = some j → ws[158 + n]? = some (d j, dE g d σZ j) := by
    intro n j hn
    rw [← hws, List.getElem?_set_ne (by omega), List.getElem?_append_right (by omega), hlen, List.getElem?_append_right (by show 1 ≤ _; omega)]
    show (wl dIds d (dE g d σZ))[158 + n - 157 - 1]? = _
    rw [show 158 + n - 157 - 1 = n by omega, wl, List.getElem?_map, hn]
    rfl
  have hx : ∀ j, (j < 990 ∨ 997 ≤ j) → j < 10000 → adj k a d ad j = ad j := fun j h1 h2 => adj_x h4 h1 h2
  have pos : ∀ j ∈ jIds k, ∃ i z, ws[i]? = some (adj k a d ad j, z) ∧ va_at g.1 clG (adj k a d ad j, xE g (adj k a d ad) (q.1, va_up q.2 k (some a)) (im0 σ k) j) H ∧ ((i < 157 ∧ xIds[i]? = some j) ∨ (i = 157 ∧ j = 990 + k) ∨ ∃ n, i = 158 + n ∧ dIds[n]? = some (j - (10000 + 1000 * k)) ∧ 10000 + 1000 * k ≤ j) := by
    intro j hj
    rcases jI_of hj with e | e | e
    · subst e
      refine ⟨157, _, by rw [adj_i]; exact at157, ?_, Or.inr (Or.inl ⟨rfl, rfl⟩)⟩
      have h1 := hP 157 _ at157
      rw [adj_i, xE_im h4, imF_e h4, adj_c h4 (by decide)]
      have h0 : (im0 σ k).1 (990 + k) = fun _ => 0 := if_pos (Or.inl rfl)
      rw [h0]
      exact h1
    · have hb := xI_bd j e
      obtain ⟨i, hi, hi2⟩ := wl_i (ad := ad) (E := xE g ad q σ) e
      have il : i < 157 := by
        have := (List.getElem?_eq_some_iff.mp hi).1
        rw [xI_at.1] at this
        exact this
      obtain ⟨i3, i24⟩ := xI_ix i il j hi
      by_cases e24 : j = 24
      · subst e24
        have : i = 12 := i24.mp rfl
        subst this
        rw [hx 24 (by decide) (by decide)]
        refine ⟨12, _, at12, ?_, Or.inl ⟨by decide, hi⟩⟩
        exact hP 12 _ at12
      · have h12 : i ≠ 12 := fun x => e24 (i24.mpr x)
        have hz := lt i _ il h12 hi2
        rw [hx j hb.1 hb.2]
        refine ⟨i, _, hz, ?_, Or.inl ⟨il, hi⟩⟩
        have h1 := hP i _ hz
        by_cases e3 : j = 3
        · subst e3
          refine va_at_arr (f := fun i => some (ad (1000 * (i + 3) + 999))) (f' := fun i => some (adj k a d ad (1000 * (i + 3) + 999))) h1 (fun i hi => ?_)
          show some _ = some _
          rw [hx _ (by omega) (by omega)]
        · rw [xE_eq (im0_x h4 hb.1 hb.2).1 (im0_x h4 hb.1 hb.2).2, show xE g (adj k a d ad) (q.1, va_up q.2 k (some a)) σ j = xE g ad q σ j from xE_adj (q := q) (q' := (q.1, va_up q.2 k (some a))) hx rfl e e3 e24]
          exact h1
    · obtain ⟨c1, c2, c3⟩ := ch_at e
      obtain ⟨n, hn⟩ := List.getElem?_of_mem c3
      have hz := atd n _ hn
      have hj' : j = 10000 + 1000 * k + (j - (10000 + 1000 * k)) := by omega
      have ha : adj k a d ad j = d (j - (10000 + 1000 * k)) := by rw [hj', adj_c h4 (by omega), show 10000 + 1000 * k + (j - (10000 + 1000 * k)) - (10000 + 1000 * k) = j - (10000 + 1000 * k) by omega]
      rw [ha]
      refine ⟨158 + n, _, hz, ?_, Or.inr (Or.inr ⟨n, rfl, hn, c1⟩)⟩
      have h1 := hP _ _ hz
      have e1 := dE_vw (g := g) (ad := adj k a d ad) (σ := im0 σ k) (b := 10000 + 1000 * k) (k := j - (10000 + 1000 * k)) (by omega) (by omega)
      rw [← hj'] at e1
      rw [xE_d (by omega), ← e1]
      have e2 : dE g (fun i => adj k a d ad (10000 + 1000 * k + i)) (vw (im0 σ k) (10000 + 1000 * k)) (j - (10000 + 1000 * k)) = dE g d σZ (j - (10000 + 1000 * k)) := by
        have hlt : j - (10000 + 1000 * k) < 1000 := by omega
        have z1 : ∀ i, i < 1000 → (vw (im0 σ k) (10000 + 1000 * k)).1 i = (fun _ => 0) ∧ (vw (im0 σ k) (10000 + 1000 * k)).2 i = (fun _ => 0) := fun i hi => ⟨if_pos (Or.inr (by omega)), if_pos (Or.inr (by omega))⟩
        rw [dE_eq' (σ := σZ) hlt (z1 _ hlt).1 (z1 _ hlt).2]
        unfold dE
        by_cases h9 : (j - (10000 + 1000 * k)) % 1000 = 999
        · have e9 : j - (10000 + 1000 * k) = 999 := by omega
          rw [e9, if_pos rfl, if_pos rfl]
          exact congrArg (fun z => (Sum.inr (1, z) : va_E)) (dF_ad (fun i hi => adj_c h4 hi))
        · rw [if_neg h9, if_neg h9]
      rw [e2]
      exact h1
  refine ⟨wl_P fun j hj => (pos j hj).choose_spec.choose_spec.2.1, ⟨jI_nd h4, fun i j hi hj e => ?_, fun j hj => ?_⟩, hS⟩
  · obtain ⟨n1, z1, p1, -, q1⟩ := pos i hi
    obtain ⟨n2, z2, p2, -, q2⟩ := pos j hj
    have hn := hD.1 n1 n2 _ _ p1 p2 e
    subst hn
    rcases q1 with ⟨a1, a2⟩ | ⟨a1, a2⟩ | ⟨n, a1, a2, a3⟩ <;> rcases q2 with ⟨b1, b2⟩ | ⟨b1, b2⟩ | ⟨n', b1, b2, b3⟩
    · exact Option.some.inj (a2.symm.trans b2)
    · omega
    · omega
    · omega
    · omega
    · omega
    · omega
    · omega
    · have : n = n' := by omega
      subst this
      have := Option.some.inj (a2.symm.trans b2)
      omega
  · obtain ⟨n1, z1, p1, -, -⟩ := pos j hj
    exact hD.2 n1 _ p1
section MK
variable {p : Program} {l : Launch} {e : Env} {R : Room} {s : State} {m : MethodId} {args : Array Value} {below : List Frame} {meth : Method} {c : Code} {H : Heap} {locs : List Loc} {cells slots : Nat} {Q : State → Prop}
variable {nL : Nat} {g : gG} {A : Nat → Prop} {ad : Nat → Nat} {q : xR} {σ σr : cS} {r : Int32} {pc k : Nat} {ls : Array Slot}
theorem nIm {k i : Nat} (h4 : k < 4) (h : i ∈ imIds k) : i ∈ jIds k ∧ i ∉ xIds := by
  rcases List.mem_cons.mp h with e | e
  · refine ⟨by rw [e]; exact jI_i, fun x => ?_⟩
    have := (xI_bd i x).1
    omega
  · refine ⟨jI_c e, fun x => ?_⟩
    have h1 := (xI_bd i x).2
    have h2 := (ch_at e).1
    omega
set_option maxHeartbeats 4000000 in
/-- image of a place where none was made: 17 cells are made -/
theorem w_x_imageM (l : Launch) (h4 : k < 4) (had : xI_ ad) (hq : q.2 k = none) (hf : x_imB (im0 σ k) k = some (σr, r)) : ∀ sz : Nat, Met l yX0_image (ws_ yX0_image cX0_image 3 (some .int)) ({ frames := 6, cells := 17, slots := 1076, locals := 200 } : Room) (va_Pc [.ref (ad 999), .int (nI k)] (Pre g xIds ad (xE g ad q σ) sz)) (Qg (some (.int r)) (fun t => PIm g ad q σr k sz t.heap) (wA xIds ad sz)) 17 1076 (wA xIds ad sz) := by
  intro sz
  refine Met.ofW (cc := cX0_image) (maxL := 3) (ret := some .int) (by decide) rfl ?_
  intro p e s m args below meth c s₁ B hml hv
  obtain ⟨rfl, hsz, hP, hK, hF⟩ := hv
  subst hsz
  have hts := atoms_spec (ws := ws_ yX0_image cX0_image 3 (some .int)) B.pre
  have hts : ∀ w ∈ lw_all, w.before _ s = true := fun w h => hts w (List.mem_cons_of_mem _ h)
  have hl := lv_entry [.ref (ad 999), .int (nI k)] (n := 3) (Nat.le_of_ble_eq_true rfl)
  rw [lg_entry_eq]
  have X : MX p s m ([.ref (ad 999), .int (nI k)] : List Value).toArray meth c cX0_image 3 RX0 (some .int) g (wA xIds ad s.heap.size) := ⟨⟨B.exec, B.bytes, hml, findClass_of_methodNamed B.named, hts⟩, B.returns, B.notSynchronized, hK, hF, fun q h => Or.inr h⟩
  have hW : WB g (wA xIds ad s.heap.size) s.heap xIds ad (xE g ad q σ) s.heap [] := ⟨hP, ⟨xIds_nd, had.1, fun k hk => Or.inl ⟨k, hk, rfl⟩⟩, va_S.rf⟩
  have hl : lv_has _ 3 [(0, .ref (ad 999)), (1, .int (nI k))] := hl
  have hx := X.1.1
  have hb := X.1.2.1
  generalize ([.ref (ad 999), .int (nI k)] : List Value).toArray = args at X hl ⊢
  refine lv_iload_n hx hb dX0_image_0 rfl (lv_at hl 1 rfl) ?_
  refine lv_i2l (v := (nI k).toInt64) hx hb dX0_image_1 rfl ?_
  refine lv_lconst (v := 0) hx hb dX0_image_2 (by decide) ?_
  refine lv_ldc2 (v := 3) hx hb X.1.2.2.2.1 (X.1.2.2.2.2 _ q963) dX0_image_3 ?_
  have hin : x_in (nI k).toInt64 0 3 = some 1 := (x_in_eq (nI k) 0 3).trans (congrArg some (ib_1 ⟨nI_pos' (by omega), nI_le (b := 3) (by omega) (by decide)⟩))
  refine kh_in X hW hin ⟨Nat.le_of_ble_eq_true rfl, Nat.le_of_ble_eq_true rfl⟩ hl (Nat.le_of_ble_eq_true rfl) dX0_image_6 (fun H locs hW => ?_)
  refine lv_if_ne (tgt := 14) hx hb dX0_image_9 (by decide) (fun c_4 => ?_) (fun c_4 => absurd c_4 (by decide))
  refine lv_aload_n hx hb dX0_image_14 rfl (lv_at hl 0 rfl) ?_
  refine xg_24 X hW xm_999 dX0_image_15 ?_
  refine lv_iload_n hx hb dX0_image_18 rfl (lv_at hl 1 rfl) ?_
  refine ig_a X hW (by decide +kernel) h4 (v := .null) (by rw [hq]; rfl) dX0_image_19 ?_
  refine lv_ifnonnullN hx hb dX0_image_20 ?_
  refine lv_aload_n hx hb dX0_image_23 rfl (lv_at hl 0 rfl) ?_
  refine xg_24 X hW xm_999 dX0_image_24 ?_
  refine lv_iload_n hx hb dX0_image_27 rfl (lv_at hl 1 rfl) ?_
  refine va_new (ci := 13) (fs := iF0) (C := RX15) (T := TX15) (N := 4) X.1.1 X.1.2.1 X.1.2.2.2.2 in_X15 tyX15 tyX15_ok X.1.2.2.2.1 (X.1.2.2.2.2 _ q366) (X.1.2.2.2.2 _ q1118) (X.1.2.2.2.2 _ q145) X.2.2.2.1.1 hW.1 hW.D hW.2.2 X.2.2.2.2.2 rfl (fun j hj => by rcases (show j = 0 ∨ j = 1 ∨ j = 2 ∨ j = 3 by omega) with rfl | rfl | rfl | rfl <;> rfl) (Nat.le_of_ble_eq_true rfl) (Nat.le_of_ble_eq_true rfl) dX0_image_28 (fun a H hP hD hS => ?_)
  have hlen : (wl xIds ad (xE g ad q σ)).length = 157 := by rw [wl, List.length_map]; exact xI_at.1
  have hLW : LW g (wA xIds ad s.heap.size) s.heap (wl xIds ad (xE g ad q σ) ++ [(a, (.inr (13, iF0) : va_E))]) H locs := ⟨hP, hD, hS⟩
  refine lv_dup hx hb dX0_image_31 rfl ?_
  refine l_callIN X hLW 157 (by rw [List.getElem?_append_right (by omega), hlen]; rfl) (w_X15_init l) q1121 q145 q1119 q1120 rfl ⟨by decide, by decide, by decide +kernel⟩ ⟨Nat.le_of_ble_eq_true rfl, Nat.le_of_ble_eq_true rfl⟩ hl (Nat.le_of_ble_eq_true rfl) ⟨Nat.le_of_ble_eq_true rfl, Nat.le_of_ble_eq_true rfl⟩ dX0_image_32 (fun d H locs _ hLW => ?_)
  rw [List.set_append_right _ _ (by omega), hlen, List.append_assoc] at hLW
  have hLW : LW g (wA xIds ad s.heap.size) s.heap (wl xIds ad (xE g ad q σ) ++ ([(a, (.inr (13, [.ref (d 999), .int 0, .int 0, .int 0]) : va_E))] ++ wl dIds d (dE g d σZ))) H locs := hLW
  have h12 : (wl xIds ad (xE g ad q σ) ++ ([(a, (.inr (13, [.ref (d 999), .int 0, .int 0, .int 0]) : va_E))] ++ wl dIds d (dE g d σZ)))[12]? = some (ad 24, (.inl (g.2.1 7, 4, rr q.2) : va_E)) := by
    rw [List.getElem?_append_left (by omega), wl, List.getElem?_map, xI_at.2.2]
    rfl
  have h157 : (wl xIds ad (xE g ad q σ) ++ ([(a, (.inr (13, [.ref (d 999), .int 0, .int 0, .int 0]) : va_E))] ++ wl dIds d (dE g d σZ)))[157]? = some (a, (.inr (13, [.ref (d 999), .int 0, .int 0, .int 0]) : va_E)) := by
    rw [List.getElem?_append_right (by omega), hlen]
    rfl
  refine l_aast X hLW 12 7 157 13 h12 rfl h157 rfl (inbn h4 (by decide)) dX0_image_35 (fun H locs hLW => ?_)
  rw [ixn (by omega)] at hLW
  have hWB := im_conv h4 hLW
  have e9 : adj k a d ad 999 = ad 999 := adj_x h4 (by decide) (by decide)
  have hq2 : (q.1, va_up q.2 k (some a)).2 k = some (adj k a d ad (990 + k)) := by rw [adj_i]; simp [va_up]
  refine W.widen (k := 17) (n := 1076) (by decide) (by decide) ?_
  refine wb_im36 X h4 hq2 ⟨Nat.le_of_ble_eq_true rfl, Nat.le_of_ble_eq_true rfl⟩ ⟨Nat.le_refl _, Nat.le_refl _⟩ hWB (by rw [e9]; exact hl) hf (fun H1 l1 pc ls hdg hW => ?_)
  refine W.iret X.1.1 X.1.2.1 X.2.1 (fun t ht _ => ⟨⟨rfl, ?_⟩, hW.2.2.F ht⟩) hW.2.2.2.2 hdg X.2.2.1
  show PIm g ad q σr k s.heap.size t.heap
  rw [ht]
  refine ⟨adj k a d ad, fun j h1 h2 => ?_, fun j hj => ?_, fun i j hi hj e => hW.2.1.2.1 i j (nIm h4 hi).1 (nIm h4 hj).1 e, by rw [adj_i]; exact hW.1⟩
  · unfold adj
    rw [if_neg h1, if_neg h2]
  · rcases hW.2.1.2.2 j (nIm h4 hj).1 with ⟨i, hi, e⟩ | e
    · exfalso
      have hb := xI_bd i hi
      have := hW.2.1.2.1 j i (nIm h4 hj).1 (jI_x hi) (by rw [e, adj_x h4 hb.1 hb.2])
      exact (nIm h4 hj).2 (this ▸ hi)
    · exact e
end MK
