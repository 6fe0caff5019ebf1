/-! Text's methods that make nodes: a world that grows by numbered cells (block 20000 + i), one more (19999) between new and its constructor -/
set_option maxRecDepth 100000
theorem FVal_sub {L L' : va_W} (h : ∀ x ∈ L, x ∈ L') : ∀ {d d' : Nat} {φ : Wds → Int64} {a : Nat}, d ≤ d' → FVal L d φ a → FVal L' d' φ a := by
  intro d
  induction d with
  | zero => intro d' φ a _ hv; exact hv.elim
  | succ d ih =>
    intro d' φ a hd hv
    obtain ⟨e, rfl⟩ : ∃ e, d' = e + 1 := ⟨d' - 1, by omega⟩
    rcases hv with ⟨n, h1, h2⟩ | ⟨w, hw, h1, h2⟩ | ⟨φ1, φ2, sg, a1, a2, h1, h2, h3, h4⟩
    · exact Or.inl ⟨n, h _ h1, h2⟩
    · exact Or.inr (Or.inl ⟨w, hw, h _ h1, h2⟩)
    · exact Or.inr (Or.inr ⟨φ1, φ2, sg, a1, a2, h _ h1, ih (by omega) h2, ih (by omega) h3, h4⟩)
theorem FTest_sub {L L' : va_W} (h : ∀ x ∈ L, x ∈ L') : ∀ {d d' : Nat} {τ : Wds → Int32} {a : Nat}, d ≤ d' → FTest L d τ a → FTest L' d' τ a := by
  intro d
  induction d with
  | zero => intro d' φ a _ hv; exact hv.elim
  | succ d ih =>
    intro d' τ a hd hv
    obtain ⟨e, rfl⟩ : ∃ e, d' = e + 1 := ⟨d' - 1, by omega⟩
    rcases hv with ⟨τ1, a1, h1, h2, h3⟩ | ⟨φ1, φ2, sg, a1, a2, h1, h2, h3, h4⟩ | ⟨τ1, τ2, z, a1, a2, h1, h2, h3, h4⟩
    · exact Or.inl ⟨τ1, a1, h _ h1, ih (by omega) h2, h3⟩
    · exact Or.inr (Or.inl ⟨φ1, φ2, sg, a1, a2, h _ h1, FVal_sub h (by omega) h2, FVal_sub h (by omega) h3, h4⟩)
    · exact Or.inr (Or.inr ⟨τ1, τ2, z, a1, a2, h _ h1, ih (by omega) h2, ih (by omega) h3, h4⟩)
theorem FClause_sub {L L' : va_W} (h : ∀ x ∈ L, x ∈ L') {d d' : Nat} (hd : d ≤ d') {q : (Wds → Int64) × Option (Wds → Int32)} {a : Nat} (hv : FClause L d q a) : FClause L' d' q a := by
  obtain ⟨va, ta, h1, h2, h3⟩ := hv
  refine ⟨va, ta, h _ h1, FVal_sub h hd h2, ?_⟩
  obtain ⟨φ, o⟩ := q
  cases o with
  | none => exact h3
  | some τ =>
    obtain ⟨t, h4, h5⟩ := h3
    exact ⟨t, h4, FTest_sub h hd h5⟩
abbrev Nd : Type := Nat → Nat × va_E
def ndl (n : Nat) (nd : Nd) : va_W := (List.range n).map nd
def yIds (pd : List Nat) (n : Nat) : List Nat := tIds ++ (pd ++ (List.range n).map (fun i => 20000 + i))
def ya (ad : Nat → Nat) (pz nd : Nd) (k : Nat) : Nat := if 20000 ≤ k then (nd (k - 20000)).1 else if 19998 ≤ k then (pz k).1 else ad k
def yE (g : gG) (ad : Nat → Nat) (q : xR) (σ : cS) (pz nd : Nd) (k : Nat) : va_E := if 20000 ≤ k then (nd (k - 20000)).2 else if 19998 ≤ k then (pz k).2 else xE g ad q σ k
def z0 : Nd := fun _ => (0, .inr (0, []))
def pdOk (pd : List Nat) : Prop := pd.Nodup ∧ ∀ k ∈ pd, 19998 ≤ k ∧ k < 20000
theorem pdOk_0 : pdOk [] := ⟨List.nodup_nil, fun _ h => (List.not_mem_nil h).elim⟩
theorem pdOk_1 : pdOk [19999] := ⟨by decide, by decide⟩
theorem pdOk_2 : pdOk [19998, 19999] := ⟨by decide, by decide⟩
abbrev WBY (g : gG) (A : Nat → Prop) (H0 : Heap) (ad : Nat → Nat) (q : xR) (σ : cS) (pd : List Nat) (pz : Nd) (n : Nat) (nd : Nd) (H : Heap) (locs : List Loc) : Prop := WB g A H0 (yIds pd n) (ya ad pz nd) (yE g ad q σ pz nd) H locs
theorem ndl_mem {n : Nat} {nd : Nd} {x : Nat × va_E} : x ∈ ndl n nd ↔ ∃ i, i < n ∧ nd i = x := by
  simp only [ndl, List.mem_map, List.mem_range]
theorem yIds_t {pd : List Nat} {n k : Nat} (h : k ∈ tIds) : k ∈ yIds pd n := List.mem_append_left _ h
theorem yIds_n {pd : List Nat} {n i : Nat} (h : i < n) : 20000 + i ∈ yIds pd n := List.mem_append_right _ (List.mem_append_right _ (List.mem_map.mpr ⟨i, List.mem_range.mpr h, rfl⟩))
theorem yIds_p {pd : List Nat} {n k : Nat} (h : k ∈ pd) : k ∈ yIds pd n := List.mem_append_right _ (List.mem_append_left _ h)
theorem tIds_lt : ∀ k ∈ tIds, k < 19998 := by decide +kernel
theorem yIds_c {pd : List Nat} (hpd : pdOk pd) {n k : Nat} (h : k ∈ yIds pd n) : (k ∈ tIds ∧ k < 19998) ∨ (k ∈ pd ∧ 19998 ≤ k ∧ k < 20000) ∨ ∃ i, i < n ∧ k = 20000 + i := by
  rcases List.mem_append.mp h with h | h
  · exact Or.inl ⟨h, tIds_lt k h⟩
  · rcases List.mem_append.mp h with h | h
    · exact Or.inr (Or.inl ⟨h, hpd.2 k h⟩)
    · obtain ⟨i, hi, rfl⟩ := List.mem_map.mp h
      exact Or.inr (Or.inr ⟨i, List.mem_range.mp hi, rfl⟩)
theorem range_nd (n : Nat) : ((List.range n).map (fun i => 20000 + i)).Nodup := by
  rw [List.nodup_iff_pairwise_ne, List.pairwise_map]
  exact (List.nodup_iff_pairwise_ne.mp List.nodup_range).imp (fun h => by omega)
theorem yIds_nd {pd : List Nat} (hpd : pdOk pd) (n : Nat) : (yIds pd n).Nodup := by
  refine List.nodup_append.mpr ⟨tIds_nd, List.nodup_append.mpr ⟨hpd.1, range_nd n, ?_⟩, ?_⟩
  · intro a ha b hb
    obtain ⟨i, -, rfl⟩ := List.mem_map.mp hb
    have := hpd.2 a ha
    omega
  · intro a ha b hb
    have := tIds_lt a ha
    rcases List.mem_append.mp hb with h | h
    · have := hpd.2 b h
      omega
    · obtain ⟨i, -, rfl⟩ := List.mem_map.mp h
      omega
theorem ya_t {ad : Nat → Nat} {pz nd : Nd} {k : Nat} (h : k < 19998) : ya ad pz nd k = ad k := by
  unfold ya
  rw [if_neg (by omega), if_neg (by omega)]
theorem yE_t {g : gG} {ad : Nat → Nat} {q : xR} {σ : cS} {pz nd : Nd} {k : Nat} (h : k < 19998) : yE g ad q σ pz nd k = xE g ad q σ k := by
  unfold yE
  rw [if_neg (by omega), if_neg (by omega)]
theorem ya_n {ad : Nat → Nat} {pz nd : Nd} {i : Nat} : ya ad pz nd (20000 + i) = (nd i).1 := by
  unfold ya
  rw [if_pos (by omega), show 20000 + i - 20000 = i by omega]
theorem yE_n {g : gG} {ad : Nat → Nat} {q : xR} {σ : cS} {pz nd : Nd} {i : Nat} : yE g ad q σ pz nd (20000 + i) = (nd i).2 := by
  unfold yE
  rw [if_pos (by omega), show 20000 + i - 20000 = i by omega]
theorem ya_p {ad : Nat → Nat} {pz nd : Nd} {k : Nat} (h1 : 19998 ≤ k) (h2 : k < 20000) : ya ad pz nd k = (pz k).1 := by
  unfold ya
  rw [if_neg (by omega), if_pos h1]
theorem yE_p {g : gG} {ad : Nat → Nat} {q : xR} {σ : cS} {pz nd : Nd} {k : Nat} (h1 : 19998 ≤ k) (h2 : k < 20000) : yE g ad q σ pz nd k = (pz k).2 := by
  unfold yE
  rw [if_neg (by omega), if_pos h1]
theorem yE_up {g : gG} {ad : Nat → Nat} {q : xR} {σ σ' : cS} {pz nd : Nd} {k : Nat} {e : va_E} (hk : k < 19998) (h : ∀ j, j ≠ k → σ'.1 j = σ.1 j ∧ σ'.2 j = σ.2 j) (he : xE g ad q σ' k = e) (j : Nat) : yE g ad q σ' pz nd j = va_up (yE g ad q σ pz nd) k e j := by
  by_cases hj : j = k
  · subst hj; rw [yE_t hk, he]; simp [va_up]
  · rw [show va_up (yE g ad q σ pz nd) k e j = yE g ad q σ pz nd j by simp [va_up, hj]]
    unfold yE
    split
    · rfl
    · split
      · rfl
      · exact xE_eq (h j hj).1 (h j hj).2
/-- the world as it was plus one cell -/
theorem wl_app1 {D : va_G} {cl : List vw_C} {A : Nat → Prop} {H : Heap} {ids ids' : List Nat} {ad ad' : Nat → Nat} {E E' : Nat → va_E} {a : Nat} {e : va_E} (hP : va_P D cl (wl ids ad E ++ [(a, e)]) H) (hD : va_D A (wl ids ad E ++ [(a, e)])) (h : ∀ k ∈ ids', (ad' k, E' k) = (a, e) ∨ ∃ j ∈ ids, (ad' k, E' k) = (ad j, E j)) (hi : ∀ i ∈ ids', ∀ j ∈ ids', ad' i = ad' j → i = j) : va_P D cl (wl ids' ad' E') H ∧ wI A ids' ad' := by
  have key : ∀ k ∈ ids', (ad' k, E' k) ∈ wl ids ad E ++ [(a, e)] := by
    intro k hk
    rcases h k hk with h | ⟨j, hj, h⟩
    · rw [h]; exact List.mem_append_right _ (List.mem_singleton.mpr rfl)
    · rw [h]; exact List.mem_append_left _ (List.mem_map.mpr ⟨j, hj, rfl⟩)
  refine ⟨wl_P fun k hk => ?_, fun i j hi' hj' e => hi i hi' j hj' e, fun k hk => ?_⟩
  · obtain ⟨q, hq⟩ := List.getElem?_of_mem (key k hk)
    exact hP q _ hq
  · obtain ⟨q, hq⟩ := List.getElem?_of_mem (key k hk)
    exact hD.2 q _ hq
def addc {ρ : Type} (k : Nat) (x : Option (cS × Nat × Option ρ)) : Option (cS × Nat × Option ρ) := x.map fun r => (r.1, r.2.1 + k, r.2.2)
theorem addc_e {ρ : Type} {k : Nat} {x : Option (cS × Nat × Option ρ)} {σ : cS} {c : Nat} {o : Option ρ} (h : addc k x = some (σ, c, o)) : ∃ c', x = some (σ, c', o) ∧ c = c' + k := by
  cases x with
  | none => cases h
  | some r =>
    obtain ⟨a, b, d⟩ := r
    simp only [addc, Option.map_some, Option.some.injEq, Prod.mk.injEq] at h
    obtain ⟨rfl, rfl, rfl⟩ := h
    exact ⟨b, rfl, rfl⟩
def thy {ρ τ : Type} (σ : cS) (o : Option ρ) (k : ρ → Option (cS × Nat × Option τ)) : Option (cS × Nat × Option τ) := match o with
  | none => some (σ, 0, none)
  | some r => k r
theorem thy_s {ρ τ : Type} {σ : cS} {r : ρ} {k : ρ → Option (cS × Nat × Option τ)} {y : Option (cS × Nat × Option τ)} (h : thy σ (some r) k = y) : k r = y := h
theorem thy_n {ρ τ : Type} {σ : cS} {k : ρ → Option (cS × Nat × Option τ)} {y : Option (cS × Nat × Option τ)} (h : thy σ none k = y) : some (σ, 0, none) = y := h
/-- the same cells by other numbers (fewer, too) -/
theorem WB.perm {g : gG} {A : Nat → Prop} {H0 H : Heap} {ids ids' : List Nat} {ad ad' : Nat → Nat} {E E' : Nat → va_E} {locs : List Loc} (h : WB g A H0 ids ad E H locs) (hn : ids'.Nodup) (f : Nat → Nat) (hf : ∀ k ∈ ids', f k ∈ ids ∧ ad' k = ad (f k) ∧ E' k = E (f k)) (hj : ∀ i ∈ ids', ∀ j ∈ ids', f i = f j → i = j) : WB g A H0 ids' ad' E' H locs := by
  refine ⟨wl_P fun k hk => ?_, ⟨hn, fun i j hi hj' e => ?_, fun k hk => ?_⟩, h.2.2⟩
  · obtain ⟨h1, h2, h3⟩ := hf k hk
    rw [h2, h3]
    exact wl_at h.1 h1
  · obtain ⟨h1, h2, -⟩ := hf i hi
    obtain ⟨h3, h4, -⟩ := hf j hj'
    rw [h2, h4] at e
    exact hj i hi j hj' (h.2.1.2.1 _ _ h1 h3 e)
  · obtain ⟨h1, h2, -⟩ := hf k hk
    rw [h2]
    exact h.2.1.2.2 _ h1
theorem WBY.t {g : gG} {A : Nat → Prop} {H0 H : Heap} {ad : Nat → Nat} {q : xR} {σ : cS} {pd : List Nat} {pz nd : Nd} {n : Nat} {locs : List Loc} (h : WBY g A H0 ad q σ pd pz n nd H locs) : WB g A H0 tIds ad (xE g ad q σ) H locs :=
  WB.perm h tIds_nd id (fun k hk => ⟨yIds_t hk, (ya_t (tIds_lt k hk)).symm, (yE_t (tIds_lt k hk)).symm⟩) (fun _ _ _ _ e => e)
/-- nodes n .. go on with nd1 -/
def nda (n : Nat) (nd nd1 : Nd) : Nd := fun i => if i < n then nd i else nd1 (i - n)
theorem nda_l {n i : Nat} {nd nd1 : Nd} (h : i < n) : nda n nd nd1 i = nd i := if_pos h
theorem nda_r {n i : Nat} {nd nd1 : Nd} : nda n nd nd1 (n + i) = nd1 i := by
  unfold nda
  rw [if_neg (by omega), show n + i - n = i by omega]
theorem ndl_l {n c : Nat} {nd nd1 : Nd} : ∀ x ∈ ndl n nd, x ∈ ndl (n + c) (nda n nd nd1) := by
  intro x hx
  obtain ⟨i, hi, rfl⟩ := ndl_mem.mp hx
  exact ndl_mem.mpr ⟨i, by omega, nda_l hi⟩
theorem ndl_r {n c : Nat} {nd nd1 : Nd} : ∀ x ∈ ndl c nd1, x ∈ ndl (n + c) (nda n nd nd1) := by
  intro x hx
  obtain ⟨i, hi, rfl⟩ := ndl_mem.mp hx
  exact ndl_mem.mpr ⟨n + i, by omega, nda_r⟩
theorem ndl_c {n : Nat} {nd : Nd} {x : Nat × va_E} : x ∈ ndl (n + 1) (nda n nd (fun _ => x)) := ndl_mem.mpr ⟨n + 0, by omega, nda_r⟩
theorem ndl_len {n : Nat} {nd : Nd} : (ndl n nd).length = n := by simp [ndl]
abbrev RV (L : va_W) (φ : Wds → Int64) (a : Nat) : Prop := FVal L L.length φ a
abbrev RT (L : va_W) (τ : Wds → Int32) (a : Nat) : Prop := FTest L L.length τ a
theorem RV.l {n c : Nat} {nd nd1 : Nd} {φ : Wds → Int64} {a : Nat} (h : RV (ndl n nd) φ a) : RV (ndl (n + c) (nda n nd nd1)) φ a := FVal_sub ndl_l (by rw [ndl_len, ndl_len]; omega) h
theorem RV.r {n c : Nat} {nd nd1 : Nd} {φ : Wds → Int64} {a : Nat} (h : RV (ndl c nd1) φ a) : RV (ndl (n + c) (nda n nd nd1)) φ a := FVal_sub ndl_r (by rw [ndl_len, ndl_len]; omega) h
theorem RT.l {n c : Nat} {nd nd1 : Nd} {φ : Wds → Int32} {a : Nat} (h : RT (ndl n nd) φ a) : RT (ndl (n + c) (nda n nd nd1)) φ a := FTest_sub ndl_l (by rw [ndl_len, ndl_len]; omega) h
theorem RT.r {n c : Nat} {nd nd1 : Nd} {φ : Wds → Int32} {a : Nat} (h : RT (ndl c nd1) φ a) : RT (ndl (n + c) (nda n nd nd1)) φ a := FTest_sub ndl_r (by rw [ndl_len, ndl_len]; omega) h
theorem RV.num {n : Nat} {nd : Nd} {a : Nat} {v : Int64} : RV (ndl (n + 1) (nda n nd (fun _ => (a, .inr (7, [.long v]))))) (fun _ => v) a := by
  unfold RV
  rw [ndl_len]
  exact Or.inl ⟨v, ndl_c, rfl⟩
theorem nI_ix {w : Int32} (h : ¬ w < 0) : nI (ix w) = w := by
  have h0 : 0 ≤ w.toInt := by
    rw [Int32.lt_iff_toInt_lt] at h
    simpa using h
  apply Int32.toInt_inj.mp
  have hl := Int32.toInt_lt w
  have e : (ix w : Int) = w.toInt := by
    show ((w.toInt.toNat : Nat) : Int) = w.toInt
    omega
  rw [nI_toInt (by omega), e]
theorem RV.wd {n : Nat} {nd : Nd} {a : Nat} {w : Int32} (hw : inb w 12 = true) : RV (ndl (n + 1) (nda n nd (fun _ => (a, .inr (8, [.int w]))))) (fun ws => ws (ix w)) a := by
  unfold RV
  rw [ndl_len]
  have h := inb_in hw
  refine Or.inr (Or.inl ⟨ix w, Nat.not_le.mp fun q => h (Or.inr q), ?_, rfl⟩)
  have e : nI (ix w) = w := nI_ix (fun q => h (Or.inl q))
  rw [e]
  exact ndl_c
theorem RV.pair {n : Nat} {nd : Nd} {a a1 a2 : Nat} {sg : Int32} {φ1 φ2 : Wds → Int64} (h1 : RV (ndl n nd) φ1 a1) (h2 : RV (ndl n nd) φ2 a2) : RV (ndl (n + 1) (nda n nd (fun _ => (a, .inr (9, [.ref a1, .ref a2, .int sg]))))) (fun ws => vPair sg (φ1 ws) (φ2 ws)) a := by
  unfold RV at *
  rw [ndl_len] at *
  exact Or.inr (Or.inr ⟨φ1, φ2, sg, a1, a2, ndl_c, FVal_sub ndl_l (Nat.le_refl _) h1, FVal_sub ndl_l (Nat.le_refl _) h2, rfl⟩)
theorem RT.not {n : Nat} {nd : Nd} {a a1 : Nat} {τ : Wds → Int32} (h1 : RT (ndl n nd) τ a1) : RT (ndl (n + 1) (nda n nd (fun _ => (a, .inr (10, [.ref a1]))))) (fun ws => if τ ws = 0 then 1 else 0) a := by
  unfold RT at *
  rw [ndl_len] at *
  exact Or.inl ⟨τ, a1, ndl_c, FTest_sub ndl_l (Nat.le_refl _) h1, rfl⟩
theorem RT.cmp {n : Nat} {nd : Nd} {a a1 a2 : Nat} {sg : Int32} {φ1 φ2 : Wds → Int64} (h1 : RV (ndl n nd) φ1 a1) (h2 : RV (ndl n nd) φ2 a2) : RT (ndl (n + 1) (nda n nd (fun _ => (a, .inr (11, [.ref a1, .ref a2, .int sg]))))) (fun ws => vCmp sg (φ1 ws) (φ2 ws)) a := by
  unfold RV at *
  unfold RT
  rw [ndl_len] at *
  exact Or.inr (Or.inl ⟨φ1, φ2, sg, a1, a2, ndl_c, FVal_sub ndl_l (Nat.le_refl _) h1, FVal_sub ndl_l (Nat.le_refl _) h2, rfl⟩)
theorem RT.both {n : Nat} {nd : Nd} {a a1 a2 : Nat} {z : Int32} {τ1 τ2 : Wds → Int32} (h1 : RT (ndl n nd) τ1 a1) (h2 : RT (ndl n nd) τ2 a2) : RT (ndl (n + 1) (nda n nd (fun _ => (a, .inr (12, [.ref a1, .ref a2, .int z]))))) (fun ws => vBoth z (τ1 ws) (τ2 ws)) a := by
  unfold RT at *
  rw [ndl_len] at *
  exact Or.inr (Or.inr ⟨τ1, τ2, z, a1, a2, ndl_c, FTest_sub ndl_l (Nat.le_refl _) h1, FTest_sub ndl_l (Nat.le_refl _) h2, rfl⟩)
def YP (g : gG) (ad : Nat → Nat) (q : xR) (σ : cS) (n : Nat) (nd : Nd) (sz : Nat) (H : Heap) : Prop := ∃ pz : Nd, va_P g.1 clG (wl (yIds [] n) (ya ad pz nd) (yE g ad q σ pz nd)) H ∧ wI (wA tIds ad sz) (yIds [] n) (ya ad pz nd)
abbrev rmy (fr lo mc : Nat) : Room := { frames := fr, cells := mc, slots := 12 * mc, locals := lo }
def QY {ρ : Type} (below : List Frame) (g : gG) (ad : Nat → Nat) (q : xR) (σ' : cS) (cnt : Nat) (Rp : va_W → ρ → Nat → Prop) (o : Option ρ) (args : Array Value) (s : State) (sz : Nat) : State → Prop :=
  vx_MQ below (fun _ st oc t => (∃ (r : ρ) (a : Nat) (nd : Nd), o = some r ∧ oc = .returned (some (.ref a)) ∧ YP g ad q σ' cnt nd sz t.heap ∧ Rp (ndl cnt nd) r a) ∧ va_F (wA tIds ad sz) st t) (fun En st t => En = RX2 ∧ o = none ∧ va_P g.1 clG (wl tIds ad (xE g ad q σ')) t.heap ∧ va_F (wA tIds ad sz) st t) args s cnt (12 * cnt) (wA tIds ad sz)
def MY {ρ : Type} (l : Launch) (y : MethodName) (cc : ByteArray) (nL : Nat) (ret : Option FieldType) (fr lo : Nat) (g : gG) (ad : Nat → Nat) (q : xR) (σ σ' : cS) (cnt : Nat) (As : List Value) (Rp : va_W → ρ → Nat → Prop) (o : Option ρ) : Prop :=
  ∀ sz : Nat, vx_Met l y (ws_ y cc nL ret) (rmy fr lo cnt) (va_Pc As (Pre g tIds ad (xE g ad q σ) sz)) (fun _ st oc t => (∃ (r : ρ) (a : Nat) (nd : Nd), o = some r ∧ oc = .returned (some (.ref a)) ∧ YP g ad q σ' cnt nd sz t.heap ∧ Rp (ndl cnt nd) r a) ∧ va_F (wA tIds ad sz) st t) (fun En st t => En = RX2 ∧ o = none ∧ va_P g.1 clG (wl tIds ad (xE g ad q σ')) t.heap ∧ va_F (wA tIds ad sz) st t) cnt (12 * cnt) (wA tIds ad sz)
theorem MY.of {ρ : Type} {l : Launch} {y : MethodName} {cc : ByteArray} {nL : Nat} {ret : Option FieldType} {fr lo : Nat} {g : gG} {ad : Nat → Nat} {q : xR} {σ σ' : cS} {cnt : Nat} {As : List Value} {Rp : va_W → ρ → Nat → Prop} {o : Option ρ} (hy : plainName y.cls = true) (hi : tI_ ad) (hL : (lg_sl As).length ≤ nL)
    (body : ∀ (p : Program) (e : Env) (s : State) (m : MethodId) (below : List Frame) (meth : Method) (c : Code) (ls : Array Slot), MX p s m As.toArray meth c cc nL y.cls ret g (wA tIds ad s.heap.size) → (∀ x ∈ c.exceptionTable.toList, False) → WBY g (wA tIds ad s.heap.size) s.heap ad q σ [] z0 0 z0 s.heap [] → lv_has ls nL (lv_args 0 As) →
      W p l e (rmy fr lo cnt) s m As.toArray below meth c s.heap [] 0 (12 * 0) (QY below g ad q σ' cnt Rp o As.toArray s s.heap.size) (F0 m 0 ls [])) : MY l y cc nL ret fr lo g ad q σ σ' cnt As Rp o := by
  intro sz
  refine vx_ofW (cc := cc) (maxL := nL) (ret := ret) hy rfl ?_
  intro p e s m args below meth c s₁ B hml hex hv
  obtain ⟨rfl, hsz, hP, hK, hF⟩ := hv
  subst hsz
  have hts := atoms_spec (ws := ws_ y cc nL ret) B.pre
  have hts : ∀ w ∈ lw_all, w.before _ s = true := fun w h => hts w (List.mem_cons_of_mem _ h)
  have hl := lv_entry As (n := nL) hL
  rw [lg_entry_eq]
  have hW0 : WB g (wA tIds ad s.heap.size) s.heap tIds ad (xE g ad q σ) s.heap [] := ⟨hP, ⟨tIds_nd, hi.1, fun k hk => Or.inl ⟨k, hk, rfl⟩⟩, va_S.rf⟩
  have hy0 : yIds [] 0 = tIds := by simp [yIds]
  exact body p e s m below meth c _ ⟨⟨B.exec, B.bytes, hml, findClass_of_methodNamed B.named, hts⟩, B.returns, B.notSynchronized, hK, hF, fun q h => Or.inr h⟩ hex (hW0.perm (yIds_nd pdOk_0 0) id (fun k hk => by rw [hy0] at hk; exact ⟨hk, ya_t (tIds_lt k hk), yE_t (tIds_lt k hk)⟩) (fun _ _ _ _ e => e)) hl
theorem Sub.y {g : gG} {A : Nat → Prop} {ad : Nat → Nat} {q : xR} {σ σ' : cS} {pd : List Nat} {pz nd : Nd} {n : Nat} (hI : wI A (yIds pd n) (ya ad pz nd)) (hpd : pdOk pd) : Sub (yIds pd n) (ya ad pz nd) (yE g ad q σ pz nd) (yE g ad q σ' pz nd) tIds ad (xE g ad q σ) (xE g ad q σ') := by
  refine ⟨fun k hk => ⟨k, yIds_t hk, ya_t (tIds_lt k hk), yE_t (tIds_lt k hk)⟩, fun j hj => ?_⟩
  have ne : ∀ j ∈ yIds pd n, 19998 ≤ j → ∀ k ∈ tIds, ya ad pz nd j ≠ ad k := by
    intro j hj h k hk e
    rw [← ya_t (pz := pz) (nd := nd) (ad := ad) (tIds_lt k hk)] at e
    have := hI.1 _ _ hj (yIds_t hk) e
    have := tIds_lt k hk
    omega
  rcases yIds_c hpd hj with ⟨h1, h2⟩ | ⟨h1, h2, h3⟩ | ⟨i, h1, rfl⟩
  · exact Or.inl ⟨j, h1, ya_t h2, yE_t h2⟩
  · exact Or.inr ⟨by rw [yE_p h2 h3, yE_p h2 h3], ne j hj h2⟩
  · exact Or.inr ⟨by rw [yE_n, yE_n], ne _ hj (by omega)⟩
section YW
variable {p : Program} {l : Launch} {e : Env} {s : State} {m : MethodId} {args : Array Value} {below : List Frame} {meth : Method} {c : Code} {H : Heap} {locs : List Loc} {Q : State → Prop} {fr lo mc kc : Nat}
variable {cc : ByteArray} {nL : Nat} {own : String} {ret : Option FieldType} {g : gG} {A : Nat → Prop} {ad : Nat → Nat} {q : xR} {σ σ' : cS} {pd : List Nat} {pz nd : Nd} {n : Nat} {pc : Nat} {ls : Array Slot} {rest : List Value} {lv : List (Nat × Value)}
theorem y_rooms {fr2 lo2 mc2 kc : Nat} (h : fr2 + 1 ≤ fr ∧ 8 + lo2 ≤ lo) : fr2 + 1 ≤ (rmy fr lo mc).frames ∧ 8 + lo2 ≤ (rmy fr lo mc).locals := h
theorem WBY.I (h : WBY g A s.heap ad q σ pd pz n nd H locs) : wI A (yIds pd n) (ya ad pz nd) := h.2.1.2
/-- a call of a method that makes nothing and throws nothing -/
theorem y_callC (X : MX p s m args meth c cc nL own ret g A) (hW : WBY g A s.heap ad q σ pd pz n nd H locs) (hpd : pdOk pd) {y : MethodName} {bytes : ByteArray} {maxL fr2 lo2 index nA : Nat} {ret2 : Option FieldType} {As st : List Value} {rv : Option Value}
    (hM : MC l y bytes maxL ret2 fr2 lo2 g tIds ad (xE g ad q σ) (xE g ad q σ') (.ref (ad 997) :: As) rv) (hG : GoodIn lw_all (wsV own index RX4 y (ws_ y bytes maxL ret2))) (hd : y.cls = RX4 ∧ y.cls ≠ "java/lang/invoke/MethodHandle" ∧ y.cls ≠ "java/lang/invoke/VarHandle" ∧ (parseMethodDescriptor y.desc).map (fun d => d.parameters.length) = some nA)
    (hR : fr2 + 1 ≤ fr ∧ 8 + (maxL + 11) + lo2 ≤ lo) (hls : lv_has ls nL lv) (hn : As.length = nA) (hst : st = As.reverse ++ .ref (ad 997) :: rest) (hcat : (rest.map fun v => v.category).sum ≤ 8) (hcs : kc ≤ mc) (hdg : decode cc pc = .ok (.invokevirtual index, 3))
    (kk : ∀ (H1 : Heap) (l1 : List Loc), WBY g A s.heap ad q σ' pd pz n nd H1 l1 → W p l e (rmy fr lo mc) s m args below meth c H1 l1 kc (12 * kc) Q (F0 m (pc + 3) ls (rv.toList ++ rest))) : W p l e (rmy fr lo mc) s m args below meth c H locs kc (12 * kc) Q (F0 m pc ls st) := by
  have e9 : ya ad pz nd 997 = ad 997 := ya_t (by decide)
  rw [← e9] at hM hst
  exact r_callV X hW (Sub.y hW.I hpd) hM hG hd (k0 := 997) (ci := 4) (C := RX4) (T := TX4) (N := 7) (yIds_t tm_997) (yE_t (by decide)) rfl hR hls hn hst hcat (by show kc ≤ mc ∧ 12 * kc ≤ 12 * mc; omega) hdg kk
theorem y_fin (hW : WBY g A s.heap ad q σ pd pz n nd H locs) (hA : ∀ q : Nat, s.heap.size ≤ q → A q) {H1 : Heap} {st₀ t : State} {L : List Loc} (h0 : st₀.heap = H) (hL : ∀ q ∈ L, wA tIds ad H.size q.base) (hF : va_F (wA tIds ad H.size) st₀ t) (e1 : H1 = t.heap) : va_S A s.heap H1 (locs ++ L) := by
  have hS := hW.2.2
  have hA' := (Sub.y (g := g) (q := q) (σ := σ) (σ' := σ) (pd := []) (pz := pz) (nd := nd) (n := 0) (A := A) ⟨fun i j hi hj e => hW.I.1 i j (by simp [yIds] at hi ⊢; exact Or.inl hi) (by simp [yIds] at hj ⊢; exact Or.inl hj) e, fun k hk => hW.I.2 k (by simp [yIds] at hk ⊢; exact Or.inl hk)⟩ pdOk_0).adr (H := H) ⟨fun i j hi hj e => hW.I.1 i j (by simp [yIds] at hi ⊢; exact Or.inl hi) (by simp [yIds] at hj ⊢; exact Or.inl hj) e, fun k hk => hW.I.2 k (by simp [yIds] at hk ⊢; exact Or.inl hk)⟩ hS hA
  obtain ⟨hz, hk⟩ := hF
  rw [h0] at hz hk
  subst e1
  exact ⟨Nat.le_trans hS.1 hz, fun q h1 h2 => by rw [hk q (Nat.lt_of_lt_of_le h1 hS.1) (fun z => h2 (hA' q z))]; exact hS.2.1 q h1 h2, fun q hq => by
    rcases List.mem_append.mp hq with h | h
    · exact hS.2.2 q h
    · exact hA' _ (hL q h)⟩
/-- one that throws -/
theorem y_callT {ρ : Type} {rvf : ρ → Option Value} {o : Option ρ} (X : MX p s m args meth c cc nL own ret g A) (hW : WBY g A s.heap ad q σ pd pz n nd H locs) (hpd : pdOk pd) {y : MethodName} {bytes : ByteArray} {maxL fr2 lo2 index nA : Nat} {ret2 : Option FieldType} {As st : List Value}
    (hM : MT l y bytes maxL ret2 fr2 lo2 g tIds ad (xE g ad q σ) (xE g ad q σ') (.ref (ad 997) :: As) rvf o) (hG : GoodIn lw_all (wsV own index RX4 y (ws_ y bytes maxL ret2))) (hd : y.cls = RX4 ∧ y.cls ≠ "java/lang/invoke/MethodHandle" ∧ y.cls ≠ "java/lang/invoke/VarHandle" ∧ (parseMethodDescriptor y.desc).map (fun d => d.parameters.length) = some nA)
    (hR : fr2 + 1 ≤ fr ∧ 8 + (maxL + 11) + lo2 ≤ lo) (hls : lv_has ls nL lv) (hn : As.length = nA) (hst : st = As.reverse ++ .ref (ad 997) :: rest) (hcat : (rest.map fun v => v.category).sum ≤ 8) (hcs : kc ≤ mc) (hdg : decode cc pc = .ok (.invokevirtual index, 3))
    (kx : o = none → ∀ (H1 : Heap) (l1 : List Loc) (q9 : Addr) (ce : Cell), WB g A s.heap tIds ad (xE g ad q σ') H1 l1 → H1[q9]? = some ce → ce.vm = .none → s.vm.findClass RX2 = some ce.cls → vx_W p l e (rmy fr lo mc) s m args below meth c H1 l1 kc (12 * kc) Q (F0 m pc ls rest) q9)
    (kk : ∀ r : ρ, o = some r → ∀ (H1 : Heap) (l1 : List Loc), WBY g A s.heap ad q σ' pd pz n nd H1 l1 → W p l e (rmy fr lo mc) s m args below meth c H1 l1 kc (12 * kc) Q (F0 m (pc + 3) ls ((rvf r).toList ++ rest))) : W p l e (rmy fr lo mc) s m args below meth c H locs kc (12 * kc) Q (F0 m pc ls st) := by
  have e9 : ya ad pz nd 997 = ad 997 := ya_t (by decide)
  have hs := Sub.y (g := g) (q := q) (σ := σ) (σ' := σ') hW.I hpd
  obtain ⟨j, -, hj⟩ := wl_i (ad := ya ad pz nd) (E := yE g ad q σ pz nd) (yIds_t tm_997 : 997 ∈ yIds pd n)
  rw [yE_t (by decide), e9] at hj
  have hr := vx_runV (R := rmy fr lo mc) (e := e) (below := below) (meth := meth) (locs := locs) X.1 (hM H.size) (cwV nA X.1.2.2.2.2 hG rfl rfl rfl hd hR) ⟨pre_blind, va_recv X.2.2.2.1.1 hW.1 (q := (RX4, TX4, 7)) rfl hj, fun U hU hWm => ⟨rfl, r_pre X hW hs U hU hWm⟩⟩ (g := F0 m pc ls st) rfl hn hls.1 hst (lv_room hcat) hdg (cells := kc) (slots := 12 * kc) (by show kc + 0 ≤ mc ∧ 12 * kc + 0 ≤ 12 * mc; omega)
  intro T hT XS
  rcases hr T hT XS with ⟨v, st₀, t, T', L, h0, X', hL, e1, e2, ⟨⟨⟨r, ho, hv⟩, hb⟩, hF⟩, stp⟩ | ⟨q9, st₀, t, T', L, En, ce, h0, X', hL, e1, e2, ⟨rfl, ho, hb, hF⟩, hc1, hc2, hc3, stp⟩
  · cases hv
    have hk := hF.2
    rw [h0] at hk
    obtain ⟨t2, a1, b1⟩ := kk r ho T'.heap (locs ++ L) ⟨by rw [e1]; exact hs.join hW.1 hb hk, hW.2.1, y_fin hW X.2.2.2.2.2 h0 hL hF e1⟩ T' rfl X'
    exact ⟨t2, stp t2 a1, b1⟩
  · have hk := hF.2
    rw [h0] at hk
    have hW' : WBY g A s.heap ad q σ' pd pz n nd T'.heap (locs ++ L) := ⟨by rw [e1]; exact hs.join hW.1 hb hk, hW.2.1, y_fin hW X.2.2.2.2.2 h0 hL hF e1⟩
    obtain ⟨t2, a1, b1⟩ := kx ho T'.heap (locs ++ L) q9 ce hW'.t (by rw [e1]; exact hc1) hc2 hc3 T' rfl X'
    exact ⟨t2, Steps.trans stp a1, b1⟩
/-- one that makes nodes -/
theorem y_callM {ρ : Type} {Rp : va_W → ρ → Nat → Prop} {o : Option ρ} {cnt : Nat} (X : MX p s m args meth c cc nL own ret g A) (hW : WBY g A s.heap ad q σ pd pz n nd H locs) (hpd : pdOk pd) {y : MethodName} {bytes : ByteArray} {maxL fr2 lo2 index nA : Nat} {ret2 : Option FieldType} {As st : List Value}
    (hM : MY l y bytes maxL ret2 fr2 lo2 g ad q σ σ' cnt (.ref (ad 997) :: As) Rp o) (hG : GoodIn lw_all (wsV own index RX4 y (ws_ y bytes maxL ret2))) (hd : y.cls = RX4 ∧ y.cls ≠ "java/lang/invoke/MethodHandle" ∧ y.cls ≠ "java/lang/invoke/VarHandle" ∧ (parseMethodDescriptor y.desc).map (fun d => d.parameters.length) = some nA)
    (hR : fr2 + 1 ≤ fr ∧ 8 + (maxL + 11) + lo2 ≤ lo) (hls : lv_has ls nL lv) (hn : As.length = nA) (hst : st = As.reverse ++ .ref (ad 997) :: rest) (hcat : (rest.map fun v => v.category).sum ≤ 8) (hcs : kc + cnt ≤ mc) (hdg : decode cc pc = .ok (.invokevirtual index, 3))
    (kx : o = none → ∀ (H1 : Heap) (l1 : List Loc) (q9 : Addr) (ce : Cell), WB g A s.heap tIds ad (xE g ad q σ') H1 l1 → H1[q9]? = some ce → ce.vm = .none → s.vm.findClass RX2 = some ce.cls → vx_W p l e (rmy fr lo mc) s m args below meth c H1 l1 (kc + cnt) (12 * (kc + cnt)) Q (F0 m pc ls rest) q9)
    (kk : ∀ (r : ρ) (a : Nat) (nd1 : Nd), o = some r → ∀ (H1 : Heap) (l1 : List Loc), WBY g A s.heap ad q σ' pd pz (n + cnt) (nda n nd nd1) H1 l1 → Rp (ndl cnt nd1) r a → W p l e (rmy fr lo mc) s m args below meth c H1 l1 (kc + cnt) (12 * (kc + cnt)) Q (F0 m (pc + 3) ls (.ref a :: rest))) : W p l e (rmy fr lo mc) s m args below meth c H locs kc (12 * kc) Q (F0 m pc ls st) := by
  have e9 : ya ad pz nd 997 = ad 997 := ya_t (by decide)
  have hs := Sub.y (g := g) (q := q) (σ := σ) (σ' := σ') hW.I hpd
  obtain ⟨j, -, hj⟩ := wl_i (ad := ya ad pz nd) (E := yE g ad q σ pz nd) (yIds_t tm_997 : 997 ∈ yIds pd n)
  rw [yE_t (by decide), e9] at hj
  have hr := vx_runV (R := rmy fr lo mc) (e := e) (below := below) (meth := meth) (locs := locs) X.1 (hM H.size) (cwV nA X.1.2.2.2.2 hG rfl rfl rfl hd hR) ⟨pre_blind, va_recv X.2.2.2.1.1 hW.1 (q := (RX4, TX4, 7)) rfl hj, fun U hU hWm => ⟨rfl, r_pre X hW hs U hU hWm⟩⟩ (g := F0 m pc ls st) rfl hn hls.1 hst (lv_room hcat) hdg (cells := kc) (slots := 12 * kc) (by show kc + cnt ≤ mc ∧ 12 * kc + 12 * cnt ≤ 12 * mc; omega)
  intro T hT XS
  rcases hr T hT XS with ⟨v, st₀, t, T', L, h0, X', hL, e1, e2, ⟨⟨r, a, nd1, ho, hv, hY, hr1⟩, hF⟩, stp⟩ | ⟨q9, st₀, t, T', L, En, ce, h0, X', hL, e1, e2, ⟨rfl, ho, hb, hF⟩, hc1, hc2, hc3, stp⟩
  · rw [← Nat.mul_add] at X'
    cases hv
    have hk := hF.2
    rw [h0] at hk
    obtain ⟨pz1, hP1, hI1⟩ := hY
    have keep : ∀ k ∈ yIds pd n, 19998 ≤ k → ¬ wA tIds ad H.size (ya ad pz nd k) := by
      rintro k hk1 hk2 (⟨j, hj, e3⟩ | h3)
      · rw [← ya_t (pz := pz) (nd := nd) (ad := ad) (tIds_lt j hj)] at e3
        have := hW.I.1 _ _ hk1 (yIds_t hj) e3
        have := tIds_lt j hj
        omega
      · have := (wl_at hW.1 hk1).lt
        exact absurd h3 (Nat.not_le.mpr this)
    have ol : ∀ k ∈ yIds pd n, 19998 ≤ k → va_at g.1 clG (ya ad pz nd k, yE g ad q σ pz nd k) t.heap := by
      intro k hk1 hk2
      have h1 := wl_at hW.1 hk1
      exact h1.kept (hk _ h1.lt (keep k hk1 hk2))
    have nw : ∀ k ∈ yIds [] cnt, va_at g.1 clG (ya ad pz1 nd1 k, yE g ad q σ' pz1 nd1 k) t.heap := fun k hk1 => wl_at hP1 hk1
    have cs : ∀ k ∈ yIds pd (n + cnt), (∃ i, i < cnt ∧ k = 20000 + (n + i)) ∨ (k ∈ yIds pd n ∧ 19998 ≤ k) ∨ (k ∈ tIds ∧ k < 19998) := by
      intro k hk1
      rcases yIds_c hpd hk1 with h1 | ⟨h1, h2, h3⟩ | ⟨i, h1, rfl⟩
      · exact Or.inr (Or.inr h1)
      · exact Or.inr (Or.inl ⟨yIds_p h1, h2⟩)
      · by_cases hi : i < n
        · exact Or.inr (Or.inl ⟨yIds_n hi, by omega⟩)
        · exact Or.inl ⟨i - n, by omega, by omega⟩
    have ao : ∀ k ∈ yIds pd n, 19998 ≤ k → ya ad pz (nda n nd nd1) k = ya ad pz nd k ∧ yE g ad q σ' pz (nda n nd nd1) k = yE g ad q σ pz nd k := by
      intro k hk1 hk2
      rcases yIds_c hpd hk1 with ⟨h1, h2⟩ | ⟨h1, h2, h3⟩ | ⟨i, h1, rfl⟩
      · omega
      · rw [ya_p h2 h3, ya_p h2 h3, yE_p h2 h3, yE_p h2 h3]; exact ⟨rfl, rfl⟩
      · rw [ya_n, ya_n, yE_n, yE_n, nda_l h1]; exact ⟨rfl, rfl⟩
    have an : ∀ i, ya ad pz (nda n nd nd1) (20000 + (n + i)) = ya ad pz1 nd1 (20000 + i) ∧ yE g ad q σ' pz (nda n nd nd1) (20000 + (n + i)) = yE g ad q σ' pz1 nd1 (20000 + i) := by
      intro i
      rw [ya_n, ya_n, yE_n, yE_n, nda_r]; exact ⟨rfl, rfl⟩
    have at_ : ∀ k, k < 19998 → ya ad pz (nda n nd nd1) k = ya ad pz1 nd1 k ∧ yE g ad q σ' pz (nda n nd nd1) k = yE g ad q σ' pz1 nd1 k := by
      intro k hk1
      rw [ya_t hk1, ya_t hk1, yE_t hk1, yE_t hk1]; exact ⟨rfl, rfl⟩
    have hA' := hs.adr hW.2.1.2 hW.2.2 X.2.2.2.2.2
    have hWn : WBY g A s.heap ad q σ' pd pz (n + cnt) (nda n nd nd1) T'.heap (locs ++ L) := by
      refine ⟨wl_P fun k hk1 => ?_, ⟨yIds_nd hpd _, fun i j hi hj e => ?_, fun k hk1 => ?_⟩, y_fin hW X.2.2.2.2.2 h0 hL hF e1⟩
      · rw [e1]
        rcases cs k hk1 with ⟨i, h1, rfl⟩ | ⟨h1, h2⟩ | ⟨h1, h2⟩
        · rw [(an i).1, (an i).2]; exact nw _ (yIds_n h1)
        · rw [(ao k h1 h2).1, (ao k h1 h2).2]; exact ol k h1 h2
        · rw [(at_ k h2).1, (at_ k h2).2]; exact nw _ (yIds_t h1)
      · have ty : ∀ k ∈ yIds pd (n + cnt), (∃ k2 ∈ yIds [] cnt, ya ad pz (nda n nd nd1) k = ya ad pz1 nd1 k2 ∧ (k2 < 19998 ∧ k = k2 ∨ ∃ i, k2 = 20000 + i ∧ k = 20000 + (n + i))) ∨ (k ∈ yIds pd n ∧ 19998 ≤ k ∧ ya ad pz (nda n nd nd1) k = ya ad pz nd k) := by
          intro k hk1
          rcases cs k hk1 with ⟨i, h1, rfl⟩ | ⟨h1, h2⟩ | ⟨h1, h2⟩
          · exact Or.inl ⟨20000 + i, yIds_n h1, (an i).1, Or.inr ⟨i, rfl, rfl⟩⟩
          · exact Or.inr ⟨h1, h2, (ao k h1 h2).1⟩
          · exact Or.inl ⟨k, yIds_t h1, (at_ k h2).1, Or.inl ⟨h2, rfl⟩⟩
        rcases ty i hi with ⟨i2, a1, a2, a3⟩ | ⟨a1, a2, a3⟩ <;> rcases ty j hj with ⟨j2, b1, b2, b3⟩ | ⟨b1, b2, b3⟩
        · have := hI1.1 _ _ a1 b1 (by rw [← a2, ← b2, e])
          subst this
          rcases a3 with ⟨_, a3⟩ | ⟨x, a3, a4⟩ <;> rcases b3 with ⟨_, b3⟩ | ⟨z, b3, b4⟩ <;> omega
        · exact absurd (by rw [← b3, ← e, a2]; exact hI1.2 _ a1) (keep j b1 b2)
        · exact absurd (by rw [← a3, e, b2]; exact hI1.2 _ b1) (keep i a1 a2)
        · exact hW.I.1 _ _ a1 b1 (by rw [← a3, ← b3, e])
      · rcases cs k hk1 with ⟨i, h1, rfl⟩ | ⟨h1, h2⟩ | ⟨h1, h2⟩
        · rw [(an i).1]; exact hA' _ (hI1.2 _ (yIds_n h1))
        · rw [(ao k h1 h2).1]; exact hW.I.2 _ h1
        · rw [(at_ k h2).1]; exact hA' _ (hI1.2 _ (yIds_t h1))
    obtain ⟨t2, a1, b1⟩ := kk r a nd1 ho T'.heap (locs ++ L) hWn hr1 T' rfl X'
    exact ⟨t2, stp t2 a1, b1⟩
  · rw [← Nat.mul_add] at X'
    have hk := hF.2
    rw [h0] at hk
    have hW' : WBY g A s.heap ad q σ' pd pz n nd T'.heap (locs ++ L) := ⟨by rw [e1]; exact hs.join hW.1 hb hk, hW.2.1, y_fin hW X.2.2.2.2.2 h0 hL hF e1⟩
    obtain ⟨t2, a1, b1⟩ := kx ho T'.heap (locs ++ L) q9 ce hW'.t (by rw [e1]; exact hc1) hc2 hc3 T' rfl X'
    exact ⟨t2, Steps.trans stp a1, b1⟩
/-- a new cell, held ahead of its constructor -/
theorem y_add (hW : WBY g A s.heap ad q σ pd pz n nd H locs) {b : Nat} (hb : 19998 ≤ b ∧ b < 20000) (hpd : pdOk (b :: pd)) {a : Nat} {x : va_E} {H1 : Heap} (hP : va_P g.1 clG (wl (yIds pd n) (ya ad pz nd) (yE g ad q σ pz nd) ++ [(a, x)]) H1) (hD : va_D A (wl (yIds pd n) (ya ad pz nd) (yE g ad q σ pz nd) ++ [(a, x)])) (hS : va_S A s.heap H1 locs) : WBY g A s.heap ad q σ (b :: pd) (fun k => if k = b then (a, x) else pz k) n nd H1 locs := by
  have hbn : b ∉ pd := (List.nodup_cons.mp hpd.1).1
  have hpd0 : pdOk pd := ⟨(List.nodup_cons.mp hpd.1).2, fun k hk => hpd.2 k (List.mem_cons_of_mem _ hk)⟩
  have old : ∀ k ∈ yIds (b :: pd) n, k ≠ b → k ∈ yIds pd n ∧ ya ad (fun k => if k = b then (a, x) else pz k) nd k = ya ad pz nd k ∧ yE g ad q σ (fun k => if k = b then (a, x) else pz k) nd k = yE g ad q σ pz nd k := by
    intro k hk hkb
    rcases yIds_c hpd hk with ⟨h1, h2⟩ | ⟨h1, h2, h3⟩ | ⟨i, h1, rfl⟩
    · rw [ya_t h2, ya_t h2, yE_t h2, yE_t h2]; exact ⟨yIds_t h1, rfl, rfl⟩
    · rw [ya_p h2 h3, ya_p h2 h3, yE_p h2 h3, yE_p h2 h3, if_neg hkb]
      exact ⟨yIds_p ((List.mem_cons.mp h1).resolve_left hkb), rfl, rfl⟩
    · rw [ya_n, ya_n, yE_n, yE_n]; exact ⟨yIds_n h1, rfl, rfl⟩
  have hba : ya ad (fun k => if k = b then (a, x) else pz k) nd b = a := by rw [ya_p hb.1 hb.2, if_pos rfl]
  have hbe : yE g ad q σ (fun k => if k = b then (a, x) else pz k) nd b = x := by rw [yE_p hb.1 hb.2, if_pos rfl]
  have far : ∀ k ∈ yIds pd n, ya ad pz nd k ≠ a := by
    intro k hk e
    obtain ⟨j, -, hj⟩ := wl_i (ad := ya ad pz nd) (E := yE g ad q σ pz nd) hk
    have hlt := (List.getElem?_eq_some_iff.mp hj).1
    have := hD.1 j (wl (yIds pd n) (ya ad pz nd) (yE g ad q σ pz nd)).length _ (a, x) (by rw [List.getElem?_append_left hlt]; exact hj) (by rw [List.getElem?_append_right (Nat.le_refl _), Nat.sub_self]; rfl) e
    omega
  obtain ⟨h1, h2⟩ := wl_app1 (ids' := yIds (b :: pd) n) (ad' := ya ad (fun k => if k = b then (a, x) else pz k) nd) (E' := yE g ad q σ (fun k => if k = b then (a, x) else pz k) nd) hP hD (fun k hk => by
    by_cases hkb : k = b
    · subst hkb; rw [hba, hbe]; exact Or.inl rfl
    · obtain ⟨h1, h2, h3⟩ := old k hk hkb
      exact Or.inr ⟨k, h1, by rw [h2, h3]⟩) (fun i hi j hj e => by
    by_cases hib : i = b <;> by_cases hjb : j = b
    · rw [hib, hjb]
    · subst hib
      obtain ⟨h1, h2, h3⟩ := old j hj hjb
      rw [hba, h2] at e
      exact absurd e.symm (far j h1)
    · subst hjb
      obtain ⟨h1, h2, h3⟩ := old i hi hib
      rw [hba, h2] at e
      exact absurd e (far i h1)
    · obtain ⟨h1, h2, -⟩ := old i hi hib
      obtain ⟨h3, h4, -⟩ := old j hj hjb
      rw [h2, h4] at e
      exact hW.I.1 _ _ h1 h3 e)
  exact ⟨h1, ⟨yIds_nd hpd n, h2⟩, hS⟩
theorem y_new (X : MX p s m args meth c cc nL own ret g A) (hW : WBY g A s.heap ad q σ [] pz n nd H locs) {C : String} {T : u_T} {N ci index : Nat} (hin : ∀ w ∈ u_ws C T N, w ∈ lw_all) (ty : Nat → FieldType) (hty : ∀ k, k < N → parseFieldDescriptor (T k).2.2.1 = some (ty k)) (hcl : Cond.classLink own index C ∈ lw_all) (hinst : Cond.instantiable C N ∈ lw_all) (hini : Cond.initialized C ∈ lw_all) (hc : clG[ci]? = some (C, T, N)) {fs : List Value} (hfs : ∀ j, j < N → defaultValue (ty j) = vp_V fs j) (hN : N ≤ 12) (hcs : kc + 1 ≤ mc) (hdg : decode cc pc = .ok (.new index, 3))
    (kk : ∀ (pz : Nd) (H1 : Heap), (pz 19999).2 = .inr (ci, fs) → WBY g A s.heap ad q σ [19999] pz n nd H1 locs → W p l e (rmy fr lo mc) s m args below meth c H1 locs (kc + 1) (12 * (kc + 1)) Q (F0 m (pc + 3) ls (.ref (pz 19999).1 :: rest))) : W p l e (rmy fr lo mc) s m args below meth c H locs kc (12 * kc) Q (F0 m pc ls rest) := by
  refine va_new X.1.1 X.1.2.1 X.1.2.2.2.2 hin ty hty X.1.2.2.2.1 (X.1.2.2.2.2 _ hcl) (X.1.2.2.2.2 _ hinst) (X.1.2.2.2.2 _ hini) X.2.2.2.1.1 hW.1 hW.D hW.2.2 X.2.2.2.2.2 hc hfs (show kc + 1 ≤ mc from hcs) (show 12 * kc + N ≤ 12 * mc by omega) hdg (fun a H1 hP hD hS => ?_)
  have h := y_add hW (b := 19999) (by decide) pdOk_1 hP hD hS
  refine W.widen (Nat.le_refl _) (by omega : 12 * kc + N ≤ 12 * (kc + 1)) ?_
  exact kk _ H1 rfl h
/-- its constructor -/
theorem y_init (X : MX p s m args meth c cc nL own ret g A) (hW : WBY g A s.heap ad q σ pd pz n nd H locs) (hpd : pdOk pd) {b : Nat} (hb : b ∈ pd) {x z : va_E} (hx : (pz b).2 = x) {y : MethodName} {bytes : ByteArray} {maxL fr2 lo2 index nA : Nat} {As st : List Value}
    (hM : MC l y bytes maxL none fr2 lo2 g [0] (fun _ => (pz b).1) (oneE x) (oneE z) (.ref (pz b).1 :: As) none) (hco : Cond.code y bytes maxL none ∈ lw_all) (hini : Cond.initialized y.cls ∈ lw_all) (hlk : Cond.methodLink own index y ∈ lw_all) (hinst : Cond.instanceMethod y ∈ lw_all) (hy1 : y.name = "<init>") (hd : y.cls ≠ "java/lang/invoke/MethodHandle" ∧ y.cls ≠ "java/lang/invoke/VarHandle" ∧ (parseMethodDescriptor y.desc).map (fun d => d.parameters.length) = some nA)
    (hR : fr2 + 1 ≤ fr ∧ 8 + (maxL + 11) + lo2 ≤ lo) (hls : lv_has ls nL lv) (hn : As.length = nA) (hst : st = As.reverse ++ .ref (pz b).1 :: rest) (hcat : (rest.map fun v => v.category).sum ≤ 8) (hcs : kc ≤ mc) (hdg : decode cc pc = .ok (.invokespecial index, 3))
    (kk : ∀ (H1 : Heap) (l1 : List Loc), WBY g A s.heap ad q σ pd (fun k => if k = b then ((pz b).1, z) else pz k) n nd H1 l1 → W p l e (rmy fr lo mc) s m args below meth c H1 l1 kc (12 * kc) Q (F0 m (pc + 3) ls rest)) : W p l e (rmy fr lo mc) s m args below meth c H locs kc (12 * kc) Q (F0 m pc ls st) := by
  obtain ⟨hb1, hb2⟩ := hpd.2 b hb
  have ad' : ∀ k, ya ad (fun k => if k = b then ((pz b).1, z) else pz k) nd k = ya ad pz nd k := by
    intro k
    unfold ya
    split
    · rfl
    · split
      · by_cases hkb : k = b
        · subst hkb; simp
        · simp [hkb]
      · rfl
  have e' : ∀ k, k ≠ b → yE g ad q σ (fun k => if k = b then ((pz b).1, z) else pz k) nd k = yE g ad q σ pz nd k := by
    intro k hkb
    unfold yE
    simp [hkb]
  have hs : Sub (yIds pd n) (ya ad pz nd) (yE g ad q σ pz nd) (yE g ad q σ (fun k => if k = b then ((pz b).1, z) else pz k) nd) [0] (fun _ => (pz b).1) (oneE x) (oneE z) := by
    refine ⟨fun k hk => ⟨b, yIds_p hb, ya_p hb1 hb2, (yE_p hb1 hb2).trans hx⟩, fun j hj => ?_⟩
    by_cases hjb : j = b
    · subst hjb
      exact Or.inl ⟨0, List.mem_cons_self, ya_p hb1 hb2, by rw [yE_p hb1 hb2, if_pos rfl]; rfl⟩
    · refine Or.inr ⟨e' j hjb, fun k hk e => hjb ?_⟩
      rw [← ya_p (ad := ad) (nd := nd) hb1 hb2] at e
      exact hW.I.1 _ _ hj (yIds_p hb) e
  refine r_callI X hW hs hM hco hini hlk hinst hy1 hd hR hls hn hst hcat (by show kc ≤ mc ∧ 12 * kc ≤ 12 * mc; omega) hdg (fun H1 l1 h => kk H1 l1 ?_)
  exact h.perm (yIds_nd hpd n) id (fun k hk => ⟨hk, ad' k, rfl⟩) (fun _ _ _ _ e => e)
/-- what was held becomes a node -/
theorem y_commit (hW : WBY g A s.heap ad q σ pd pz n nd H locs) (hpd : pdOk pd) {b : Nat} {pd' : List Nat} (hpd' : pdOk pd') (hb : b ∈ pd) (hs : ∀ k ∈ pd', k ∈ pd ∧ k ≠ b) {x : Nat × va_E} (hx : pz b = x) : WBY g A s.heap ad q σ pd' pz (n + 1) (nda n nd (fun _ => x)) H locs := by
  obtain ⟨hb1, hb2⟩ := hpd.2 b hb
  subst hx
  refine hW.perm (yIds_nd hpd' _) (fun k => if k = 20000 + n then b else k) (fun k hk => ?_) (fun i hi j hj e => ?_)
  · rcases yIds_c hpd' hk with ⟨h1, h2⟩ | ⟨h1, h2, h3⟩ | ⟨i, h1, rfl⟩
    · simp only [if_neg (show k ≠ 20000 + n by omega)]
      rw [ya_t h2, ya_t h2, yE_t h2, yE_t h2]; exact ⟨yIds_t h1, rfl, rfl⟩
    · simp only [if_neg (show k ≠ 20000 + n by omega)]
      rw [ya_p h2 h3, ya_p h2 h3, yE_p h2 h3, yE_p h2 h3]; exact ⟨yIds_p (hs k h1).1, rfl, rfl⟩
    · by_cases hi : i < n
      · simp only [if_neg (show 20000 + i ≠ 20000 + n by omega)]
        rw [ya_n, ya_n, yE_n, yE_n, nda_l hi]; exact ⟨yIds_n hi, rfl, rfl⟩
      · have : i = n := by omega
        subst this
        simp only [if_true]
        rw [ya_n, yE_n, ya_p hb1 hb2, yE_p hb1 hb2, show nda i nd (fun _ => pz b) i = pz b by unfold nda; rw [if_neg (by omega)]]
        exact ⟨yIds_p hb, rfl, rfl⟩
  · have nb : ∀ k ∈ yIds pd' (n + 1), k ≠ 20000 + n → k ≠ b := by
      intro k hk h1 h2
      subst h2
      rcases yIds_c hpd' hk with ⟨h3, h4⟩ | ⟨h3, h4⟩ | ⟨i, h3, h4⟩
      · omega
      · exact (hs k h3).2 rfl
      · omega
    by_cases h1 : i = 20000 + n <;> by_cases h2 : j = 20000 + n
    · rw [h1, h2]
    · rw [if_pos h1, if_neg h2] at e; exact absurd e.symm (nb j hj h2)
    · rw [if_neg h1, if_pos h2] at e; exact absurd e (nb i hi h1)
    · rw [if_neg h1, if_neg h2] at e; exact e
theorem y_out {ρ : Type} {Rp : va_W → ρ → Nat → Prop} {o : Option ρ} {σr : cS} {cr cnt : Nat} {q9 : Addr} {ce : Cell} (X : MX p s m args meth c cc nL own ret g (wA tIds ad s.heap.size)) (hex : ∀ x ∈ c.exceptionTable.toList, False) (hW : WB g (wA tIds ad s.heap.size) s.heap tIds ad (xE g ad q σ) H locs) (hf : some (σ, 0, (none : Option ρ)) = some (σr, cr, o)) (hk : kc ≤ cnt) (h1 : H[q9]? = some ce) (h2 : ce.vm = .none) (h3 : s.vm.findClass RX2 = some ce.cls) :
    vx_W p l e (rmy fr lo mc) s m args below meth c H locs kc (12 * kc) (QY below g ad q σr cnt Rp o args s s.heap.size) (F0 m pc ls rest) q9 := by
  cases hf
  exact vx_out (fun x hx => (hex x hx).elim) X.2.2.1 h1 h2 h3 (fun t ht _ => ⟨rfl, rfl, by rw [ht]; exact hW.1, hW.2.2.F ht⟩) hW.2.2.2.2 hk (Nat.mul_le_mul_left 12 hk)
theorem y_aret {ρ : Type} {Rp : va_W → ρ → Nat → Prop} {o : Option ρ} {σr : cS} {cr cnt a : Nat} {r : ρ} {C : String} (X : MX p s m args meth c cc nL own (some (.object C)) g (wA tIds ad s.heap.size)) (hW : WBY g (wA tIds ad s.heap.size) s.heap ad q σ [] pz n nd H locs) (hkc : kc = n) (hr : Rp (ndl n nd) r a) (hf : some (σ, 0, some r) = some (σr, cr, o)) (hn : n + cr = cnt) (hdg : decode cc pc = .ok (.areturn, 1)) : W p l e (rmy fr lo mc) s m args below meth c H locs kc (12 * kc) (QY below g ad q σr cnt Rp o args s s.heap.size) (F0 m pc ls [.ref a]) := by
  subst hkc
  cases hf
  have hn : kc = cnt := hn
  subst hn
  exact vx_ret (W.aret X.1.1 X.1.2.1 X.2.1 (Or.inl ⟨_, rfl⟩) (Or.inr ⟨_, rfl⟩) (fun t ht _ => ⟨⟨r, a, nd, rfl, rfl, ⟨pz, by rw [ht]; exact hW.1, hW.I⟩, hr⟩, hW.2.2.F ht⟩) hW.2.2.2.2 hdg X.2.2.1)
end YW
