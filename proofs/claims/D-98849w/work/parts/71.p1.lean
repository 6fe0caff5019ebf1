/-! PURE LAW: a Dough's chunk δ against the model's rows σ; a night -/
set_option maxRecDepth 100000
def Rs (mm vv ww t u : Nat) (δ σ : cS) : Prop := (δ.1 999 0 = nI mm ∧ σ.1 1 0 = nI mm) ∧ δ.1 999 1 = σ.1 1 1 ∧ (δ.1 999 2 = nI vv ∧ σ.1 1 2 = nI vv) ∧ (δ.1 999 3 = nI ww ∧ σ.1 1 3 = nI ww) ∧ δ.1 999 7 = σ.1 1 4 ∧ δ.1 999 8 = nI t ∧ σ.1 1 5 = nI u
def Rl (δ σ : cS) : Prop := ∀ i, i < 10 → δ.1 16 i = σ.1 2 i ∧ lk (σ.1 2 i) ∧ δ.1 17 i = σ.1 3 i ∧ δ.1 18 i = σ.1 4 i
def Rv (cz mm vv : Nat) (δ σ : cS) : Prop := (∀ v, v < vv → (∃ m, m < mm ∧ δ.1 11 v = nI m ∧ σ.1 6 v = nI m) ∧ δ.1 12 v = σ.1 7 v ∧ δ.1 13 v = σ.1 8 v) ∧ ∀ v, v < cz → δ.1 19 v = σ.1 9 v
def Rw (vv ww : Nat) (δ σ : cS) : Prop := ∀ w, w < ww → (∃ v, v < vv ∧ δ.1 14 (2 * w) = nI v ∧ σ.1 10 w = nI v) ∧ δ.1 14 (2 * w + 1) = σ.1 11 w
def Rt (δ σ : cS) : Prop := ∀ i, i < 100 → δ.1 10 i = σ.1 5 i
def Rb (cz mm vv ww t u : Nat) : Prop := 2 ≤ mm ∧ mm ≤ 10 ∧ vv ≤ 8 ∧ ww ≤ 8 ∧ t < 1000000 ∧ u < 1000000 ∧ cz ≤ 8
/-- cz: how many of the counts of crossings are the same on both sides (8, or 0) -/
def Rm (cz mm vv ww t u : Nat) (δ σ : cS) : Prop := Rs mm vv ww t u δ σ ∧ Rl δ σ ∧ Rv cz mm vv δ σ ∧ Rw vv ww δ σ ∧ Rt δ σ ∧ Rb cz mm vv ww t u
abbrev Rn (mm vv ww t u : Nat) (δ σ : cS) : Prop := Rm 8 mm vv ww t u δ σ
/-- what a night may change in the model -/
def Fm (σ σ' : cS) : Prop := (∀ k, k ≠ 1 → k ≠ 2 → k ≠ 3 → k ≠ 9 → k ≠ 47 → k ≠ 48 → σ'.1 k = σ.1 k) ∧ ∀ i, i ≠ 5 → σ'.1 1 i = σ.1 1 i
theorem Fm.rf {σ : cS} : Fm σ σ := ⟨fun _ _ _ _ _ _ _ => rfl, fun _ _ => rfl⟩
theorem Fm.tr {a b c : cS} (h : Fm a b) (h2 : Fm b c) : Fm a c := ⟨fun k h1 h3 h4 h5 h6 h7 => (h2.1 k h1 h3 h4 h5 h6 h7).trans (h.1 k h1 h3 h4 h5 h6 h7), fun i hi => (h2.2 i hi).trans (h.2 i hi)⟩
theorem Fm.ss {σ : cS} {k i : Nat} {v : Int32} (hk : k = 2 ∨ k = 3 ∨ k = 9 ∨ k = 47 ∨ k = 48) : Fm σ (si σ k i v) := ⟨fun j h1 h2 h3 h4 h5 h6 => si_o (by omega), fun j _ => by rw [si_o (by omega)]⟩
theorem Fm.s5 {σ : cS} {v : Int32} : Fm σ (si σ 1 5 v) := ⟨fun j h1 _ _ _ _ _ => si_o h1, fun j hj => si_p hj⟩
theorem Fm.sl {σ : cS} {k i : Nat} {v : Int64} : Fm σ (sL σ k i v) := ⟨fun _ _ _ _ _ _ _ => rfl, fun _ _ => rfl⟩
theorem Fm.e1 {σ σ' : cS} (h : σ'.1 = σ.1) : Fm σ σ' := ⟨fun _ _ _ _ _ _ _ => by rw [h], fun _ _ => by rw [h]⟩
/-- what a night may change in a Dough -/
def Fx (δ δ' : cS) : Prop := (∀ k, k ≠ 999 → k ≠ 16 → k ≠ 17 → k ≠ 19 → k ≠ 21 → k ≠ 22 → δ'.1 k = δ.1 k) ∧ ∀ i, i ≠ 8 → δ'.1 999 i = δ.1 999 i
theorem Fx.rf {δ : cS} : Fx δ δ := ⟨fun _ _ _ _ _ _ _ => rfl, fun _ _ => rfl⟩
theorem Fx.tr {a b c : cS} (h : Fx a b) (h2 : Fx b c) : Fx a c := ⟨fun k h1 h3 h4 h5 h6 h7 => (h2.1 k h1 h3 h4 h5 h6 h7).trans (h.1 k h1 h3 h4 h5 h6 h7), fun i hi => (h2.2 i hi).trans (h.2 i hi)⟩
theorem Fx.ss {δ : cS} {k i : Nat} {v : Int32} (hk : k = 16 ∨ k = 17 ∨ k = 19 ∨ k = 21 ∨ k = 22) : Fx δ (si δ k i v) := ⟨fun j h1 h2 h3 h4 h5 h6 => si_o (by omega), fun j _ => by rw [si_o (by omega)]⟩
theorem Fx.s8 {δ : cS} {v : Int32} : Fx δ (si δ 999 8 v) := ⟨fun j h1 _ _ _ _ _ => si_o h1, fun j hj => si_p hj⟩
theorem Fx.e1 {δ δ' : cS} (h : δ'.1 = δ.1) : Fx δ δ' := ⟨fun _ _ _ _ _ _ _ => by rw [h], fun _ _ => by rw [h]⟩
def FF (δ σ a b : cS) : Prop := Fm σ b ∧ Fx δ a
theorem FF.rf {δ σ : cS} : FF δ σ δ σ := ⟨Fm.rf, Fx.rf⟩
theorem FF.tr {δ σ a b c d : cS} (h : FF δ σ a b) (h2 : FF a b c d) : FF δ σ c d := ⟨h.1.tr h2.1, h.2.tr h2.2⟩
theorem FF.st {δ σ a b : cS} {k i k' i' : Nat} {v v' : Int32} (h : FF δ σ a b) (hk : k = 16 ∨ k = 17 ∨ k = 19 ∨ k = 21 ∨ k = 22) (hk' : k' = 2 ∨ k' = 3 ∨ k' = 9 ∨ k' = 47 ∨ k' = 48) : FF δ σ (si a k i v) (si b k' i' v') := ⟨h.1.tr (Fm.ss hk'), h.2.tr (Fx.ss hk)⟩
section RN
variable {cz mm vv ww t u : Nat} {δ σ δ' σ' : cS}
theorem Rm.m10 (h : Rm cz mm vv ww t u δ σ) : mm ≤ 10 := h.2.2.2.2.2.2.1
theorem Rm.v8 (h : Rm cz mm vv ww t u δ σ) : vv ≤ 8 := h.2.2.2.2.2.2.2.1
theorem Rm.w8 (h : Rm cz mm vv ww t u δ σ) : ww ≤ 8 := h.2.2.2.2.2.2.2.2.1
theorem Rm.dm (h : Rm cz mm vv ww t u δ σ) : δ.1 999 0 = nI mm := h.1.1.1
theorem Rm.m_ (h : Rm cz mm vv ww t u δ σ) : σ.1 1 0 = nI mm := h.1.1.2
theorem Rm.m' (h : Rm cz mm vv ww t u δ σ) : σ.1 1 (ix 0) = nI mm := h.1.1.2
theorem Rm.dv (h : Rm cz mm vv ww t u δ σ) : δ.1 999 2 = nI vv := h.1.2.2.1.1
theorem Rm.mv (h : Rm cz mm vv ww t u δ σ) : σ.1 1 2 = nI vv := h.1.2.2.1.2
theorem Rm.mv' (h : Rm cz mm vv ww t u δ σ) : σ.1 1 (ix 2) = nI vv := h.1.2.2.1.2
theorem Rm.dw (h : Rm cz mm vv ww t u δ σ) : δ.1 999 3 = nI ww := h.1.2.2.2.1.1
theorem Rm.mw (h : Rm cz mm vv ww t u δ σ) : σ.1 1 3 = nI ww := h.1.2.2.2.1.2
theorem Rm.mw' (h : Rm cz mm vv ww t u δ σ) : σ.1 1 (ix 3) = nI ww := h.1.2.2.2.1.2
theorem Rm.bd (h : Rm cz mm vv ww t u δ σ) : δ.1 999 7 = σ.1 1 4 := h.1.2.2.2.2.1
theorem Rm.dt (h : Rm cz mm vv ww t u δ σ) : δ.1 999 8 = nI t := h.1.2.2.2.2.2.1
theorem Rm.mt (h : Rm cz mm vv ww t u δ σ) : σ.1 1 5 = nI u := h.1.2.2.2.2.2.2
theorem Rm.ln (h : Rm cz mm vv ww t u δ σ) {i : Nat} (hi : i < 10) : δ.1 16 i = σ.1 2 i := (h.2.1 i hi).1
theorem Rm.lb (h : Rm cz mm vv ww t u δ σ) {i : Nat} (hi : i < 10) : lk (σ.1 2 i) := (h.2.1 i hi).2.1
theorem Rm.dg (h : Rm cz mm vv ww t u δ σ) {i : Nat} (hi : i < 10) : δ.1 17 i = σ.1 3 i := (h.2.1 i hi).2.2.1
theorem Rm.sl (h : Rm cz mm vv ww t u δ σ) {i : Nat} (hi : i < 10) : δ.1 18 i = σ.1 4 i := (h.2.1 i hi).2.2.2
theorem Rm.at_ (h : Rm cz mm vv ww t u δ σ) {v : Nat} (hv : v < vv) : ∃ m, m < mm ∧ δ.1 11 v = nI m ∧ σ.1 6 v = nI m := (h.2.2.1.1 v hv).1
theorem Rm.pl (h : Rm cz mm vv ww t u δ σ) {v : Nat} (hv : v < vv) : δ.1 12 v = σ.1 7 v := (h.2.2.1.1 v hv).2.1
theorem Rm.wh (h : Rm cz mm vv ww t u δ σ) {v : Nat} (hv : v < vv) : δ.1 13 v = σ.1 8 v := (h.2.2.1.1 v hv).2.2
theorem Rm.cr (h : Rm cz mm vv ww t u δ σ) {v : Nat} (hv : v < cz) : δ.1 19 v = σ.1 9 v := h.2.2.1.2 v hv
/-- what is read of a chunk -/
theorem Rm.cx (h : Rm cz mm vv ww t u δ σ) (h0 : δ'.1 999 = δ.1 999) (hk : ∀ k, 10 ≤ k → k ≤ 19 → k ≠ 15 → δ'.1 k = δ.1 k) : Rm cz mm vv ww t u δ' σ := by
  unfold Rm Rs Rl Rv Rw Rt at *
  rw [h0, hk 16 (by decide) (by decide) (by decide), hk 17 (by decide) (by decide) (by decide), hk 18 (by decide) (by decide) (by decide), hk 11 (by decide) (by decide) (by decide), hk 12 (by decide) (by decide) (by decide), hk 13 (by decide) (by decide) (by decide), hk 19 (by decide) (by decide) (by decide), hk 14 (by decide) (by decide) (by decide), hk 10 (by decide) (by decide) (by decide)]
  exact h
theorem Rm.cm (h : Rm cz mm vv ww t u δ σ) (hk : ∀ k, 1 ≤ k → k ≤ 11 → σ'.1 k = σ.1 k) : Rm cz mm vv ww t u δ σ' := by
  unfold Rm Rs Rl Rv Rw Rt at *
  rw [hk 1 (by decide) (by decide), hk 2 (by decide) (by decide), hk 3 (by decide) (by decide), hk 4 (by decide) (by decide), hk 5 (by decide) (by decide), hk 6 (by decide) (by decide), hk 7 (by decide) (by decide), hk 8 (by decide) (by decide), hk 9 (by decide) (by decide), hk 10 (by decide) (by decide), hk 11 (by decide) (by decide)]
  exact h
theorem Rm.dough {i : Nat} {x : Int32} (h : Rm cz mm vv ww t u δ σ) : Rm cz mm vv ww t u (si δ 17 i x) (si σ 3 i x) := by
  obtain ⟨hs, hl, hv, hw, ht, hb⟩ := h
  refine ⟨hs, fun k hk => ?_, hv, hw, ht, hb⟩
  obtain ⟨h1, h2, h3, h4⟩ := hl k hk
  refine ⟨h1, h2, ?_, h4⟩
  rw [si_s, si_s]
  exact upd_c h3
theorem Rm.salt {i : Nat} {x : Int32} (h : Rm cz mm vv ww t u δ σ) : Rm cz mm vv ww t u (si δ 18 i x) (si σ 4 i x) := by
  obtain ⟨hs, hl, hv, hw, ht, hb⟩ := h
  refine ⟨hs, fun k hk => ?_, hv, hw, ht, hb⟩
  obtain ⟨h1, h2, h3, h4⟩ := hl k hk
  refine ⟨h1, h2, h3, ?_⟩
  rw [si_s, si_s]
  exact upd_c h4
theorem Rm.line {i : Nat} {x : Int32} (h : Rm cz mm vv ww t u δ σ) (hx : lk x) : Rm cz mm vv ww t u (si δ 16 i x) (si σ 2 i x) := by
  obtain ⟨hs, hl, hv, hw, ht, hb⟩ := h
  refine ⟨hs, fun k hk => ?_, hv, hw, ht, hb⟩
  obtain ⟨h1, h2, h3, h4⟩ := hl k hk
  rw [si_s, si_s]
  exact ⟨upd_c h1, upd_P h2 hx, h3, h4⟩
theorem Rm.cross {v : Nat} {x y : Int32} (h : Rm cz mm vv ww t u δ σ) (hx : v < cz → x = y) : Rm cz mm vv ww t u (si δ 19 v x) (si σ 9 v y) := by
  obtain ⟨hs, hl, hv, hw, ht, hb⟩ := h
  refine ⟨hs, hl, ⟨hv.1, fun k hk => ?_⟩, hw, ht, hb⟩
  rw [si_s, si_s]
  by_cases e : k = v
  · subst e
    rw [upd_a, upd_a]; exact hx hk
  · rw [upd_o e, upd_o e]; exact hv.2 k hk
theorem Rm.bake {x : Int32} (h : Rm cz mm vv ww t u δ σ) : Rm cz mm vv ww t u (si δ 999 7 x) (si σ 1 4 x) := by
  obtain ⟨⟨h1, h2, h3, h4, h5, h6, h7⟩, hl, hv, hw, ht, hb⟩ := h
  refine ⟨⟨?_, ?_, ?_, ?_, ?_, ?_, ?_⟩, hl, hv, hw, ht, hb⟩
  · exact ⟨by rw [si_p (by decide)]; exact h1.1, by rw [si_p (by decide)]; exact h1.2⟩
  · rw [si_p (by decide), si_p (by decide)]; exact h2
  · exact ⟨by rw [si_p (by decide)]; exact h3.1, by rw [si_p (by decide)]; exact h3.2⟩
  · exact ⟨by rw [si_p (by decide)]; exact h4.1, by rw [si_p (by decide)]; exact h4.2⟩
  · rw [si_a, si_a]
  · rw [si_p (by decide)]; exact h6
  · rw [si_p (by decide)]; exact h7
theorem Rm.nowx {t' : Nat} (h : Rm cz mm vv ww t u δ σ) (ht' : t' < 1000000) : Rm cz mm vv ww t' u (si δ 999 8 (nI t')) σ := by
  obtain ⟨⟨h1, h2, h3, h4, h5, h6, h7⟩, hl, hv, hw, ht, hb⟩ := h
  refine ⟨⟨?_, ?_, ?_, ?_, ?_, ?_, h7⟩, hl, hv, hw, ht, hb.1, hb.2.1, hb.2.2.1, hb.2.2.2.1, ht', hb.2.2.2.2.2⟩
  · exact ⟨by rw [si_p (by decide)]; exact h1.1, h1.2⟩
  · rw [si_p (by decide)]; exact h2
  · exact ⟨by rw [si_p (by decide)]; exact h3.1, h3.2⟩
  · exact ⟨by rw [si_p (by decide)]; exact h4.1, h4.2⟩
  · rw [si_p (by decide)]; exact h5
  · rw [si_a]
theorem Rm.nowm {u' : Nat} (h : Rm cz mm vv ww t u δ σ) (hu' : u' < 1000000) : Rm cz mm vv ww t u' δ (si σ 1 5 (nI u')) := by
  obtain ⟨⟨h1, h2, h3, h4, h5, h6, h7⟩, hl, hv, hw, ht, hb⟩ := h
  refine ⟨⟨?_, ?_, ?_, ?_, ?_, h6, ?_⟩, hl, hv, hw, ht, hb.1, hb.2.1, hb.2.2.1, hb.2.2.2.1, hb.2.2.2.2.1, hu', hb.2.2.2.2.2.2⟩
  · exact ⟨h1.1, by rw [si_p (by decide)]; exact h1.2⟩
  · rw [si_p (by decide)]; exact h2
  · exact ⟨h3.1, by rw [si_p (by decide)]; exact h3.2⟩
  · exact ⟨h4.1, by rw [si_p (by decide)]; exact h4.2⟩
  · rw [si_p (by decide)]; exact h5
  · rw [si_a]
/-- a store into a scratch row -/
theorem Rm.sx {k i : Nat} {x : Int32} (h : Rm cz mm vv ww t u δ σ) (hk : k = 20 ∨ k = 21 ∨ k = 22) : Rm cz mm vv ww t u (si δ k i x) σ := h.cx (si_o (by omega)) (fun j h1 h2 _ => si_o (by omega))
theorem Rm.sm {k i : Nat} {x : Int32} (h : Rm cz mm vv ww t u δ σ) (hk : 12 ≤ k) : Rm cz mm vv ww t u δ (si σ k i x) := h.cm (fun j h1 h2 => si_o (by omega))
/-- on which side a village lies -/
def sd (l p : Int32) : Int32 := if l ≤ p then (if p ≤ l then 2 else 1) else 0
theorem sd_o (l p : Int32) : (if l ≤ p then (if p ≤ l then some (2 : Int32) else some 1) else some 0) = some (sd l p) := by
  unfold sd
  split
  · split <;> rfl
  · rfl
theorem Rm.side (h : Rm cz mm vv ww t u δ σ) {v : Nat} (hv : v < vv) : ∃ s, d_sideOf δ (nI v) = some s ∧ m_sideOf σ (nI v) = some s := by
  have h8 := h.v8
  have h10 := h.m10
  obtain ⟨m, hm, e1, e2⟩ := h.at_ hv
  refine ⟨sd (σ.1 2 m) (σ.1 7 v), ?_, ?_⟩
  · unfold d_sideOf
    rw [ixn (by omega), inbn (by omega) (by decide), e1, inbn (by omega) (by decide), ixn (by omega), h.ln (by omega), h.pl hv]
    exact sd_o _ _
  · unfold m_sideOf
    rw [ixn (by omega), inbn (by omega) (by decide), e2, inbn (by omega) (by decide), ixn (by omega)]
    exact sd_o _ _
/-- where the villages lay -/
def Ly (n : Nat) (δ σ : cS) : Prop := ∀ v, v < n → δ.1 22 v = σ.1 48 v
theorem jn_remembers (h : Rm cz mm vv ww t u δ σ) : JJ (d_remembers δ) (m_notesSides σ) (fun a b => Rm cz mm vv ww t u a b ∧ FF δ σ a b ∧ Ly vv a b) := by
  have h8 := h.v8
  unfold d_remembers m_notesSides
  refine JJ.loop (Lx := fun n s i => d_remembers_2 (fun s => some s) n s i) (Lm := fun n s i => m_notesSides_2 (fun s => some s) n s i) (I := fun j a b => Rm cz mm vv ww t u a b ∧ FF δ σ a b ∧ Ly j a b) (N := vv) ?_ ?_ vv 0 (by omega) FU FU (FU_gt (by omega)) (FU_gt (by omega)) δ σ ⟨h, FF.rf, fun v hv => absurd hv (by omega)⟩
  · intro n n' j a b hj ⟨hR, hF, hL⟩ k
    show JJ (d_remembers_2 _ (n + 1) a (nI j)) (m_notesSides_2 _ (n' + 1) b (nI j)) _
    rw [d_remembers_2, m_notesSides_2]
    refine JJ.el (by rw [hR.dv]; exact nI_ge hj (by omega)) (JJ.er (by rw [hR.mv']; exact nI_ge hj (by omega)) ?_)
    obtain ⟨s, e1, e2⟩ := hR.side hj
    refine JJ.bl e1 (JJ.br e2 (JJ.gl (inbn (by omega) (by decide)) (JJ.gr (inbn (by omega) (by decide)) ?_)))
    rw [ixn (by omega), nI_1]
    refine k _ _ ⟨(hR.sx (by omega)).sm (by omega), hF.st (by omega) (by omega), fun v hv => ?_⟩
    rw [si_s, si_s]
    by_cases e : v = j
    · subst e; rw [upd_a, upd_a]
    · exact upd_c (hL v (by omega))
  · intro n n' a b ⟨hR, hF, hL⟩
    show JJ (d_remembers_2 _ (n + 1) a (nI vv)) (m_notesSides_2 _ (n' + 1) b (nI vv)) _
    rw [d_remembers_2, m_notesSides_2]
    exact JJ.tl (by rw [hR.dv]; exact nI_le (Nat.le_refl _) (by omega)) (JJ.tr (by rw [hR.mv']; exact nI_le (Nat.le_refl _) (by omega)) (JJ.ret ⟨hR, hF, hL⟩))
theorem jn_counts (h : Rm cz mm vv ww t u δ σ) (hL : Ly vv δ σ) : JJ (d_countsCrossed δ) (m_crossing σ) (fun a b => (a.2 = b.2 ∧ ∃ c, c ≤ 8 ∧ a.2 = nI c) ∧ Rm cz mm vv ww t u a.1 b.1 ∧ FF δ σ a.1 b.1) := by
  have h8 := h.v8
  unfold d_countsCrossed m_crossing
  refine JJ.loop (S := cS × Int32) (T := cS × Int32) (Lx := fun n s i => d_countsCrossed_4 (fun s v => some (s, v)) n s.1 s.2 i) (Lm := fun n s i => m_crossing_4 (fun s v => some (s, v)) n s.1 s.2 i) (I := fun j a b => (a.2 = b.2 ∧ ∃ c, c ≤ j ∧ a.2 = nI c) ∧ Rm cz mm vv ww t u a.1 b.1 ∧ FF δ σ a.1 b.1 ∧ Ly vv a.1 b.1) (N := vv) ?_ ?_ vv 0 (by omega) FU FU (FU_gt (by omega)) (FU_gt (by omega)) (δ, 0) (σ, 0) ⟨⟨rfl, 0, Nat.le_refl _, rfl⟩, h, FF.rf, hL⟩
  · rintro n n' j ⟨a, c⟩ ⟨b, c'⟩ hj ⟨hc, hR, hF, hL⟩ k
    show JJ (d_countsCrossed_4 _ (n + 1) a c (nI j)) (m_crossing_4 _ (n' + 1) b c' (nI j)) _
    dsimp only at hc hR hF hL
    obtain ⟨hc, cn, hcn, ecn⟩ := hc
    subst hc
    rw [d_countsCrossed_4, m_crossing_4]
    refine JJ.el (by rw [hR.dv]; exact nI_ge hj (by omega)) (JJ.er (by rw [hR.mv']; exact nI_ge hj (by omega)) ?_)
    obtain ⟨s, e1, e2⟩ := hR.side hj
    refine JJ.bl e1 (JJ.br e2 (JJ.gl (inbn (by omega) (by decide)) (JJ.gr (inbn (by omega) (by decide)) ?_)))
    rw [ixn (by omega), nI_1]
    refine JJ.ii (by rw [hL j hj]) (fun _ _ => k (a, c) (b, c) ⟨⟨rfl, cn, by omega, ecn⟩, hR, hF, hL⟩) (fun _ _ => ?_)
    refine k (si a 19 j (a.1 19 j + 1), c + 1) (si b 9 j (b.1 9 j + 1), c + 1) ⟨⟨rfl, cn + 1, by omega, by dsimp only; rw [ecn, nI_1]⟩, hR.cross (fun q => by rw [hR.cr q]), hF.st (by omega) (by omega), fun v hv => ?_⟩
    rw [si_o (by decide), si_o (by decide)]
    exact hL v hv
  · rintro n n' ⟨a, c⟩ ⟨b, c'⟩ ⟨hc, hR, hF, hL⟩
    show JJ (d_countsCrossed_4 _ (n + 1) a c (nI vv)) (m_crossing_4 _ (n' + 1) b c' (nI vv)) _
    dsimp only at hc hR hF hL
    obtain ⟨hc, cn, hcn, ecn⟩ := hc
    rw [d_countsCrossed_4, m_crossing_4]
    exact JJ.tl (by rw [hR.dv]; exact nI_le (Nat.le_refl _) (by omega)) (JJ.tr (by rw [hR.mv']; exact nI_le (Nat.le_refl _) (by omega)) (JJ.ret ⟨⟨hc, cn, by omega, ecn⟩, hR, hF⟩))
theorem jn_villagesIn (h : Rm cz mm vv ww t u δ σ) {m : Nat} (hm : m < mm) (sd : Int32) : ∃ r, d_villagesIn δ (nI m) sd = some r ∧ m_villagesIn σ (nI m) sd = some r := by
  have h8 := h.v8
  have h10 := h.m10
  have key : JJ (d_villagesIn δ (nI m) sd) (m_villagesIn σ (nI m) sd) (fun a b => a = b) := by
    unfold d_villagesIn m_villagesIn
    refine JJ.loop (S := Int32) (T := Int32) (Lx := fun n s i => d_villagesIn_5 δ (nI m) sd (fun v => some v) n s i) (Lm := fun n s i => m_villagesIn_5 σ (nI m) sd (fun v => some v) n s i) (I := fun j a b => a = b) (N := vv) ?_ ?_ vv 0 (by omega) FU FU (FU_gt (by omega)) (FU_gt (by omega)) 0 0 rfl
    · intro n n' j a b hj hI k
      subst hI
      show JJ (d_villagesIn_5 δ _ _ _ (n + 1) a (nI j)) (m_villagesIn_5 σ _ _ _ (n' + 1) a (nI j)) _
      rw [d_villagesIn_5, m_villagesIn_5]
      refine JJ.el (by rw [h.dv]; exact nI_ge hj (by omega)) (JJ.er (by rw [h.mv']; exact nI_ge hj (by omega)) ?_)
      obtain ⟨s, e1, e2⟩ := h.side hj
      obtain ⟨m', hm', e3, e4⟩ := h.at_ hj
      refine JJ.gl (inbn (by omega) (by decide)) (JJ.gr (inbn (by omega) (by decide)) ?_)
      rw [ixn (by omega), nI_1, e3, e4]
      refine JJ.ii Iff.rfl (fun _ _ => JJ.bl e1 (JJ.br e2 (JJ.ii Iff.rfl (fun _ _ => k _ _ rfl) (fun _ _ => k _ _ rfl)))) (fun _ _ => k _ _ rfl)
    · intro n n' a b hI
      show JJ (d_villagesIn_5 δ _ _ _ (n + 1) a (nI vv)) (m_villagesIn_5 σ _ _ _ (n' + 1) b (nI vv)) _
      rw [d_villagesIn_5, m_villagesIn_5]
      exact JJ.tl (by rw [h.dv]; exact nI_le (Nat.le_refl _) (by omega)) (JJ.tr (by rw [h.mv']; exact nI_le (Nat.le_refl _) (by omega)) (JJ.ret hI))
  obtain ⟨a, b, h1, h2, rfl⟩ := key
  exact ⟨a, h1, h2⟩
end RN
