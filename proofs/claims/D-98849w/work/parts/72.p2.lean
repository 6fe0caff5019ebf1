/-! PURE LAW: the creep of a mile, a night, on both sides -/
set_option maxRecDepth 100000
theorem OO.nq {α τ : Type} {x : τ} {f : τ → Option α} {P : α → Prop} {Q : τ → Prop} (h : Q x) (k : ∀ z, Q z → OO (f z) P) : OO (nmb x f) P := k x h
theorem sL_1 {σ : cS} {k i : Nat} {v : Int64} : (sL σ k i v).1 = σ.1 := rfl
theorem sL_a {σ : cS} {k i : Nat} {v : Int64} : (sL σ k i v).2 k i = v := by simp [sL, va_up, vp_updL]
theorem sL_p {σ : cS} {k i j : Nat} {v : Int64} (h : j ≠ i) : (sL σ k i v).2 k j = σ.2 k j := by simp [sL, va_up, vp_updL, h]
/-- the first n of a row of longs -/
def Wq (K : Nat) (L : List Int64) (s0 : cS) (n : Nat) (a : cS) : Prop := a.1 = s0.1 ∧ ∀ i, i < n → a.2 K i = L.getD i 0
theorem Wq.step {K : Nat} {L : List Int64} {s0 a : cS} {x : Int64} (n : Nat) (h : Wq K L s0 n a) (hn : n < 2 ^ 31) (hx : x = L.getD n 0) : Wq K L s0 (n + 1) (sL a K (ix (nI n)) x) := by
  rw [ixn hn]
  refine ⟨h.1, fun i hi => ?_⟩
  by_cases e : i = n
  · subst e; rw [sL_a]; exact hx
  · rw [sL_p e]; exact h.2 i (by omega)
theorem Wq.z {K : Nat} {L : List Int64} {s0 : cS} : Wq K L s0 0 s0 := ⟨rfl, fun i hi => absurd hi (by omega)⟩
/-- what a rule is asked -/
def wdL (σ : cS) (mm m : Nat) (w r9 r10 r11 : Int32) : List Int64 := [(nI m).toInt64, (σ.1 2 m).toInt64, (σ.1 3 m).toInt64, (σ.1 4 m).toInt64, (σ.1 1 1).toInt64, w.toInt64, (σ.1 1 5).toInt64, (σ.1 2 (m - 1)).toInt64, (σ.1 2 (min (mm - 1) (m + 1))).toInt64, r9.toInt64, r10.toInt64, r11.toInt64]
/-- crusts beside a mile -/
def cru (b : Int32) (mm m : Nat) : Int32 := (if m = 0 then 0 else bk b (nI (m - 1))) + (if mm ≤ m + 1 then 0 else bk b (nI (m + 1)))
theorem nI_m1 {m : Nat} (h : 0 < m) : nI m - 1 = nI (m - 1) := by
  obtain ⟨k, rfl⟩ : ∃ k, m = k + 1 := ⟨m - 1, by omega⟩
  exact nI_pred k
theorem jmax0 {m : Nat} (h : m < 2 ^ 31) : jmax 0 (nI m - 1) = nI (m - 1) := by
  by_cases e : m = 0
  · subst e; decide
  · rw [nI_m1 (by omega)]
    unfold jmax
    by_cases e2 : m = 1
    · subst e2; decide
    · exact if_pos (by rw [show (0 : Int32) = nI 0 from rfl, nI_ltI (by decide) (by omega)]; omega)
theorem jminm {a b : Nat} (ha : a < 2 ^ 31) (hb : b < 2 ^ 31) : jmin (nI a) (nI b) = nI (min a b) := by
  unfold jmin
  rw [ifc (nI_ltI hb ha)]
  split
  · rw [Nat.min_eq_right (by omega)]
  · rw [Nat.min_eq_left (by omega)]
theorem m_crust_eq (σ : cS) {mm m : Nat} (h : σ.1 1 (ix 0) = nI mm) (hm : m < mm) (h10 : mm ≤ 10) : m_crustOf σ (nI m) = some (cru (σ.1 1 4) mm m) := by
  unfold m_crustOf cru
  rw [m_isBaked_eq, m_isBaked_eq, h, nI_1]
  by_cases e : m = 0
  · subst e
    rw [if_pos (by decide : nI 0 ≤ 0), if_pos rfl]
    show (if nI mm ≤ nI (0 + 1) then _ else _) = _
    rw [ifc (nI_leI (by omega) (by omega))]
    by_cases e2 : mm ≤ 0 + 1
    · rw [if_pos e2, if_pos e2]; rfl
    · rw [if_neg e2, if_neg e2]
      show (if bk _ _ = 0 then _ else _) = _
      rcases bk_c (σ.1 1 4) (nI (0 + 1)) with q | q <;> rw [q] <;> rfl
  · rw [if_neg (nI_nle (by omega) (by omega)), if_neg e, nI_m1 (by omega)]
    rcases bk_c (σ.1 1 4) (nI (m - 1)) with q | q <;> rw [q]
    all_goals
      show (if nI mm ≤ nI (m + 1) then _ else _) = _
      rw [ifc (nI_leI (by omega) (by omega))]
      by_cases e2 : mm ≤ m + 1
      · rw [if_pos e2, if_pos e2]; rfl
      · rw [if_neg e2, if_neg e2]
        show (if bk _ _ = 0 then _ else _) = _
        rcases bk_c (σ.1 1 4) (nI (m + 1)) with q | q <;> rw [q] <;> rfl
section RC
variable {cz mm vv ww t u : Nat} {δ σ δ' σ' : cS}
set_option maxHeartbeats 4000000 in
theorem jn_fills (h : Rm cz mm vv ww t t δ σ) {m : Nat} (hm : m < mm) (w : Int32) {r9 r10 : Int32} (e9 : ∀ δ' : cS, δ'.1 = δ.1 → d_villagesIn δ' (nI m) 0 = some r9) (e10 : ∀ δ' : cS, δ'.1 = δ.1 → d_villagesIn δ' (nI m) 1 = some r10) :
    OO (d_fillsWords δ (nI m) w) (Wq 23 (wdL σ mm m w r9 r10 (cru (σ.1 1 4) mm m)) δ 12) := by
  have h10 := h.m10
  have h2 : 2 ≤ mm := h.2.2.2.2.2.1
  have ej : jmin (nI mm - 1) (nI (m + 1)) = nI (min (mm - 1) (m + 1)) := by rw [nI_m1 (by omega), jminm (by omega) (by omega)]
  unfold d_fillsWords
  simp only [sL_1]
  refine OO.g (inbn (by omega) (by decide)) ?_
  refine OO.nq (Wq.step (L := wdL σ mm m w r9 r10 (cru (σ.1 1 4) mm m)) 0 Wq.z (by decide) rfl) (fun a0 q0 => ?_)
  refine OO.nq (Wq.step 1 q0 (by decide) (by rw [ixn (by omega), h.ln (by omega)]; rfl)) (fun a1 q1 => ?_)
  refine OO.nq (Wq.step 2 q1 (by decide) (by rw [q0.1, ixn (by omega), h.dg (by omega)]; rfl)) (fun a2 q2 => ?_)
  refine OO.nq (Wq.step 3 q2 (by decide) (by rw [q1.1, ixn (by omega), h.sl (by omega)]; rfl)) (fun a3 q3 => ?_)
  refine OO.nq (Wq.step 4 q3 (by decide) (by rw [q2.1, h.1.2.1]; rfl)) (fun a4 q4 => ?_)
  refine OO.nq (Wq.step 5 q4 (by decide) rfl) (fun a5 q5 => ?_)
  refine OO.g (by rw [jmax0 (by omega)]; exact inbn (by omega) (by decide)) ?_
  refine OO.nq (Wq.step 6 q5 (by decide) (by rw [q4.1, h.dt, ← h.mt]; rfl)) (fun a6 q6 => ?_)
  refine OO.g (by rw [q6.1, h.dm, nI_1, ej]; exact inbn (by omega) (by decide)) ?_
  refine OO.nq (Wq.step 7 q6 (by decide) (by rw [q5.1, jmax0 (by omega), ixn (by omega), h.ln (by omega)]; rfl)) (fun a7 q7 => ?_)
  have s8 : Wq 23 (wdL σ mm m w r9 r10 (cru (σ.1 1 4) mm m)) δ 9 (sL a7 23 (ix 8) ((a6.1 16 (ix (jmin (a6.1 999 0 - 1) (nI m + 1)))).toInt64)) := Wq.step 8 q7 (by decide) (by rw [q6.1, h.dm, nI_1, ej, ixn (by omega), h.ln (by omega)]; rfl)
  refine OO.b (e9 _ s8.1) ?_
  refine OO.nq s8 (fun a8 q8 => ?_)
  have s9 : Wq 23 (wdL σ mm m w r9 r10 (cru (σ.1 1 4) mm m)) δ 10 (sL a8 23 (ix 9) (r9.toInt64)) := Wq.step 9 q8 (by decide) rfl
  refine OO.b (e10 _ s9.1) ?_
  refine OO.nq s9 (fun a9 q9 => ?_)
  have s10 : Wq 23 (wdL σ mm m w r9 r10 (cru (σ.1 1 4) mm m)) δ 11 (sL a9 23 (ix 10) (r10.toInt64)) := Wq.step 10 q9 (by decide) rfl
  have eb : ∀ v, d_isBaked (sL a9 23 (ix 10) (r10.toInt64)) v = some (bk (σ.1 1 4) v) := fun v => by rw [d_isBaked_eq, s10.1, h.bd]
  have et : (if nI m ≤ 0 then some (0 : Int32) else (d_isBaked (sL a9 23 (ix 10) (r10.toInt64)) (nI m - 1)).bind fun r_42 => if r_42 = 0 then some 0 else some 1) = some (if m = 0 then 0 else bk (σ.1 1 4) (nI (m - 1))) := by
    by_cases e : m = 0
    · subst e; rfl
    · rw [if_neg (nI_nle (by omega) (by omega)), if_neg e, eb, nI_m1 (by omega)]
      show (if bk _ _ = 0 then _ else _) = _
      rcases bk_c (σ.1 1 4) (nI (m - 1)) with q | q <;> rw [q] <;> rfl
  refine OO.b et ?_
  by_cases e2 : mm ≤ m + 1
  · refine OO.t (by rw [q9.1, h.dm, nI_m1 (by omega)]; exact (nI_leI (by omega) (by omega)).mpr (by omega)) ?_
    refine OO.nq s10 (fun a10 q10 => OO.ret (Wq.step 11 q10 (by decide) ?_))
    show _ = (cru (σ.1 1 4) mm m).toInt64
    unfold cru
    rw [if_pos e2]
  · refine OO.e (by rw [q9.1, h.dm, nI_m1 (by omega)]; exact fun q => e2 (by have := (nI_leI (by omega) (by omega)).mp q; omega)) ?_
    refine OO.b (eb _) ?_
    rw [nI_1]
    rcases bk_c (σ.1 1 4) (nI (m + 1)) with q | q
    · refine OO.t q ?_
      refine OO.nq s10 (fun a10 q10 => OO.ret (Wq.step 11 q10 (by decide) ?_))
      show _ = (cru (σ.1 1 4) mm m).toInt64
      unfold cru
      rw [if_neg e2, q]
    · refine OO.e (by rw [q]; decide) ?_
      refine OO.nq s10 (fun a10 q10 => OO.ret (Wq.step 11 q10 (by decide) ?_))
      show _ = (cru (σ.1 1 4) mm m).toInt64
      unfold cru
      rw [if_neg e2, q]
/-- a rule of the class's, R, is what lies in place r of the model's -/
def Sl (r : Nat) (σ τ : cS) : Prop := (∀ i, i < 300 → τ.1 38 (300 * r + i) = σ.1 38 (300 * r + i) ∧ τ.1 39 (300 * r + i) = σ.1 39 (300 * r + i)) ∧ τ.1 40 r = σ.1 40 r ∧ ∀ i, i < 12 → τ.1 41 (12 * r + i) = σ.1 41 (12 * r + i) ∧ τ.1 42 (12 * r + i) = σ.1 42 (12 * r + i) ∧ τ.1 43 (12 * r + i) = σ.1 43 (12 * r + i)
theorem Sl.of {r : Nat} {σ τ : cS} (h : ∀ k, 38 ≤ k → k ≤ 43 → τ.1 k = σ.1 k) : Sl r σ τ := ⟨fun i _ => ⟨by rw [h 38 (by decide) (by decide)], by rw [h 39 (by decide) (by decide)]⟩, by rw [h 40 (by decide) (by decide)], fun i _ => ⟨by rw [h 41 (by decide) (by decide)], by rw [h 42 (by decide) (by decide)], by rw [h 43 (by decide) (by decide)]⟩⟩
theorem Sl.tr {r : Nat} {a b c : cS} (h : Sl r a b) (h2 : Sl r b c) : Sl r a c := ⟨fun i hi => ⟨(h2.1 i hi).1.trans (h.1 i hi).1, (h2.1 i hi).2.trans (h.1 i hi).2⟩, h2.2.1.trans h.2.1, fun i hi => ⟨(h2.2.2 i hi).1.trans (h.2.2 i hi).1, (h2.2.2 i hi).2.1.trans (h.2.2 i hi).2.1, (h2.2.2 i hi).2.2.trans (h.2.2 i hi).2.2⟩⟩
def RuleOK (R : RS) (σ : cS) (r : Nat) : Prop := ∀ (ws : Wds) (τ : cS), Sl r σ τ → τ.1 1 8 = nI r → (∀ i, i < 12 → τ.2 45 i = ws i) → OO (m_crept τ) (fun p => p.1.1 = τ.1 ∧ m_held p.2 3 = some (rfeet R ws))
def LawR (R : Option RS) (σ : cS) : Prop := (R = none ∧ σ.1 1 8 = -1) ∨ ∃ r RR, R = some RR ∧ r < 6 ∧ σ.1 1 8 = nI r ∧ RuleOK RR σ r
theorem RuleOK.mv {R : RS} {r : Nat} (h : RuleOK R σ r) (hk : Sl r σ σ') : RuleOK R σ' r := fun ws τ h1 h2 h3 => h ws τ (hk.tr h1) h2 h3
theorem LawR.mv {R : Option RS} (h : LawR R σ) (hF : Fm σ σ') : LawR R σ' := by
  rcases h with ⟨h1, h2⟩ | ⟨r, RR, h1, h2, h3, h4⟩
  · exact Or.inl ⟨h1, by rw [hF.2 8 (by decide)]; exact h2⟩
  · exact Or.inr ⟨r, RR, h1, h2, by rw [hF.2 8 (by decide)]; exact h3, h4.mv (Sl.of (fun k a b => hF.1 k (by omega) (by omega) (by omega) (by omega) (by omega) (by omega)))⟩
set_option maxHeartbeats 4000000 in
theorem jn_creepOf (h : Rm cz mm vv ww t t δ σ) {m : Nat} (hm : m < mm) (w : Int32) {R : Option RS} (hR : LawR R σ) : JJ (d_creepOf δ (nI m) w R) (m_creepOf σ (nI m) w) (fun a b => a.2 = b.2 ∧ a.1.1 = δ.1 ∧ b.1.1 = σ.1) := by
  have h10 := h.m10
  have h2 : 2 ≤ mm := h.2.2.2.2.2.1
  rcases hR with ⟨rfl, hf⟩ | ⟨r, RR, rfl, hr, hf, hok⟩
  · unfold d_creepOf m_creepOf
    show JJ (gd _ _) _ _
    refine JJ.gl (inbn (by omega) (by decide)) (JJ.tr hf (JJ.gr (inbn (by omega) (by decide)) ?_))
    rw [ixn (by omega), h.dg (by omega), h.1.2.1, h.sl (by omega), x_held_eq, m_held3]
    exact JJ.ret ⟨rfl, rfl, rfl⟩
  · obtain ⟨r9, a9, b9⟩ := jn_villagesIn h hm 0
    obtain ⟨r10, a10, b10⟩ := jn_villagesIn h hm 1
    have e9 : ∀ δ' : cS, δ'.1 = δ.1 → d_villagesIn δ' (nI m) 0 = some r9 := by
      intro δ' he
      obtain ⟨q, c1, c2⟩ := jn_villagesIn (h.cx (δ' := δ') (by rw [he]) (fun k _ _ _ => by rw [he])) hm 0
      rw [c1, ← c2, b9]
    have e10 : ∀ δ' : cS, δ'.1 = δ.1 → d_villagesIn δ' (nI m) 1 = some r10 := by
      intro δ' he
      obtain ⟨q, c1, c2⟩ := jn_villagesIn (h.cx (δ' := δ') (by rw [he]) (fun k _ _ _ => by rw [he])) hm 1
      rw [c1, ← c2, b10]
    have f9 : ∀ σ' : cS, σ'.1 = σ.1 → m_villagesIn σ' (nI m) 0 = some r9 := by
      intro σ' he
      obtain ⟨q, c1, c2⟩ := jn_villagesIn (h.cm (σ' := σ') (fun k _ _ => by rw [he])) hm 0
      rw [c2, ← c1, a9]
    have f10 : ∀ σ' : cS, σ'.1 = σ.1 → m_villagesIn σ' (nI m) 1 = some r10 := by
      intro σ' he
      obtain ⟨q, c1, c2⟩ := jn_villagesIn (h.cm (σ' := σ') (fun k _ _ => by rw [he])) hm 1
      rw [c2, ← c1, a10]
    obtain ⟨a, ea, qa⟩ := jn_fills h hm w e9 e10
    have hx : d_creepOf δ (nI m) w (some RR) = some (a, rfeet RR (a.2 23)) := by
      unfold d_creepOf
      show (d_fillsWords δ (nI m) w).bind _ = _
      rw [ea]
      rfl
    have hM : OO (m_creepOf σ (nI m) w) (fun b => b.2 = rfeet RR (a.2 23) ∧ b.1.1 = σ.1) := by
      have ej : (if nI mm ≤ nI (m + 1) then some (nI m) else some (nI m + 1)) = some (nI (min (mm - 1) (m + 1))) := by
        rw [ifc (nI_leI (by omega) (by omega))]
        by_cases e : mm ≤ m + 1
        · rw [if_pos e, show min (mm - 1) (m + 1) = m by omega]
        · rw [if_neg e, nI_1, show min (mm - 1) (m + 1) = m + 1 by omega]
      have el : (if nI m ≤ 0 then some (nI m) else some (nI m - 1)) = some (nI (m - 1)) := by
        by_cases e : m = 0
        · subst e; rfl
        · rw [if_neg (nI_nle (by omega) (by omega)), nI_m1 (by omega)]
      unfold m_creepOf
      simp only [sL_1]
      refine OO.e (by rw [show ix 8 = 8 from rfl, hf]; intro q; have := congrArg Int32.toInt q; rw [nI_toInt (by omega)] at this; revert this; rw [show (-1 : Int32).toInt = -1 by decide]; omega) ?_
      refine OO.g (inbn (by omega) (by decide)) ?_
      refine OO.nq (Wq.step (L := wdL σ mm m w r9 r10 (cru (σ.1 1 4) mm m)) 0 Wq.z (by decide) rfl) (fun a0 q0 => ?_)
      refine OO.nq (Wq.step 1 q0 (by decide) (by rw [ixn (by omega)]; rfl)) (fun a1 q1 => ?_)
      refine OO.nq (Wq.step 2 q1 (by decide) (by rw [q0.1, ixn (by omega)]; rfl)) (fun a2 q2 => ?_)
      refine OO.nq (Wq.step 3 q2 (by decide) (by rw [q1.1, ixn (by omega)]; rfl)) (fun a3 q3 => ?_)
      refine OO.nq (Wq.step 4 q3 (by decide) (by rw [q2.1]; rfl)) (fun a4 q4 => ?_)
      refine OO.nq (Wq.step 5 q4 (by decide) rfl) (fun a5 q5 => ?_)
      refine OO.b el ?_
      refine OO.g (inbn (by omega) (by decide)) ?_
      refine OO.nq (Wq.step 6 q5 (by decide) (by rw [q4.1]; rfl)) (fun a6 q6 => ?_)
      refine OO.b (a := nI (min (mm - 1) (m + 1))) ((ifc (by rw [q6.1, h.m', nI_1])).trans ej) ?_
      refine OO.g (inbn (by omega) (by decide)) ?_
      refine OO.nq (Wq.step 7 q6 (by decide) (by rw [q5.1, ixn (by omega)]; rfl)) (fun a7 q7 => ?_)
      have s8 : Wq 45 (wdL σ mm m w r9 r10 (cru (σ.1 1 4) mm m)) σ 9 (sL a7 45 (ix 8) ((a6.1 2 (ix (nI (min (mm - 1) (m + 1))))).toInt64)) := Wq.step 8 q7 (by decide) (by rw [q6.1, ixn (by omega)]; rfl)
      refine OO.b (f9 _ s8.1) ?_
      refine OO.nq s8 (fun a8 q8 => ?_)
      have s9 : Wq 45 (wdL σ mm m w r9 r10 (cru (σ.1 1 4) mm m)) σ 10 (sL a8 45 (ix 9) (r9.toInt64)) := Wq.step 9 q8 (by decide) rfl
      refine OO.b (f10 _ s9.1) ?_
      refine OO.nq s9 (fun a9 q9 => ?_)
      have s10 : Wq 45 (wdL σ mm m w r9 r10 (cru (σ.1 1 4) mm m)) σ 11 (sL a9 45 (ix 10) (r10.toInt64)) := Wq.step 10 q9 (by decide) rfl
      refine OO.b (a := cru (σ.1 1 4) mm m) (by rw [m_crust_eq _ (by rw [s10.1]; exact h.m') hm h10, s10.1]) ?_
      refine OO.nq s10 (fun a10 q10 => ?_)
      have s11 : Wq 45 (wdL σ mm m w r9 r10 (cru (σ.1 1 4) mm m)) σ 12 (sL a10 45 (ix 11) ((cru (σ.1 1 4) mm m).toInt64)) := Wq.step 11 q10 (by decide) rfl
      refine OO.bd (hok (a.2 23) _ (Sl.of (fun k _ _ => by rw [s11.1])) (by rw [s11.1]; exact hf) (fun i hi => by rw [s11.2 i hi, qa.2 i hi])) ?_
      rintro ⟨b1, b2⟩ ⟨g1, g2⟩
      refine OO.b g2 (OO.ret ⟨rfl, ?_⟩)
      exact g1.trans s11.1
    obtain ⟨b, hb, hb2, hb3⟩ := hM
    exact ⟨_, b, hx, hb, hb2.symm, qa.1, hb3⟩
/-- miles draw apart: one sags -/
theorem jabs4 {x y : Int32} (hx : lk x) (hy : lk y) : 4 < jabs (y - x) ↔ ¬ (ib (x - y) (-4) 4 = 1) := by
  unfold lk at hx hy
  have e1 : (y - x).toInt = y.toInt - x.toInt := by
    rw [Int32.toInt_sub]
    exact Int.bmod_eq_of_le (by omega) (by omega)
  have e2 : (x - y).toInt = x.toInt - y.toInt := by
    rw [Int32.toInt_sub]
    exact Int.bmod_eq_of_le (by omega) (by omega)
  have e3 : (0 - (y - x)).toInt = x.toInt - y.toInt := by
    rw [Int32.toInt_sub, e1, show (0 : Int32).toInt = 0 by decide]
    rw [show (0 : Int) - (y.toInt - x.toInt) = x.toInt - y.toInt by omega]
    exact Int.bmod_eq_of_le (by omega) (by omega)
  have c4 : (4 : Int32).toInt = 4 := by decide
  have cm : (-4 : Int32).toInt = -4 := by decide
  have c0 : (0 : Int32).toInt = 0 := by decide
  have a1 : 0 ≤ y - x ↔ (0 : Int) ≤ y.toInt - x.toInt := by rw [i_le, e1, c0]
  have a2 : ib (x - y) (-4) 4 = 1 ↔ (-4 ≤ x.toInt - y.toInt ∧ x.toInt - y.toInt ≤ 4) := by
    have b1 : (-4 ≤ x - y ∧ x - y ≤ 4) ↔ (-4 ≤ x.toInt - y.toInt ∧ x.toInt - y.toInt ≤ 4) := by rw [i_le, i_le, e2, c4, cm]
    rw [← b1]
    unfold ib
    by_cases q : -4 ≤ x - y ∧ x - y ≤ 4
    · rw [if_pos q]; exact ⟨fun _ => q, fun _ => rfl⟩
    · rw [if_neg q]; exact ⟨fun z => absurd z (by decide), fun z => absurd z q⟩
  rw [a2]
  unfold jabs
  by_cases h0 : 0 ≤ y - x
  · rw [if_pos h0, i_lt, c4, e1]
    rw [a1] at h0
    omega
  · rw [if_neg h0, i_lt, c4, e3]
    rw [a1] at h0
    omega
end RC
theorem b_add {x y : Int32} (h1 : -2147483648 ≤ x.toInt + y.toInt) (h2 : x.toInt + y.toInt < 2147483648) : (x + y).toInt = x.toInt + y.toInt := by
  rw [Int32.toInt_add]
  exact Int.bmod_eq_of_le (by omega) (by omega)
theorem b_sub {x y : Int32} (h1 : -2147483648 ≤ x.toInt - y.toInt) (h2 : x.toInt - y.toInt < 2147483648) : (x - y).toInt = x.toInt - y.toInt := by
  rw [Int32.toInt_sub]
  exact Int.bmod_eq_of_le (by omega) (by omega)
/-- by how much both go, when they lie apart -/
theorem sag_t {x y : Int32} (hx : lk x) (hy : lk y) (h : 4 < jabs (y - x)) : ∃ a b : Int32, (if y - x ≤ 0 then some (-1) else some 1) = some a ∧ (if x - y ≤ 0 then some (-1) else some 1) = some b ∧ (∀ z : Int32, z - b = z + a) ∧ (∀ z : Int32, z + b = z - a) ∧ lk (x + a) ∧ lk (y - a) := by
  unfold lk at hx hy
  have c0 : (0 : Int32).toInt = 0 := by decide
  have c1 : (1 : Int32).toInt = 1 := by decide
  have cn : (-1 : Int32).toInt = -1 := by decide
  have c4 : (4 : Int32).toInt = 4 := by decide
  have e1 : (y - x).toInt = y.toInt - x.toInt := b_sub (by omega) (by omega)
  have e2 : (x - y).toInt = x.toInt - y.toInt := b_sub (by omega) (by omega)
  have a1 : 0 ≤ y - x ↔ (0 : Int) ≤ y.toInt - x.toInt := by rw [i_le, e1, c0]
  unfold jabs at h
  by_cases h0 : 0 ≤ y - x
  · rw [if_pos h0, i_lt, c4, e1] at h
    rw [a1] at h0
    refine ⟨1, -1, if_neg (by rw [i_le, e1, c0]; omega), if_pos (by rw [i_le, e2, c0]; omega), fun z => ?_, fun z => ?_, ?_, ?_⟩
    · rw [Int32.sub_eq_add_neg]; rfl
    · rw [Int32.sub_eq_add_neg]
    · unfold lk; rw [b_add (by rw [c1]; omega) (by rw [c1]; omega), c1]; omega
    · unfold lk; rw [b_sub (by rw [c1]; omega) (by rw [c1]; omega), c1]; omega
  · have e3 : (0 - (y - x)).toInt = x.toInt - y.toInt := by
      rw [b_sub (by rw [e1, c0]; omega) (by rw [e1, c0]; omega), e1, c0]; omega
    rw [if_neg h0, i_lt, c4, e3] at h
    rw [a1] at h0
    refine ⟨-1, 1, if_pos (by rw [i_le, e1, c0]; omega), if_neg (by rw [i_le, e2, c0]; omega), fun z => ?_, fun z => ?_, ?_, ?_⟩
    · rw [Int32.sub_eq_add_neg]
    · rw [Int32.sub_eq_add_neg z (-1)]; rfl
    · unfold lk; rw [b_add (by rw [cn]; omega) (by rw [cn]; omega), cn]; omega
    · unfold lk; rw [b_sub (by rw [cn]; omega) (by rw [cn]; omega), cn]; omega
section SG
variable {cz mm vv ww t u : Nat} {δ σ δ' σ' : cS}
theorem upd_same {f : Nat → Int32} {i : Nat} : upd f i (f i) = f := by
  funext k
  unfold upd
  split
  · rename_i h; rw [h]
  · rfl
theorem si_same {σ : cS} {k i : Nat} : si σ k i (σ.1 k i) = σ := by
  unfold si
  rw [upd_same]
  refine Prod.ext (funext fun j => ?_) rfl
  show va_up σ.1 k (σ.1 k) j = σ.1 j
  unfold va_up
  split
  · rename_i h; rw [h]
  · rfl
theorem jn_sags (h : Rm cz mm vv ww t u δ σ) {m : Nat} (hm : m + 1 < mm) : JJ (d_sags δ (nI m)) (m_sags σ (nI m)) (fun a b => Rm cz mm vv ww t u a b ∧ FF δ σ a b ∧ a.1 22 = δ.1 22 ∧ b.1 48 = σ.1 48) := by
  have h10 := h.m10
  unfold d_sags m_sags
  rw [nI_1]
  refine JJ.gl (inbn (by omega) (by decide)) (JJ.gl (inbn (by omega) (by decide)) (JJ.gr (inbn (by omega) (by decide)) (JJ.gr (inbn (by omega) (by decide)) ?_)))
  rw [ixn (by omega), ixn (by omega), h.ln (by omega), h.ln (by omega)]
  refine JJ.br (m_in_eq _ (-4) 4) ?_
  by_cases hq : 4 < jabs (σ.1 2 (m + 1) - σ.1 2 m)
  · have hz : ib (σ.1 2 m - σ.1 2 (m + 1)) (-4) 4 = 0 := by
      rcases ib_e (v := σ.1 2 m - σ.1 2 (m + 1)) (a := -4) (b := 4) with e | ⟨e, -⟩
      · exact e
      · exact absurd e ((jabs4 (h.lb (by omega)) (h.lb (by omega))).mp hq)
    obtain ⟨a, b, ea, eb, f1, f2, k1, k2⟩ := sag_t (h.lb (by omega : m < 10)) (h.lb (by omega : m + 1 < 10)) hq
    refine JJ.tl hq (JJ.tr hz (JJ.bl ea (JJ.br eb (JJ.bl (d_isBaked_eq _ _) (JJ.br (m_isBaked_eq _ _) ?_)))))
    rw [h.bd]
    rcases bk_c (σ.1 1 4) (nI m) with q | q
    · refine JJ.bl (if_pos q) (JJ.br (if_pos q) ?_)
      rw [f1]
      have hR := h.line (i := m) k1
      refine JJ.bl (d_isBaked_eq _ _) (JJ.br (m_isBaked_eq _ _) ?_)
      rw [hR.bd, hR.ln (by omega)]
      refine JJ.ii Iff.rfl (fun _ _ => JJ.nr (JJ.ret ?_)) (fun _ _ => JJ.nr (JJ.ret ?_))
      · rw [f2, si_p (by omega)]
        exact ⟨hR.line k2, (FF.rf.st (by omega) (by omega)).st (by omega) (by omega), by rw [si_o (by decide), si_o (by decide)], by rw [si_o (by decide), si_o (by decide)]⟩
      · rw [Int32.add_zero, si_same]
        exact ⟨hR, FF.rf.st (by omega) (by omega), by rw [si_o (by decide)], by rw [si_o (by decide)]⟩
    · have q' : ¬ bk (σ.1 1 4) (nI m) = 0 := by rw [q]; decide
      refine JJ.bl (if_neg q') (JJ.br (if_neg q') ?_)
      rw [Int32.sub_zero, si_same]
      refine JJ.bl (d_isBaked_eq _ _) (JJ.br (m_isBaked_eq _ _) ?_)
      rw [h.bd, h.ln (by omega)]
      refine JJ.ii Iff.rfl (fun _ _ => JJ.nr (JJ.ret ?_)) (fun _ _ => JJ.nr (JJ.ret ?_))
      · rw [f2]
        exact ⟨h.line k2, FF.rf.st (by omega) (by omega), by rw [si_o (by decide)], by rw [si_o (by decide)]⟩
      · rw [Int32.add_zero, si_same]
        exact ⟨h, FF.rf, rfl, rfl⟩
  · have hz : ib (σ.1 2 m - σ.1 2 (m + 1)) (-4) 4 = 1 := by
      rcases ib_e (v := σ.1 2 m - σ.1 2 (m + 1)) (a := -4) (b := 4) with e | ⟨e, -⟩
      · exact absurd ((jabs4 (h.lb (by omega)) (h.lb (by omega))).mpr (by rw [e]; decide)) hq
      · exact e
    exact JJ.el hq (JJ.er (by rw [hz]; decide) (JJ.ret ⟨h, FF.rf, rfl, rfl⟩))
end SG
