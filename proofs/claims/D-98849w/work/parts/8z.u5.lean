/-! PURE LAW: terms and sums of a rule -/
set_option maxRecDepth 100000
section US
variable {B : Nat → Int32} {tp p p' q w k r dx dm cn cn0 e e0 e1 o o1 : Nat} {σ β σ' β' σx σm a b y z a' b' : cS} {lo hi M v : Int32} {φ : Wds → Int64}
theorem om_term8 {n : Nat} (h : Dm r σm k q b) (hn : 0 < n) : m_term_8 (fun s => some s) n b = some b := by
  obtain ⟨n, rfl⟩ : ∃ m, n = m + 1 := ⟨n - 1, by omega⟩
  rw [m_term_8, if_neg h.nz]
theorem om_sum4 {n : Nat} (h : Dm r σm k q b) (hn : 0 < n) : m_sum_4 (fun s => some s) n b = some b := by
  obtain ⟨n, rfl⟩ : ∃ m, n = m + 1 := ⟨n - 1, by omega⟩
  rw [m_sum_4, if_neg h.nz]
theorem FU_0 : 0 < FU := FU_gt (by decide)
theorem om_term (hU : UB B tp σx σm r) (h : Dm r σm k q b) : OO (m_term b) (Dm r σm k q) := by
  unfold m_term
  refine OO.bd (om_val hU h) (fun b h => OO.bd (om_bl hU h) (fun b h => ?_))
  show OO (m_term_8 (fun s => some s) FU b) _
  rw [om_term8 h FU_0]
  exact OO.ret h
theorem om_sum (hU : UB B tp σx σm r) (h : Dm r σm k q b) : OO (m_sum b) (Dm r σm k q) := by
  unfold m_sum
  refine OO.bd (om_term hU h) (fun b h => ?_)
  show OO (m_sum_4 (fun s => some s) FU b) _
  rw [om_sum4 h FU_0]
  exact OO.ret h
/-- an operation's entry -/
theorem Ev.op {e2 e3 : Nat} {b1 b2 : cS} {V W : Wds → Int64} {f : Int64 → Int64 → Int64} {c x : Int32} (hr : r < 6) (hV : Ev r b1 e1 e2 V) (hW : Ev r b2 e2 e3 W) (hK : Kf r e2 o b1 b2) (he : e3 < 300) (hc : c ≠ 0 ∧ c ≠ 1 ∧ c ≠ 9) (hf : ∀ x y, m_both c x y = some (f x y)) : Ev r (en b2 r e3 c x) e1 (e3 + 1) (fun ws => f (V ws) (W ws)) := by
  have k2 : Kf r e3 o b2 (en b2 r e3 c x) := Kf.rf.wr (Nat.le_refl _)
  have l2 := hW.1
  refine Ev.two hr ((hV.kf hK (Nat.le_refl _)).kf k2 (by omega)) (hW.kf k2 (Nat.le_refl _)) he ?_ ?_
  · rw [en_c]; exact hc
  · rw [en_c]; exact hf
/-- signs of terms, of sums -/
def isT (B : Nat → Int32) (tp p : Nat) : Bool := decide (p < tp) && (decide (B p = 42) || (decide (B p = 47) || decide (B p = 37)))
def isS (B : Nat → Int32) (tp p : Nat) : Bool := decide (p < tp) && (decide (B p = 43) || decide (B p = 45))
def cdT (c : Int32) : Int32 := if c = 42 then 13 else if c = 47 then 14 else 15
def cdS (c : Int32) : Int32 := if c = 43 then 2 else 3
theorem sg_is {c : Int32} (hB : TB B tp) (hc : 0 ≤ c.toInt ∧ c.toInt ≤ 127) : sg B tp p = c ↔ p < tp ∧ B p = c := by
  unfold sg
  by_cases h : p < tp
  · rw [if_pos h, sg_eq (hB.2 p h) hc]
    exact ⟨fun x => ⟨h, x⟩, fun x => x.2⟩
  · rw [if_neg h]
    refine ⟨fun x => ?_, fun x => absurd x.1 h⟩
    rw [← x, show (-1 : Int32).toInt = -1 by decide] at hc
    omega
theorem t_term5_eq {n : Nat} (hB : TB B tp) (hC : TC B tp σ) (hp : p ≤ tp) : t_term_5 (n + 1) (cx σ p) φ = if isT B tp (sk B tp p) = true then addc 1 ((t_value (cx σ (sk B tp p + 1))).bind fun x => addc x.2.1 (thy x.1 x.2.2 fun φ2 => t_term_5 n x.1 (fun ws => vPair (B (sk B tp p)) (φ ws) (φ2 ws)))) else some (cx σ (sk B tp p), 0, some φ) := by
  have h4 := hB.1
  have hq := (sk_le (B := B) (tp := tp) (p := p)).2.1 hp
  have h0 := t_see_eq hB hC hp
  have hs : sk B tp (sk B tp p) = sk B tp p := sk_sk
  rw [t_term_5, h0]
  generalize sk B tp p = q at *
  have h1 := t_see_eq hB hC hq
  rw [hs] at h1
  have go : q < tp → (gd (inb ((cx σ q).1 997 2) 400) (addc 1 ((t_value (si (cx σ q) 997 2 ((cx σ q).1 997 2 + 1))).bind fun (σ_22, c_21, o_23) => addc c_21 (thy σ_22 o_23 fun φ_27 => t_term_5 n σ_22 (fun ws => vPair ((cx σ q).1 9 (ix ((cx σ q).1 997 2))) (φ ws) (φ_27 ws)))))) = addc 1 ((t_value (cx σ (q + 1))).bind fun x => addc x.2.1 (thy x.1 x.2.2 fun φ2 => t_term_5 n x.1 (fun ws => vPair (B q) (φ ws) (φ2 ws)))) := by
    intro x
    rw [cx_n, inbn (by omega) (by decide), ixn (by omega), hC.cx.2 q x, nI_1, show si (cx σ q) 997 2 (nI (q + 1)) = cx σ (q + 1) from cx_cx]
    rfl
  show (if sg B tp q = 42 then _ else (t_see (cx σ q)).bind _) = _
  rw [h1]
  show (if sg B tp q = 42 then _ else (if sg B tp q = 47 then _ else (t_see (cx σ q)).bind _)) = _
  rw [h1]
  show (if sg B tp q = 42 then _ else (if sg B tp q = 47 then _ else (if sg B tp q = 37 then _ else some (cx σ q, 0, some φ)))) = _
  rw [ifc (sg_is hB (show 0 ≤ (42 : Int32).toInt ∧ (42 : Int32).toInt ≤ 127 by decide)), ifc (sg_is hB (show 0 ≤ (47 : Int32).toInt ∧ (47 : Int32).toInt ≤ 127 by decide)), ifc (sg_is hB (show 0 ≤ (37 : Int32).toInt ∧ (37 : Int32).toInt ≤ 127 by decide))]
  unfold isT
  by_cases c : q < tp
  · rw [decide_eq_true c, Bool.true_and]
    by_cases c1 : B q = 42
    · rw [if_pos ⟨c, c1⟩, decide_eq_true c1]
      exact go c
    · rw [if_neg (fun x => c1 x.2), decide_eq_false c1, Bool.false_or]
      by_cases c2 : B q = 47
      · rw [if_pos ⟨c, c2⟩, decide_eq_true c2]
        exact go c
      · rw [if_neg (fun x => c2 x.2), decide_eq_false c2, Bool.false_or]
        by_cases c3 : B q = 37
        · rw [if_pos ⟨c, c3⟩, decide_eq_true c3]
          exact go c
        · rw [if_neg (fun x => c3 x.2), decide_eq_false c3]
          rfl
  · rw [if_neg (fun x => c x.1), if_neg (fun x => c x.1), if_neg (fun x => c x.1), decide_eq_false c]
    rfl
theorem t_term5_sk {n : Nat} (hB : TB B tp) (hC : TC B tp σ) (hp : p ≤ tp) : t_term_5 n (cx σ p) φ = t_term_5 n (cx σ (sk B tp p)) φ := by
  have hq := (sk_le (B := B) (tp := tp) (p := p)).2.1 hp
  cases n with
  | zero => rfl
  | succ n => rw [t_term5_eq hB hC hp, t_term5_eq hB hC hq, sk_sk]
theorem m_term8_eq {n : Nat} (hB : TB B tp) (hM : TM B tp β) (h29 : β.1 999 29 = 0) (hp : p < 2 ^ 31) : m_term_8 (fun s => some s) (n + 1) (mx β p) = if isT B tp p = true then (m_value (mx β (p + 1))).bind fun s => (m_entry s (cdT (B p)) 0).bind fun s => (m_blanks s).bind fun s => m_term_8 (fun s => some s) n s else some (mx β p) := by
  have h4 := hB.1
  have hz : ∀ p, (mx β p).1 999 29 = 0 := fun p => (mx_p (by decide)).trans h29
  have hg := m_sign_eq hB hM hp
  rw [m_term_8, if_pos (hz p), hg]
  show (if sg B tp p = 42 then ((if sg B tp p = 42 then some 13 else _ : Option Int32).bind _) else (if sg B tp p = 47 then ((if sg B tp p = 42 then some 13 else (if sg B tp p = 47 then some 14 else some 15) : Option Int32).bind _) else (if sg B tp p = 37 then ((if sg B tp p = 42 then some 13 else (if sg B tp p = 47 then some 14 else some 15) : Option Int32).bind _) else some (mx β p)))) = _
  have e42 := sg_is (p := p) hB (show 0 ≤ (42 : Int32).toInt ∧ (42 : Int32).toInt ≤ 127 by decide)
  have e47 := sg_is (p := p) hB (show 0 ≤ (47 : Int32).toInt ∧ (47 : Int32).toInt ≤ 127 by decide)
  have e37 := sg_is (p := p) hB (show 0 ≤ (37 : Int32).toInt ∧ (37 : Int32).toInt ≤ 127 by decide)
  have em : si (mx β p) 999 28 ((mx β p).1 999 28 + 1) = mx β (p + 1) := by rw [mx_n, nI_1]; exact mx_mx
  unfold isT cdT
  by_cases c : p < tp
  · rw [decide_eq_true c, Bool.true_and]
    by_cases c1 : B p = 42
    · rw [if_pos (e42.mpr ⟨c, c1⟩), if_pos (e42.mpr ⟨c, c1⟩), decide_eq_true c1, if_pos c1, ← em]
      rfl
    · have d1 : ¬ sg B tp p = 42 := fun x => c1 (e42.mp x).2
      rw [if_neg d1, decide_eq_false c1, Bool.false_or, if_neg c1]
      by_cases c2 : B p = 47
      · rw [if_pos (e47.mpr ⟨c, c2⟩), if_neg d1, if_pos (e47.mpr ⟨c, c2⟩), decide_eq_true c2, if_pos c2, ← em]
        rfl
      · have d2 : ¬ sg B tp p = 47 := fun x => c2 (e47.mp x).2
        rw [if_neg d2, decide_eq_false c2, Bool.false_or, if_neg c2]
        by_cases c3 : B p = 37
        · rw [if_pos (e37.mpr ⟨c, c3⟩), if_neg d1, if_neg d2, decide_eq_true c3, ← em]
          rfl
        · rw [if_neg (fun x => c3 (e37.mp x).2), decide_eq_false c3]
          rfl
  · rw [if_neg (fun x => c (e42.mp x).1), if_neg (fun x => c (e47.mp x).1), if_neg (fun x => c (e37.mp x).1), decide_eq_false c]
    rfl
theorem isT_t (h : isT B tp p = true) : p < tp ∧ (cdT (B p) ≠ 0 ∧ cdT (B p) ≠ 1 ∧ cdT (B p) ≠ 9) ∧ ∀ x y, m_both (cdT (B p)) x y = some (vPair (B p) x y) := by
  unfold isT at h
  rw [Bool.and_eq_true_iff, decide_eq_true_eq, Bool.or_eq_true_iff, Bool.or_eq_true_iff, decide_eq_true_eq, decide_eq_true_eq, decide_eq_true_eq] at h
  refine ⟨h.1, ?_⟩
  rcases h.2 with h | h | h <;> rw [h]
  · exact ⟨by decide, mb_mul⟩
  · exact ⟨by decide, mb_div⟩
  · exact ⟨by decide, mb_rem⟩
/-- Q of terms and sums: entries from e0 on answer, behind blanks -/
def QS (B : Nat → Int32) (tp r e0 cn0 : Nat) (p' cn' e' : Nat) (y : cS) (φ : Wds → Int64) : Prop := Ev r y e0 e' φ ∧ e' + 1 + 2 * cn0 ≤ e0 + 2 * cn' ∧ sk B tp p' = p'
theorem UP.none_ {ρ : Type} {Q : Nat → Nat → Nat → cS → ρ → Prop} {c : Nat} (hc : c + p ≤ tp) (hd : Ud σx σm r a y) : UP σx σm r tp M p dx dm e o b Q (a, c, none) y := Or.inl ⟨rfl, hc, hd⟩
/-- a later part of a phrase -/
theorem UP.up {ρ : Type} {Q1 Q : Nat → Nat → Nat → cS → ρ → Prop} {p1 c : Nat} {b1 : cS} {x : cS × Nat × Option ρ} (h : UP σx σm r tp M p1 dx dm e1 o1 b1 Q1 x y) (hc : c + p ≤ p1) (hK : Kf r e o b b1) (he : e ≤ e1) (ho : o = o1) (hQ : ∀ p' cn' e' φ, Q1 p' cn' e' y φ → Q p' cn' e' y φ) : UP σx σm r tp M p dx dm e o b Q (x.1, x.2.1 + c, x.2.2) y := by
  subst ho
  rcases h with ⟨h1, h2, h3⟩ | ⟨φ, p', cn', e', h1, h2, h3, h4, h5⟩
  · exact Or.inl ⟨h1, by show x.2.1 + c + p ≤ tp; omega, h3⟩
  · exact Or.inr ⟨φ, p', cn', e', h1, by show x.2.1 + c + p ≤ p'; omega, h3, hK.tr h4 he (Nat.le_refl _), hQ _ _ _ _ h5⟩
theorem j_term5 (hU : UB B tp σx σm r) : ∀ k p n n' a b cn e φ, tp - p ≤ k → k < n → k < n' → sk B tp p = p → Ul σx σm r tp M p dx dm cn e o a b → Ev r b e0 e φ → e + 1 + 2 * cn0 ≤ e0 + 2 * cn → JJ (t_term_5 n a φ) (m_term_8 (fun s => some s) n' b) (UP σx σm r tp M p dx dm e o b (QS B tp r e0 cn0)) := by
  intro k
  induction k with
  | zero =>
    intro p n n' a b cn e φ hk hn hn' hs h hE hc
    obtain ⟨n, rfl⟩ : ∃ m, n = m + 1 := ⟨n - 1, by omega⟩
    obtain ⟨n', rfl⟩ : ∃ m, n' = m + 1 := ⟨n' - 1, by omega⟩
    have hl := h.ids
    have hp := h.1.1
    have h4 := hU.1.1
    rw [hl.1, hl.2, t_term5_eq hU.1 (h.2.2.2.2.2.2.1.tc hU.2.1) hp, m_term8_eq hU.1 (h.2.2.2.2.2.2.2.tm hU.2.2.1) h.2.2.2.2.2.1.1 (by omega), hs, ← hl.1, ← hl.2]
    by_cases c : isT B tp p = true
    · have := (isT_t c).1; omega
    · rw [if_neg c, if_neg c]
      exact JJ.ret (Or.inr ⟨φ, p, cn, e, rfl, by show 0 + p ≤ p; omega, h, Kf.rf, hE, hc, hs⟩)
  | succ k ih =>
    intro p n n' a b cn e φ hk hn hn' hs h hE hc
    obtain ⟨n, rfl⟩ : ∃ m, n = m + 1 := ⟨n - 1, by omega⟩
    obtain ⟨n', rfl⟩ : ∃ m, n' = m + 1 := ⟨n' - 1, by omega⟩
    have hl := h.ids
    have hp := h.1.1
    have h4 := hU.1.1
    have ho := h.2.2.2.2.1.1
    rw [hl.1, hl.2, t_term5_eq hU.1 (h.2.2.2.2.2.2.1.tc hU.2.1) hp, m_term8_eq hU.1 (h.2.2.2.2.2.2.2.tm hU.2.2.1) h.2.2.2.2.2.1.1 (by omega), hs, ← hl.1, ← hl.2]
    by_cases c : isT B tp p = true
    · obtain ⟨c1, c2, c3⟩ := isT_t c
      rw [if_pos c, if_pos c]
      have h1 := h.mv (p' := p + 1) (by omega) (by omega)
      have kb : Kf r e o b (mx b (p + 1)) := Kf.rf.st (Or.inl rfl)
      refine JJ.add (Q := UP σx σm r tp M (p + 1) dx dm e o (mx b (p + 1)) (QS B tp r e0 cn0)) (JJ.bd (j_value hU h1) ?_) (fun x y hx => hx.up (by omega) kb (Nat.le_refl _) rfl (fun _ _ _ _ z => z))
      rintro ⟨a2, c4, o2⟩ b2 hv
      rcases hv with ⟨v1, v2, k', q', v3, v4, v5⟩ | ⟨φ2, p2, cn2, e2, v1, v2, v3, v4, v5, v6, v7, v8⟩
      · dsimp only at v1 v2 v3 v4 v5
        subst v1
        show JJ (addc c4 (some (a2, 0, none))) _ _
        rw [m_entry_d v5.nz]
        refine JJ.br rfl (JJ.or (om_bl hU v5) (fun b3 v5 => ?_))
        rw [om_term8 v5 (by omega)]
        exact JJ.ret (UP.none_ (by show 0 + c4 + _ ≤ tp; omega) ⟨k', q', v3, v4, v5⟩)
      · dsimp only at v1 v2 v3
        subst v1
        have w1 := v3.2.2.2.1.1
        have h5 := h.2.2.2.1.1
        have hen := v3.ent (c := cdT (B p)) (v := 0) hU (by omega)
        have v9 := v3.wr (c := cdT (B p)) (v := 0) (by omega)
        have hEv := Ev.op (x := 0) hU.2.2.2.2.1 (hE.kf kb (Nat.le_refl _)) v8 v4 (by have := v3.2.2.1.1; omega) c2 c3
        have k3 : Kf r e o (mx b (p + 1)) (en b2 r e2 (cdT (B p)) 0) := v4.wr (by omega)
        have hl2 := v9.ids
        have hp2 := v3.1.1
        have hs2 := sk_le (B := B) (tp := tp) (p := p2)
        have hq2 := hs2.2.1 hp2
        have hb2 := m_blanks_eq hU.1 (v9.2.2.2.2.2.2.2.tm hU.2.2.1) (show p2 ≤ 1000 by omega)
        rw [← hl2.2] at hb2
        have hsk := t_term5_sk (n := n) (φ := fun ws => vPair (B p) (φ ws) (φ2 ws)) hU.1 (v9.2.2.2.2.2.2.1.tc hU.2.1) hp2
        rw [← hl2.1] at hsk
        have v10 := v9.mv (p' := sk B tp p2) hq2 (by have := v9.2.2.2.2.1.1; omega)
        have kz : Kf r (e2 + 1) o (en b2 r e2 (cdT (B p)) 0) (mx (en b2 r e2 (cdT (B p)) 0) (sk B tp p2)) := Kf.rf.st (Or.inl rfl)
        show JJ (addc c4 (t_term_5 n a2 (fun ws => vPair (B p) (φ ws) (φ2 ws)))) ((m_entry b2 (cdT (B p)) 0).bind _) _
        rw [hen, hsk]
        refine JJ.br rfl (JJ.br hb2 ?_)
        exact JJ.add (ih (sk B tp p2) n n' _ _ cn2 (e2 + 1) _ (by omega) (by omega) (by omega) sk_sk v10 (hEv.kf kz (Nat.le_refl _)) (by omega)) (fun x y hx => hx.up (by omega) (k3.tr kz (by omega) (Nat.le_refl _)) (by omega) rfl (fun _ _ _ _ z => z))
    · rw [if_neg c, if_neg c]
      exact JJ.ret (Or.inr ⟨φ, p, cn, e, rfl, by show 0 + p ≤ p; omega, h, Kf.rf, hE, hc, hs⟩)
theorem j_term (hU : UB B tp σx σm r) (h : Ul σx σm r tp M p dx dm cn e o a b) : JJ (t_term a) (m_term b) (UP σx σm r tp M p dx dm e o b (fun p' cn' e' y φ => p < p' ∧ QS B tp r e cn p' cn' e' y φ)) := by
  have h4 := hU.1.1
  unfold t_term m_term
  refine JJ.bd (j_value hU h) ?_
  rintro ⟨a2, c4, o2⟩ b2 hv
  rcases hv with ⟨v1, v2, k', q', v3, v4, v5⟩ | ⟨φ2, p2, cn2, e2, v1, v2, v3, v4, v5, v6, v7, v8⟩
  · dsimp only at v1 v2 v3 v4 v5
    subst v1
    show JJ (addc c4 (some (a2, 0, none))) _ _
    refine JJ.or (om_bl hU v5) (fun b3 v5 => ?_)
    show JJ _ (m_term_8 (fun s => some s) FU b3) _
    rw [om_term8 v5 FU_0]
    exact JJ.ret (UP.none_ (by show 0 + c4 + _ ≤ tp; omega) ⟨k', q', v3, v4, v5⟩)
  · dsimp only at v1 v2 v3
    subst v1
    have hl2 := v3.ids
    have hp2 := v3.1.1
    have hs2 := sk_le (B := B) (tp := tp) (p := p2)
    have hq2 := hs2.2.1 hp2
    have hb2 := m_blanks_eq hU.1 (v3.2.2.2.2.2.2.2.tm hU.2.2.1) (show p2 ≤ 1000 by omega)
    rw [← hl2.2] at hb2
    have hsk := t_term5_sk (n := FU) (φ := φ2) hU.1 (v3.2.2.2.2.2.2.1.tc hU.2.1) hp2
    rw [← hl2.1] at hsk
    have v10 := v3.mv (p' := sk B tp p2) hq2 (by have := v3.2.2.2.2.1.1; omega)
    have kz : Kf r e2 o b2 (mx b2 (sk B tp p2)) := Kf.rf.st (Or.inl rfl)
    show JJ (addc c4 (t_term_5 FU a2 φ2)) _ _
    rw [hsk]
    refine JJ.br hb2 ?_
    refine JJ.add (Q := UP σx σm r tp M (sk B tp p2) dx dm e2 o (mx b2 (sk B tp p2)) (fun p' cn' e' y φ => sk B tp p2 ≤ p' ∧ QS B tp r e cn p' cn' e' y φ)) ?_ (fun x y hx => hx.up (by omega) (v4.tr kz (by omega) (Nat.le_refl _)) (by omega) rfl (fun p' _ _ _ z => ⟨by have := z.1; omega, z.2⟩))
    refine (j_term5 (e0 := e) (cn0 := cn) hU (tp - sk B tp p2) (sk B tp p2) FU FU _ _ cn2 e2 φ2 (Nat.le_refl _) (FU_gt (by omega)) (FU_gt (by omega)) sk_sk v10 (v8.kf kz (Nat.le_refl _)) (by omega)).mono ?_
    rintro x y (hx | ⟨φ3, p3, cn3, e3, x1, x2, x3, x4, x5⟩)
    · exact Or.inl hx
    · exact Or.inr ⟨φ3, p3, cn3, e3, x1, x2, x3, x4, by omega, x5⟩
/-! sums -/
theorem t_sum5_eq {n : Nat} (hB : TB B tp) (hC : TC B tp σ) (hp : p ≤ tp) : t_sum_5 (n + 1) (cx σ p) φ = if isS B tp (sk B tp p) = true then addc 1 ((t_term (cx σ (sk B tp p + 1))).bind fun x => addc x.2.1 (thy x.1 x.2.2 fun φ2 => t_sum_5 n x.1 (fun ws => vPair (B (sk B tp p)) (φ ws) (φ2 ws)))) else some (cx σ (sk B tp p), 0, some φ) := by
  have h4 := hB.1
  have hq := (sk_le (B := B) (tp := tp) (p := p)).2.1 hp
  have h0 := t_see_eq hB hC hp
  have hs : sk B tp (sk B tp p) = sk B tp p := sk_sk
  rw [t_sum_5, h0]
  generalize sk B tp p = q at *
  have h1 := t_see_eq hB hC hq
  rw [hs] at h1
  have go : q < tp → (gd (inb ((cx σ q).1 997 2) 400) (addc 1 ((t_term (si (cx σ q) 997 2 ((cx σ q).1 997 2 + 1))).bind fun (σ_22, c_21, o_23) => addc c_21 (thy σ_22 o_23 fun φ_27 => t_sum_5 n σ_22 (fun ws => vPair ((cx σ q).1 9 (ix ((cx σ q).1 997 2))) (φ ws) (φ_27 ws)))))) = addc 1 ((t_term (cx σ (q + 1))).bind fun x => addc x.2.1 (thy x.1 x.2.2 fun φ2 => t_sum_5 n x.1 (fun ws => vPair (B q) (φ ws) (φ2 ws)))) := by
    intro x
    rw [cx_n, inbn (by omega) (by decide), ixn (by omega), hC.cx.2 q x, nI_1, show si (cx σ q) 997 2 (nI (q + 1)) = cx σ (q + 1) from cx_cx]
    rfl
  show (if sg B tp q = 43 then _ else (t_see (cx σ q)).bind _) = _
  rw [h1]
  show (if sg B tp q = 43 then _ else (if sg B tp q = 45 then _ else some (cx σ q, 0, some φ))) = _
  rw [ifc (sg_is hB (show 0 ≤ (43 : Int32).toInt ∧ (43 : Int32).toInt ≤ 127 by decide)), ifc (sg_is hB (show 0 ≤ (45 : Int32).toInt ∧ (45 : Int32).toInt ≤ 127 by decide))]
  unfold isS
  by_cases c : q < tp
  · rw [decide_eq_true c, Bool.true_and]
    by_cases c1 : B q = 43
    · rw [if_pos ⟨c, c1⟩, decide_eq_true c1]
      exact go c
    · rw [if_neg (fun x => c1 x.2), decide_eq_false c1, Bool.false_or]
      by_cases c2 : B q = 45
      · rw [if_pos ⟨c, c2⟩, decide_eq_true c2]
        exact go c
      · rw [if_neg (fun x => c2 x.2), decide_eq_false c2]
        rfl
  · rw [if_neg (fun x => c x.1), if_neg (fun x => c x.1), decide_eq_false c]
    rfl
theorem m_sum4_eq {n : Nat} (hB : TB B tp) (hM : TM B tp β) (h29 : β.1 999 29 = 0) (hp : p < 2 ^ 31) : m_sum_4 (fun s => some s) (n + 1) (mx β p) = if isS B tp p = true then (m_term (mx β (p + 1))).bind fun s => (m_entry s (cdS (B p)) 0).bind fun s => m_sum_4 (fun s => some s) n s else some (mx β p) := by
  have h4 := hB.1
  have hz : ∀ p, (mx β p).1 999 29 = 0 := fun p => (mx_p (by decide)).trans h29
  have hg := m_sign_eq hB hM hp
  rw [m_sum_4, if_pos (hz p), hg]
  show (if sg B tp p = 43 then ((if sg B tp p = 43 then some 2 else some 3 : Option Int32).bind _) else (if sg B tp p = 45 then ((if sg B tp p = 43 then some 2 else some 3 : Option Int32).bind _) else some (mx β p))) = _
  have e42 := sg_is (p := p) hB (show 0 ≤ (43 : Int32).toInt ∧ (43 : Int32).toInt ≤ 127 by decide)
  have e47 := sg_is (p := p) hB (show 0 ≤ (45 : Int32).toInt ∧ (45 : Int32).toInt ≤ 127 by decide)
  have em : si (mx β p) 999 28 ((mx β p).1 999 28 + 1) = mx β (p + 1) := by rw [mx_n, nI_1]; exact mx_mx
  unfold isS cdS
  by_cases c : p < tp
  · rw [decide_eq_true c, Bool.true_and]
    by_cases c1 : B p = 43
    · rw [if_pos (e42.mpr ⟨c, c1⟩), if_pos (e42.mpr ⟨c, c1⟩), decide_eq_true c1, if_pos c1, ← em]
      rfl
    · have d1 : ¬ sg B tp p = 43 := fun x => c1 (e42.mp x).2
      rw [if_neg d1, decide_eq_false c1, Bool.false_or, if_neg c1]
      by_cases c2 : B p = 45
      · rw [if_pos (e47.mpr ⟨c, c2⟩), if_neg d1, decide_eq_true c2, ← em]
        rfl
      · rw [if_neg (fun x => c2 (e47.mp x).2), decide_eq_false c2]
        rfl
  · rw [if_neg (fun x => c (e42.mp x).1), if_neg (fun x => c (e47.mp x).1), decide_eq_false c]
    rfl
theorem isS_t (h : isS B tp p = true) : p < tp ∧ (cdS (B p) ≠ 0 ∧ cdS (B p) ≠ 1 ∧ cdS (B p) ≠ 9) ∧ ∀ x y, m_both (cdS (B p)) x y = some (vPair (B p) x y) := by
  unfold isS at h
  rw [Bool.and_eq_true_iff, decide_eq_true_eq, Bool.or_eq_true_iff, decide_eq_true_eq, decide_eq_true_eq] at h
  refine ⟨h.1, ?_⟩
  rcases h.2 with h | h <;> rw [h]
  · exact ⟨by decide, mb_add⟩
  · exact ⟨by decide, mb_sub⟩
theorem j_sum5 (hU : UB B tp σx σm r) : ∀ k p n n' a b cn e φ, tp - p ≤ k → k < n → k < n' → sk B tp p = p → Ul σx σm r tp M p dx dm cn e o a b → Ev r b e0 e φ → e + 1 + 2 * cn0 ≤ e0 + 2 * cn → JJ (t_sum_5 n a φ) (m_sum_4 (fun s => some s) n' b) (UP σx σm r tp M p dx dm e o b (QS B tp r e0 cn0)) := by
  intro k
  induction k with
  | zero =>
    intro p n n' a b cn e φ hk hn hn' hs h hE hc
    obtain ⟨n, rfl⟩ : ∃ m, n = m + 1 := ⟨n - 1, by omega⟩
    obtain ⟨n', rfl⟩ : ∃ m, n' = m + 1 := ⟨n' - 1, by omega⟩
    have hl := h.ids
    have hp := h.1.1
    have h4 := hU.1.1
    rw [hl.1, hl.2, t_sum5_eq hU.1 (h.2.2.2.2.2.2.1.tc hU.2.1) hp, m_sum4_eq hU.1 (h.2.2.2.2.2.2.2.tm hU.2.2.1) h.2.2.2.2.2.1.1 (by omega), hs, ← hl.1, ← hl.2]
    by_cases c : isS B tp p = true
    · have := (isS_t c).1; omega
    · rw [if_neg c, if_neg c]
      exact JJ.ret (Or.inr ⟨φ, p, cn, e, rfl, by show 0 + p ≤ p; omega, h, Kf.rf, hE, hc, hs⟩)
  | succ k ih =>
    intro p n n' a b cn e φ hk hn hn' hs h hE hc
    obtain ⟨n, rfl⟩ : ∃ m, n = m + 1 := ⟨n - 1, by omega⟩
    obtain ⟨n', rfl⟩ : ∃ m, n' = m + 1 := ⟨n' - 1, by omega⟩
    have hl := h.ids
    have hp := h.1.1
    have h4 := hU.1.1
    have ho := h.2.2.2.2.1.1
    rw [hl.1, hl.2, t_sum5_eq hU.1 (h.2.2.2.2.2.2.1.tc hU.2.1) hp, m_sum4_eq hU.1 (h.2.2.2.2.2.2.2.tm hU.2.2.1) h.2.2.2.2.2.1.1 (by omega), hs, ← hl.1, ← hl.2]
    by_cases c : isS B tp p = true
    · obtain ⟨c1, c2, c3⟩ := isS_t c
      rw [if_pos c, if_pos c]
      have h1 := h.mv (p' := p + 1) (by omega) (by omega)
      have kb : Kf r e o b (mx b (p + 1)) := Kf.rf.st (Or.inl rfl)
      refine JJ.add (Q := UP σx σm r tp M (p + 1) dx dm e o (mx b (p + 1)) (QS B tp r e0 cn0)) (JJ.bd (j_term hU h1) ?_) (fun x y hx => hx.up (by omega) kb (Nat.le_refl _) rfl (fun _ _ _ _ z => z))
      rintro ⟨a2, c4, o2⟩ b2 hv
      rcases hv with ⟨v1, v2, k', q', v3, v4, v5⟩ | ⟨φ2, p2, cn2, e2, v1, v2, v3, v4, v5, v8, v6, v7⟩
      · dsimp only at v1 v2 v3 v4 v5
        subst v1
        show JJ (addc c4 (some (a2, 0, none))) _ _
        rw [m_entry_d v5.nz]
        show JJ _ (m_sum_4 (fun s => some s) n' b2) _
        rw [om_sum4 v5 (by omega)]
        exact JJ.ret (UP.none_ (by show 0 + c4 + _ ≤ tp; omega) ⟨k', q', v3, v4, v5⟩)
      · dsimp only at v1 v2 v3
        subst v1
        have w1 := v3.2.2.2.1.1
        have h5 := h.2.2.2.1.1
        have w2 := v8.1
        have hen := v3.ent (c := cdS (B p)) (v := 0) hU (by omega)
        have v9 := v3.wr (c := cdS (B p)) (v := 0) (by omega)
        have hEv := Ev.op (x := 0) hU.2.2.2.2.1 (hE.kf kb (Nat.le_refl _)) v8 v4 (by have := v3.2.2.1.1; omega) c2 c3
        have k3 : Kf r e o (mx b (p + 1)) (en b2 r e2 (cdS (B p)) 0) := v4.wr (by omega)
        show JJ (addc c4 (t_sum_5 n a2 (fun ws => vPair (B p) (φ ws) (φ2 ws)))) ((m_entry b2 (cdS (B p)) 0).bind _) _
        rw [hen]
        exact JJ.add (ih p2 n n' _ _ cn2 (e2 + 1) _ (by omega) (by omega) (by omega) v7 v9 hEv (by omega)) (fun x y hx => hx.up (by omega) k3 (by omega) rfl (fun _ _ _ _ z => z))
    · rw [if_neg c, if_neg c]
      exact JJ.ret (Or.inr ⟨φ, p, cn, e, rfl, by show 0 + p ≤ p; omega, h, Kf.rf, hE, hc, hs⟩)
theorem j_sum (hU : UB B tp σx σm r) (h : Ul σx σm r tp M p dx dm cn e o a b) : JJ (t_sum a) (m_sum b) (UP σx σm r tp M p dx dm e o b (fun p' cn' e' y φ => p < p' ∧ QS B tp r e cn p' cn' e' y φ)) := by
  have h4 := hU.1.1
  unfold t_sum m_sum
  refine JJ.bd (j_term hU h) ?_
  rintro ⟨a2, c4, o2⟩ b2 hv
  rcases hv with ⟨v1, v2, k', q', v3, v4, v5⟩ | ⟨φ2, p2, cn2, e2, v1, v2, v3, v4, v5, v8, v6, v7⟩
  · dsimp only at v1 v2 v3 v4 v5
    subst v1
    show JJ (addc c4 (some (a2, 0, none))) (m_sum_4 (fun s => some s) FU b2) _
    rw [om_sum4 v5 FU_0]
    exact JJ.ret (UP.none_ (by show 0 + c4 + _ ≤ tp; omega) ⟨k', q', v3, v4, v5⟩)
  · dsimp only at v1 v2 v3
    subst v1
    have hp2 := v3.1.1
    have w2 := v8.1
    show JJ (addc c4 (t_sum_5 FU a2 φ2)) (m_sum_4 (fun s => some s) FU b2) _
    refine JJ.add (Q := UP σx σm r tp M p2 dx dm e2 o b2 (fun p' cn' e' y φ => p2 ≤ p' ∧ QS B tp r e cn p' cn' e' y φ)) ?_ (fun x y hx => hx.up (by omega) v4 (by omega) rfl (fun p' _ _ _ z => ⟨by have := z.1; omega, z.2⟩))
    refine (j_sum5 (e0 := e) (cn0 := cn) hU (tp - p2) p2 FU FU _ _ cn2 e2 φ2 (Nat.le_refl _) (FU_gt (by omega)) (FU_gt (by omega)) v7 v3 v8 v6).mono ?_
    rintro x y (hx | ⟨φ3, p3, cn3, e3, x1, x2, x3, x4, x5⟩)
    · exact Or.inl hx
    · exact Or.inr ⟨φ3, p3, cn3, e3, x1, x2, x3, x4, by omega, x5⟩
end US
