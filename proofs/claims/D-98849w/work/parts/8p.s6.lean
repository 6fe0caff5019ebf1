/-! PURE LAW: a strip's clauses -/
set_option maxRecDepth 100000
section CL
variable {B : Nat → Int32} {tp p q w c k mm vv ww : Nat} {σ β σ' β' σx σm a b a' b' : cS} {lo hi M : Int32}
/-- the first that holds -/
def fwi (f : Nat → Bool) : Nat → Nat → Nat
  | 0, i => i
  | k + 1, i => if f i = true then i else fwi f k (i + 1)
theorem fwi_le (f : Nat → Bool) : ∀ k i, fwi f k i ≤ i + k ∧ (fwi f k i < i + k → f (fwi f k i) = true) := by
  intro k
  induction k with
  | zero => exact fun i => ⟨Nat.le_refl _, fun h => absurd h (by show ¬ i < i + 0; omega)⟩
  | succ k ih =>
    intro i
    unfold fwi
    split
    · rename_i h
      exact ⟨by omega, fun _ => h⟩
    · have := ih (i + 1)
      exact ⟨by omega, fun h => this.2 (by omega)⟩
def swd (i : Nat) : Nat := [37, 22, 27, 38, 39, 40].getD i 0
theorem swd_e : ∀ i, i < 6 → stC (swd i) = stC i ∧ (stC i).length ≤ 100 ∧ 0 < (stC i).length := by decide +kernel
theorem m_stripWord_eq : ∀ i, i < 6 → m_stripWord (nI i) = some (swd i) := by decide +kernel
theorem swd_lt : ∀ i, i < 6 → swd i < 43 := by decide +kernel
theorem t_oneOf_11_eq (hB : TB B tp) (h : TC B tp σ) (hp : p ≤ tp) (hs : sk B tp p = p) : t_oneOf_11 (cx σ p) = some (cx σ p, if fwi (fun i => wd B tp p (stC i)) 6 0 = 6 then -1 else nI (fwi (fun i => wd B tp p (stC i)) 6 0)) := by
  have key : ∀ k i n, i + k = 6 → k < n → t_oneOf_11_2 (fun σ_8 => some (σ_8, -1)) n (cx σ p) (nI i) = some (cx σ p, if fwi (fun i => wd B tp p (stC i)) k i = 6 then -1 else nI (fwi (fun i => wd B tp p (stC i)) k i)) := by
    intro k
    induction k with
    | zero =>
      intro i n hi hn
      obtain ⟨n, rfl⟩ : ∃ m, n = m + 1 := ⟨n - 1, by omega⟩
      obtain rfl : i = 6 := by omega
      rw [t_oneOf_11_2, if_pos (show (6 : Int32) ≤ nI 6 from nI_le (a := 6) (b := 6) (Nat.le_refl _) (by decide))]
      rfl
    | succ k ih =>
      intro i n hi hn
      obtain ⟨n, rfl⟩ : ∃ m, n = m + 1 := ⟨n - 1, by omega⟩
      have hi6 : i < 6 := by omega
      rw [t_oneOf_11_2, if_neg (show ¬ (6 : Int32) ≤ nI i from nI_ge (a := i) (b := 6) hi6 (by decide)), inbn hi6 (by decide), ixn (by omega), decide_eq_true (show i < 43 by omega), t_isWord_eq hB h hp (swd_e i hi6).2.1, hs, nI_1]
      unfold fwi
      by_cases c : wd B tp p (stC i) = true
      · rw [if_pos c, if_neg (by omega), c]
        rfl
      · rw [if_neg c, show wd B tp p (stC i) = false by simpa using c]
        exact ih (i + 1) n (by omega) (by omega)
  unfold t_oneOf_11
  exact key 6 0 FU (by decide) (FU_gt (by decide))
theorem m_clause11 {ρ : Type} {v1 v2 : Int32} (hB : TB B tp) (h : TM B tp β) (hp : p ≤ 1000) (K : Int32 → Option ρ) : m_stripClause_11 (mx β p) v1 v2 K FU 0 = K (nI (fwi (fun i => wd B tp p (stC i)) 6 0)) := by
  have key : ∀ k i n, i + k = 6 → k < n → m_stripClause_11 (mx β p) v1 v2 K n (nI i) = K (nI (fwi (fun i => wd B tp p (stC i)) k i)) := by
    intro k
    induction k with
    | zero =>
      intro i n hi hn
      obtain ⟨n, rfl⟩ : ∃ m, n = m + 1 := ⟨n - 1, by omega⟩
      obtain rfl : i = 6 := by omega
      rw [m_stripClause_11, if_pos (show (6 : Int32) ≤ nI 6 from nI_le (a := 6) (b := 6) (Nat.le_refl _) (by decide))]
      rfl
    | succ k ih =>
      intro i n hi hn
      obtain ⟨n, rfl⟩ : ∃ m, n = m + 1 := ⟨n - 1, by omega⟩
      have hi6 : i < 6 := by omega
      rw [m_stripClause_11, if_neg (show ¬ (6 : Int32) ≤ nI i from nI_ge (a := i) (b := 6) hi6 (by decide)), m_stripWord_eq i hi6]
      show gd (decide (swd i < 43)) ((m_stood (mx β p) (swd i)).bind _) = _
      rw [decide_eq_true (swd_lt i hi6), m_stood_eq hB h hp (by rw [(swd_e i hi6).1]; exact (swd_e i hi6).2.1), (swd_e i hi6).1, nI_1]
      unfold fwi
      by_cases c : wd B tp p (stC i) = true
      · rw [if_pos c, c]
        rfl
      · rw [if_neg c, show wd B tp p (stC i) = false by simpa using c]
        exact ih (i + 1) n (by omega) (by omega)
  exact key 6 0 FU (by decide) (FU_gt (by decide))
/-- may this line stand here -/
def lok (mm vv ww c i : Nat) : Bool := decide (c < 40) && decide ((i = 0 ∧ mm = 0) ∨ (i ≠ 0 ∧ mm ≠ 0)) && !(decide (i = 4) && decide (8 ≤ vv)) && !(decide (i = 5) && decide (8 ≤ ww))
theorem t_canBe_eq {i : Nat} (hi : i < 6) (hc : c ≤ 40) (h1 : a.1 997 5 = nI c) (h2 : a.1 8999 0 = nI mm) (hm : mm ≤ 10) (h3 : a.1 8999 2 = nI vv) (h4 : a.1 8999 3 = nI ww) (hv : vv ≤ 8) (hw : ww ≤ 8) : t_canBe a (nI i) = some (i01 (lok mm vv ww c i)) := by
  unfold t_canBe lok
  rw [h1, h2, h3, h4]
  by_cases c1 : 40 ≤ c
  · rw [if_pos (show (40 : Int32) ≤ nI c from nI_le (a := 40) c1 (by omega)), decide_eq_false (by omega)]
    rfl
  · rw [if_neg (show ¬ (40 : Int32) ≤ nI c from nI_ge (a := c) (b := 40) (by omega) (by decide)), decide_eq_true (by omega), Bool.true_and]
    have ei : ∀ j, j < 6 → (nI i = nI j ↔ i = j) := fun j hj => nI_eq (by omega) (by omega)
    have em : (nI mm = 0 ↔ mm = 0) := nI_eq (b := 0) (by omega) (by decide)
    have e4 : (nI i = 4 ↔ i = 4) := ei 4 (by decide)
    have e5 : (nI i = 5 ↔ i = 5) := ei 5 (by decide)
    have e0 : (nI i = 0 ↔ i = 0) := ei 0 (by decide)
    have l8 : ((8 : Int32) ≤ nI vv ↔ 8 ≤ vv) := nI_leI (a := 8) (by decide) (by omega)
    have w8 : ((8 : Int32) ≤ nI ww ↔ 8 ≤ ww) := nI_leI (a := 8) (by decide) (by omega)
    rw [ifc e0, ifc em, ifc e4, ifc e5, ifc l8, ifc w8]
    have hd : ∀ n, (n = 0 ∨ n ≠ 0) := fun n => by omega
    rcases hd i with c0 | c0 <;> rcases hd mm with c2 | c2
    · rw [if_pos c0, if_pos c2, decide_eq_true (Or.inl ⟨c0, c2⟩)]
      subst c0
      rfl
    · rw [if_pos c0, if_neg c2, decide_eq_false (by omega)]
      rfl
    · rw [if_neg c0, if_pos c2, decide_eq_false (by omega)]
      rfl
    · rw [if_neg c0, if_neg c2, decide_eq_true (Or.inr ⟨c0, c2⟩)]
      show (if (0 : Int32) = 0 then (if i = 4 then (if 8 ≤ vv then some 0 else some 1) else (if i = 5 then (if 8 ≤ ww then some 0 else some 1) else some 1)) else some 0 : Option Int32) = _
      rw [if_pos rfl, Bool.true_and]
      by_cases c4 : i = 4
      · rw [if_pos c4, decide_eq_true c4, decide_eq_false (show ¬ i = 5 by omega)]
        by_cases c8 : 8 ≤ vv
        · rw [if_pos c8, decide_eq_true c8]; rfl
        · rw [if_neg c8, decide_eq_false c8]; rfl
      · rw [if_neg c4, decide_eq_false c4]
        by_cases c5 : i = 5
        · rw [if_pos c5, decide_eq_true c5]
          by_cases c8 : 8 ≤ ww
          · rw [if_pos c8, decide_eq_true c8]; rfl
          · rw [if_neg c8, decide_eq_false c8]; rfl
        · rw [if_neg c5, decide_eq_false c5]
          rfl
theorem m_isFull_eq {i : Nat} (hi : i < 6) (hc : c ≤ 40) (hcm : c = 0 ↔ mm = 0) (h3 : b.1 17 2 = nI vv) (h4 : b.1 17 3 = nI ww) (hv : vv ≤ 8) (hw : ww ≤ 8) : m_isFull b (nI i) (nI c) = some (i01 (!(lok mm vv ww c i))) := by
  unfold m_isFull lok
  rw [show ix 2 = 2 from rfl, show ix 3 = 3 from rfl, h3, h4]
  have ec : (nI c = 40 ↔ c = 40) := nI_eq (b := 40) (by omega) (by decide)
  rw [ifc ec]
  by_cases c1 : c = 40
  · rw [if_pos c1, decide_eq_false (by omega)]
    rfl
  · rw [if_neg c1, decide_eq_true (by omega), Bool.true_and]
    have ei : ∀ j, j < 6 → (nI i = nI j ↔ i = j) := fun j hj => nI_eq (by omega) (by omega)
    have em : (nI c = 0 ↔ mm = 0) := (nI_eq (b := 0) (by omega) (by decide)).trans hcm
    have e4 : (nI i = 4 ↔ i = 4) := ei 4 (by decide)
    have e5 : (nI i = 5 ↔ i = 5) := ei 5 (by decide)
    have e0 : (nI i = 0 ↔ i = 0) := ei 0 (by decide)
    have l8 : (nI vv = 8 ↔ 8 ≤ vv) := (nI_eq (b := 8) (by omega) (by decide)).trans (by omega)
    have w8 : (nI ww = 8 ↔ 8 ≤ ww) := (nI_eq (b := 8) (by omega) (by decide)).trans (by omega)
    rw [ifc e0, ifc em, ifc e4, ifc e5, ifc l8, ifc w8]
    have hd : ∀ n, (n = 0 ∨ n ≠ 0) := fun n => by omega
    rcases hd i with c0 | c0 <;> rcases hd mm with c2 | c2
    · rw [if_pos c0, if_pos c2, decide_eq_true (Or.inl ⟨c0, c2⟩)]
      subst c0
      rfl
    · rw [if_pos c0, if_neg c2, decide_eq_false (by omega)]
      rfl
    · rw [if_neg c0, if_pos c2, decide_eq_false (by omega)]
      rfl
    · rw [if_neg c0, if_neg c2, decide_eq_true (Or.inr ⟨c0, c2⟩)]
      show (if (0 : Int32) = 0 then (if i = 4 then (if 8 ≤ vv then some 1 else some 0) else (if i = 5 then (if 8 ≤ ww then some 1 else some 0) else some 0)) else some 1 : Option Int32) = _
      rw [if_pos rfl, Bool.true_and]
      by_cases c4 : i = 4
      · rw [if_pos c4, decide_eq_true c4, decide_eq_false (show ¬ i = 5 by omega)]
        by_cases c8 : 8 ≤ vv
        · rw [if_pos c8, decide_eq_true c8]; rfl
        · rw [if_neg c8, decide_eq_false c8]; rfl
      · rw [if_neg c4, decide_eq_false c4]
        by_cases c5 : i = 5
        · rw [if_pos c5, decide_eq_true c5]
          by_cases c8 : 8 ≤ ww
          · rw [if_pos c8, decide_eq_true c8]; rfl
          · rw [if_neg c8, decide_eq_false c8]; rfl
        · rw [if_neg c5, decide_eq_false c5]
          rfl
theorem lok_t {i : Nat} (h : lok mm vv ww c i = true) : c < 40 ∧ ((i = 0 ∧ mm = 0) ∨ (i ≠ 0 ∧ mm ≠ 0)) ∧ (i = 4 → vv < 8) ∧ (i = 5 → ww < 8) := by
  unfold lok at h
  simp only [Bool.and_eq_true, decide_eq_true_eq, Bool.not_eq_true', Bool.and_eq_false_iff, decide_eq_false_iff_not] at h
  omega
/-! going on -/
theorem sg_m1 (hB : TB B tp) : sg B tp q = -1 ↔ tp ≤ q := by
  unfold sg
  by_cases c : q < tp
  · rw [if_pos c]
    have := hB.2 q c
    have h1 := this.1
    have h2 := this.2
    constructor
    · intro e
      rw [i_eq, sg_b this, show (-1 : Int32).toInt = -1 by decide] at e
      split at e <;> omega
    · intro x; omega
  · rw [if_neg c]
    exact ⟨fun _ => by omega, fun _ => rfl⟩
theorem m_goesOn_eq (hB : TB B tp) (h : TM B tp β) (h29 : β.1 999 29 = 0) (hp : p ≤ tp) : m_goesOn (mx β p) = if tp ≤ sk B tp p then some (mx β (sk B tp p + 1), 0) else if sg B tp (sk B tp p) = 59 then some (mx β (sk B tp p + 1), 1) else some (si (fm (mx β (sk B tp p)) 0 (sk B tp p)) 999 28 (nI (sk B tp p + 1)), 0) := by
  have h4 := hB.1
  have hq := (sk_le (B := B) (tp := tp) (p := p)).2.1 hp
  unfold m_goesOn
  rw [m_blanks_eq hB h (by omega)]
  generalize sk B tp p = q at *
  have hz : ∀ p, (mx β p).1 999 29 = 0 := fun p => (mx_p (by decide)).trans h29
  show ((if (mx β q).1 999 29 = 0 then (if (mx β q).1 999 27 ≤ (mx β q).1 999 28 then some (mx β q) else (m_sign (mx β q)).bind _) else _ : Option cS).bind _) = _
  rw [if_pos (hz q), h.mx.1, mx_n, m_sign_eq hB h (by omega)]
  have e1 : ∀ _ : Nat, si (mx β q) 999 28 (nI q + 1) = mx β (q + 1) := fun _ => by rw [nI_1]; exact mx_mx
  by_cases c : tp ≤ q
  · rw [if_pos (nI_le c (by omega)), if_pos c]
    show ((if (mx β q).1 999 29 = 0 then (if (mx β q).1 999 27 ≤ (mx β q).1 999 28 then some 0 else some 1) else some 0 : Option Int32).bind fun t_5 => (gd (zb t_5) (some (si (mx β q) 999 28 ((mx β q).1 999 28 + 1), t_5)))) = _
    rw [if_pos (hz q), h.mx.1, mx_n, if_pos (nI_le c (by omega)), e1 0]
    rfl
  · rw [if_neg (nI_ge (by omega) (by omega)), if_neg c]
    show ((if sg B tp q = 59 then some (mx β q) else (m_fails (mx β q) 0 (nI q)).bind fun σ_16 => some σ_16 : Option cS).bind _) = _
    by_cases c2 : sg B tp q = 59
    · rw [if_pos c2, if_pos c2]
      show ((if (mx β q).1 999 29 = 0 then (if (mx β q).1 999 27 ≤ (mx β q).1 999 28 then some 0 else some 1) else some 0 : Option Int32).bind fun t_5 => (gd (zb t_5) (some (si (mx β q) 999 28 ((mx β q).1 999 28 + 1), t_5)))) = _
      rw [if_pos (hz q), h.mx.1, mx_n, if_neg (nI_ge (by omega) (by omega)), e1 0]
      rfl
    · rw [if_neg c2, if_neg c2, show (0 : Int32) = nI 0 from rfl, m_fails_0 (hz q)]
      show ((if (fm (mx β q) 0 q).1 999 29 = 0 then _ else some 0 : Option Int32).bind fun t_5 => (gd (zb t_5) (some (si (fm (mx β q) 0 q) 999 28 ((fm (mx β q) 0 q).1 999 28 + 1), t_5)))) = _
      rw [if_neg (by rw [show (fm (mx β q) 0 q).1 999 29 = nI (1 + 8 * q + 0) from si_a]; exact nI_ne0 (by omega) (by omega)), show (fm (mx β q) 0 q).1 999 28 = nI q from (si_p (by decide)).trans mx_n, nI_1]
      rfl
theorem om_goesd (hB : TB B tp) (hT : TM B tp σm) (h : Dd σm k q b) : OO (m_goesOn b) (fun z => z.2 = 0 ∧ z.1.1 999 29 = nI (1 + 8 * q + k) ∧ Sm σm z.1) := by
  have h4 := hB.1
  obtain ⟨p, hp, ep⟩ := h.2.2
  unfold m_goesOn
  rw [mx_id ep, m_blanks_eq hB (h.2.1.tm hT) (by omega)]
  generalize sk B tp p = r
  have hz : ¬ (mx b r).1 999 29 = 0 := by rw [mx_p (by decide)]; exact h.nz
  show OO ((if (mx b r).1 999 29 = 0 then _ else some (mx b r) : Option cS).bind _) _
  rw [if_neg hz]
  show OO ((if (mx b r).1 999 29 = 0 then _ else some 0 : Option Int32).bind _) _
  rw [if_neg hz]
  exact OO.ret ⟨rfl, by dsimp only; rw [si_p (by decide), mx_p (by decide)]; exact h.1.1, (h.2.1.st (by omega)).st (by omega)⟩
end CL
