/-! PURE LAW: a rule that is read: the relation, numbers and words -/
set_option maxRecDepth 100000
def Ux (σx a : cS) : Prop := ∀ k, k ≠ 997 → k ≠ 998 → a.1 k = σx.1 k
def Um (r : Nat) (σm b : cS) : Prop := (∀ k, ¬ (38 ≤ k ∧ k ≤ 44) → k ≠ 999 → b.1 k = σm.1 k) ∧ b.1 40 = σm.1 40 ∧ (∀ i, i < 300 * r → b.1 38 i = σm.1 38 i ∧ b.1 39 i = σm.1 39 i) ∧ (∀ i, i < 12 * r → b.1 41 i = σm.1 41 i ∧ b.1 42 i = σm.1 42 i ∧ b.1 43 i = σm.1 43 i) ∧ ∀ i, i ≠ 28 → i ≠ 29 → i ≠ 32 → i ≠ 33 → i ≠ 34 → i ≠ 35 → b.1 999 i = σm.1 999 i
/-- what a phrase leaves of what was read ahead of it -/
def Kf (r e o : Nat) (b y : cS) : Prop := (∀ i, i < 300 * r + e → y.1 38 i = b.1 38 i ∧ y.1 39 i = b.1 39 i) ∧ (∀ i, i < o → y.1 44 i = b.1 44 i) ∧ y.1 41 = b.1 41 ∧ y.1 42 = b.1 42 ∧ y.1 43 = b.1 43
/-- both read on: place, nested in the class and in the model, counted, entries, opened -/
def Ul (σx σm : cS) (r tp : Nat) (M : Int32) (p dx dm cn e o : Nat) (a b : cS) : Prop := (p ≤ tp ∧ a.1 997 2 = nI p ∧ b.1 999 28 = nI p) ∧ (dx ≤ 10 ∧ a.1 997 3 = nI dx ∧ b.1 999 33 = nI dm) ∧ (cn ≤ 60 ∧ a.1 997 4 = nI cn ∧ b.1 999 34 = nI cn) ∧ (e ≤ 5 * cn ∧ b.1 999 32 = nI e) ∧ ((400 < o ∨ o ≤ p) ∧ b.1 999 35 = nI o) ∧ (b.1 999 29 = 0 ∧ a.1 997 5 = M) ∧ Ux σx a ∧ Um r σm b
/-- the model's first fault is told -/
def Dm (r : Nat) (σm : cS) (k q : Nat) (b : cS) : Prop := (b.1 999 29 = nI (1 + 8 * q + k) ∧ k ≤ 7 ∧ q ≤ 400) ∧ Um r σm b ∧ ∃ p, p ≤ 500 ∧ b.1 999 28 = nI p
/-- the class has thrown -/
def Ud (σx σm : cS) (r : Nat) (a b : cS) : Prop := ∃ k q, (a.1 998 6 = nI k ∧ a.1 998 7 = nI q) ∧ Ux σx a ∧ Dm r σm k q b
/-- a phrase is read, or both have told the fault -/
def UP {ρ : Type} (σx σm : cS) (r tp : Nat) (M : Int32) (p dx dm e o : Nat) (b : cS) (Q : Nat → Nat → Nat → cS → ρ → Prop) (x : cS × Nat × Option ρ) (y : cS) : Prop := (x.2.2 = none ∧ x.2.1 + p ≤ tp ∧ Ud σx σm r x.1 y) ∨ (∃ φ p' cn' e', x.2.2 = some φ ∧ x.2.1 + p ≤ p' ∧ Ul σx σm r tp M p' dx dm cn' e' o x.1 y ∧ Kf r e o b y ∧ Q p' cn' e' y φ)
def UB (B : Nat → Int32) (tp : Nat) (σx σm : cS) (r : Nat) : Prop := TB B tp ∧ TC B tp σx ∧ TM B tp σm ∧ σm.1 999 30 = nI r ∧ r < 6 ∧ σm.1 999 36 = 12
section UA
variable {B : Nat → Int32} {tp p p' q w c k r dx dm cn e e1 o o1 : Nat} {σ β σ' β' σx σm a b y z a' b' : cS} {lo hi M v : Int32}
theorem Ux.tc (h : Ux σx a) (hT : TC B tp σx) : TC B tp a := hT.of (by rw [h 999 (by decide) (by decide)]) (h 9 (by decide) (by decide))
theorem Um.tm (h : Um r σm b) (hT : TM B tp σm) : TM B tp b := hT.of (h.2.2.2.2 27 (by decide) (by decide) (by decide) (by decide) (by decide) (by decide)) (h.1 37 (by omega) (by decide))
theorem Um.slot (h : Um r σm b) (hr : σm.1 999 30 = nI r) : b.1 999 30 = nI r := (h.2.2.2.2 30 (by decide) (by decide) (by decide) (by decide) (by decide) (by decide)).trans hr
theorem Ux.st {i : Nat} (h : Ux σx a) (hk : k = 997 ∨ k = 998) : Ux σx (si a k i v) := fun j h1 h2 => by rw [si_o (by omega)]; exact h j h1 h2
theorem Um.st {i : Nat} (h : Um r σm b) (hk : (k = 999 ∧ (i = 28 ∨ i = 29 ∨ i = 32 ∨ i = 33 ∨ i = 34 ∨ i = 35)) ∨ k = 44 ∨ ((k = 38 ∨ k = 39) ∧ 300 * r ≤ i) ∨ ((k = 41 ∨ k = 42 ∨ k = 43) ∧ 12 * r ≤ i)) : Um r σm (si b k i v) := by
  have cell : ∀ j m, (j = k → m ≠ i) → (si b k i v).1 j m = b.1 j m := by
    intro j m hm
    by_cases e : j = k
    · subst e; exact si_p (hm rfl)
    · rw [si_o e]
  refine ⟨fun j h1 h2 => by rw [si_o (by omega)]; exact h.1 j h1 h2, by rw [si_o (by omega)]; exact h.2.1, fun j hj => ?_, fun j hj => ?_, fun j h1 h2 h3 h4 h5 h6 => ?_⟩
  · rw [cell 38 j (by omega), cell 39 j (by omega)]; exact h.2.2.1 j hj
  · rw [cell 41 j (by omega), cell 42 j (by omega), cell 43 j (by omega)]; exact h.2.2.2.1 j hj
  · rw [cell 999 j (by omega)]; exact h.2.2.2.2 j h1 h2 h3 h4 h5 h6
theorem Kf.rf : Kf r e o b b := ⟨fun _ _ => ⟨rfl, rfl⟩, fun _ _ => rfl, rfl, rfl, rfl⟩
theorem Kf.tr (h : Kf r e o b y) (h2 : Kf r e1 o1 y z) (he : e ≤ e1) (ho : o ≤ o1) : Kf r e o b z := ⟨fun i hi => ⟨(h2.1 i (by omega)).1.trans (h.1 i hi).1, (h2.1 i (by omega)).2.trans (h.1 i hi).2⟩, fun i hi => (h2.2.1 i (by omega)).trans (h.2.1 i hi), h2.2.2.1.trans h.2.2.1, h2.2.2.2.1.trans h.2.2.2.1, h2.2.2.2.2.trans h.2.2.2.2⟩
theorem Kf.st {i : Nat} (h : Kf r e o b y) (hk : k = 999 ∨ (k = 44 ∧ o ≤ i) ∨ ((k = 38 ∨ k = 39) ∧ 300 * r + e ≤ i)) : Kf r e o b (si y k i v) := by
  have cell : ∀ j m, (j = k → m ≠ i) → (si y k i v).1 j m = y.1 j m := by
    intro j m hm
    by_cases e : j = k
    · subst e; exact si_p (hm rfl)
    · rw [si_o e]
  exact ⟨fun j hj => ⟨by rw [cell 38 j (by omega)]; exact (h.1 j hj).1, by rw [cell 39 j (by omega)]; exact (h.1 j hj).2⟩, fun j hj => by rw [cell 44 j (by omega)]; exact h.2.1 j hj, by rw [si_o (by omega)]; exact h.2.2.1, by rw [si_o (by omega)]; exact h.2.2.2.1, by rw [si_o (by omega)]; exact h.2.2.2.2⟩
theorem Kf.wr {x c : Int32} (h : Kf r e o b y) (he : e ≤ e1) : Kf r e o b (en y r e1 c x) := ((h.st (Or.inr (Or.inr ⟨Or.inl rfl, by omega⟩))).st (Or.inr (Or.inr ⟨Or.inr rfl, by omega⟩))).st (Or.inl rfl)
theorem Ev.kf {e2 : Nat} {V : Wds → Int64} (h : Ev r b e1 e2 V) (hK : Kf r e o b y) (he : e2 ≤ e) : Ev r y e1 e2 V := h.mv (fun i hi => hK.1 _ (by omega))
theorem Ul.mv (h : Ul σx σm r tp M p dx dm cn e o a b) (h1 : p' ≤ tp) (h2 : 400 < o ∨ o ≤ p') : Ul σx σm r tp M p' dx dm cn e o (cx a p') (mx b p') := by
  obtain ⟨⟨a1, a2, a3⟩, ⟨b1, b2, b3⟩, ⟨c1, c2, c3⟩, ⟨d1, d2⟩, ⟨o1, o2⟩, ⟨f1, f2⟩, hX, hM⟩ := h
  exact ⟨⟨h1, cx_n, mx_n⟩, ⟨b1, (cx_p (by decide)).trans b2, (mx_p (by decide)).trans b3⟩, ⟨c1, (cx_p (by decide)).trans c2, (mx_p (by decide)).trans c3⟩, ⟨d1, (mx_p (by decide)).trans d2⟩, ⟨h2, (mx_p (by decide)).trans o2⟩, ⟨(mx_p (by decide)).trans f1, (cx_p (by decide)).trans f2⟩, hX.st (Or.inl rfl), hM.st (by omega)⟩
theorem Ul.ids (h : Ul σx σm r tp M p dx dm cn e o a b) : a = cx a p ∧ b = mx b p := ⟨cx_id h.1.2.1, mx_id h.1.2.2⟩
theorem Ul.cnt (h : Ul σx σm r tp M p dx dm cn e o a b) (h1 : cn < 60) : Ul σx σm r tp M p dx dm (cn + 1) e o (si a 997 4 (nI (cn + 1))) (si b 999 34 (nI (cn + 1))) := by
  obtain ⟨⟨a1, a2, a3⟩, ⟨b1, b2, b3⟩, ⟨c1, c2, c3⟩, ⟨d1, d2⟩, ⟨o1, o2⟩, ⟨f1, f2⟩, hX, hM⟩ := h
  exact ⟨⟨a1, (si_p (by decide)).trans a2, (si_p (by decide)).trans a3⟩, ⟨b1, (si_p (by decide)).trans b2, (si_p (by decide)).trans b3⟩, ⟨h1, si_a, si_a⟩, ⟨by omega, (si_p (by decide)).trans d2⟩, ⟨o1, (si_p (by decide)).trans o2⟩, ⟨(si_p (by decide)).trans f1, (si_p (by decide)).trans f2⟩, hX.st (Or.inl rfl), hM.st (by omega)⟩
theorem en_p {i : Nat} {c v : Int32} (h : i ≠ 32) : (en b r e c v).1 999 i = b.1 999 i := by unfold en; rw [si_p h, si_o (by decide), si_o (by decide)]
theorem en_c {c v : Int32} : (en b r e c v).1 38 (300 * r + e) = c := by unfold en; rw [si_o (by decide), si_o (by decide)]; exact si_a
theorem en_v {c v : Int32} : (en b r e c v).1 39 (300 * r + e) = v := by unfold en; rw [si_o (by decide)]; exact si_a
theorem Ul.wr {c v : Int32} (h : Ul σx σm r tp M p dx dm cn e o a b) (h1 : e + 1 ≤ 5 * cn) : Ul σx σm r tp M p dx dm cn (e + 1) o a (en b r e c v) := by
  obtain ⟨⟨a1, a2, a3⟩, ⟨b1, b2, b3⟩, ⟨c1, c2, c3⟩, ⟨d1, d2⟩, ⟨o1, o2⟩, ⟨f1, f2⟩, hX, hM⟩ := h
  exact ⟨⟨a1, a2, (en_p (by decide)).trans a3⟩, ⟨b1, b2, (en_p (by decide)).trans b3⟩, ⟨c1, c2, (en_p (by decide)).trans c3⟩, ⟨h1, si_a⟩, ⟨o1, (en_p (by decide)).trans o2⟩, ⟨(en_p (by decide)).trans f1, f2⟩, hX, ((hM.st (by omega)).st (by omega)).st (by omega)⟩
theorem Ul.ent {c v : Int32} (hU : UB B tp σx σm r) (h : Ul σx σm r tp M p dx dm cn e o a b) (h1 : e + 1 ≤ 5 * cn) : m_entry b c v = some (en b r e c v) := m_entry_eq h.2.2.2.2.2.1.1 (h.2.2.2.2.2.2.2.slot hU.2.2.2.1) h.2.2.2.1.2 hU.2.2.2.2.1 (by have := h.2.2.1.1; omega)
theorem Dm.nz (h : Dm r σm k q b) : ¬ b.1 999 29 = 0 := by
  have := h.1.2
  rw [h.1.1]
  exact nI_ne0 (by omega) (by omega)
theorem Dm.st {i : Nat} (h : Dm r σm k q b) (hk : i = 32 ∨ i = 33 ∨ i = 34 ∨ i = 35) : Dm r σm k q (si b 999 i v) := ⟨⟨(si_p (by omega)).trans h.1.1, h.1.2⟩, h.2.1.st (by omega), by obtain ⟨p, h1, h2⟩ := h.2.2; exact ⟨p, h1, (si_p (by omega)).trans h2⟩⟩
theorem Dm.mv (h : Dm r σm k q b) (hp : p ≤ 500) : Dm r σm k q (mx b p) := ⟨⟨(mx_p (by decide)).trans h.1.1, h.1.2⟩, h.2.1.st (by omega), p, hp, mx_n⟩
theorem Um.dd (h : Um r σm b) (hk : k ≤ 7) (hq : q ≤ 400) (hp : p ≤ 500) : Dm r σm k q (fm (mx b p) k q) := ⟨⟨si_a, hk, hq⟩, (h.st (by omega)).st (by omega), p, hp, (si_p (by decide)).trans mx_n⟩
theorem Um.fmm (h : Um r σm b) (hk : k ≤ 7) (hq : q ≤ 400) (hp : p ≤ 500) (e : b.1 999 28 = nI p) : Dm r σm k q (fm b k q) := ⟨⟨si_a, hk, hq⟩, h.st (by omega), p, hp, (si_p (by decide)).trans e⟩
theorem Ux.fxx (h : Ux σx a) : Ux σx (fx a k q) := (h.st (by omega)).st (by omega)
/-! no fault after the first -/
theorem isC_d (h : Dm r σm k q b) : m_isCounted b v = some (si b 999 34 (b.1 999 34 + 1)) := by
  unfold m_isCounted
  rw [m_fails_d h.nz]
  by_cases c : b.1 999 34 = 60
  · rw [if_pos c]; rfl
  · rw [if_neg c]; rfl
theorem om_isC (h : Dm r σm k q b) : OO (m_isCounted b v) (Dm r σm k q) := by
  rw [isC_d h]
  exact OO.ret (h.st (by omega))
theorem om_bl (hU : UB B tp σx σm r) (h : Dm r σm k q b) : OO (m_blanks b) (Dm r σm k q) := by
  have h4 := hU.1.1
  obtain ⟨p, hp, ep⟩ := h.2.2
  have hs := sk_le (B := B) (tp := tp) (p := p)
  have hs2 : sk B tp p ≤ 500 := by
    by_cases x : p ≤ tp
    · have := hs.2.1 x; omega
    · rw [sk_ge (by omega)]; exact hp
  rw [mx_id ep, m_blanks_eq hU.1 (h.2.1.tm hU.2.2.1) (by omega)]
  exact OO.ret (h.mv hs2)
theorem om_dig (hU : UB B tp σx σm r) (h : Dm r σm k q b) : OO (m_digits b 99999) (fun z => Dm r σm k q z.1) := by
  have h4 := hU.1.1
  have hM := h.2.1.tm hU.2.2.1
  obtain ⟨p, hp, ep⟩ := h.2.2
  have hnd := nd_le (B := B) (tp := tp) (q := p)
  rw [mx_id ep]
  unfold m_digits
  rw [m_isDigit_eq hU.1 hM (by omega)]
  by_cases c : nd B tp p = 0
  · rw [nd_0.mp c]
    show OO ((m_fails (mx b p) 0 ((mx b p).1 999 28)).bind _) _
    rw [m_fails_d (h.mv hp).nz]
    exact OO.ret (h.mv hp)
  · have c1 : (decide (p < tp) && isD (B p)) = true := by
      cases hc : (decide (p < tp) && isD (B p)) with
      | true => rfl
      | false => exact absurd (nd_0.mpr hc) c
    have hpt : p < tp := by
      rw [Bool.and_eq_true_iff, decide_eq_true_eq] at c1
      exact c1.1
    rw [c1]
    show OO (m_digits_25 99999 ((mx b p).1 999 28) _ FU (mx b (p + 0)) (nI 0)) _
    rw [mx_n, m_num25 hU.1 hM (tp - p) 0 0 FU (by omega) (by omega) (FU_gt (by omega)) (by decide)]
    have hz := h.mv (show p + nd B tp p ≤ 500 by omega)
    show OO (if 5 < (mx b (p + nd B tp p)).1 999 28 - nI p then (m_fails (mx b (p + nd B tp p)) 1 _).bind _ else (if nI (nv B tp p) ≤ 99999 then _ else (m_fails (mx b (p + nd B tp p)) 1 _).bind _)) _
    rw [m_fails_d hz.nz]
    refine OO.ii (fun _ => OO.ret hz) (fun _ => OO.ii (fun _ => OO.ret hz) (fun _ => OO.ret hz))
/-! words of a rule -/
theorem wn_e : ∀ i, i < 12 → stC (wnL.getD i 0) = stC (22 + i) ∧ (stC (22 + i)).length ≤ 100 ∧ 0 < (stC (22 + i)).length := by decide +kernel
theorem wn_lt : ∀ i, i < 12 → wnL.getD i 0 < 43 := by decide +kernel
theorem m_wordOf_eq : ∀ i, i < 12 → m_wordOf (nI i) = some (22 + i) := by decide +kernel
def fww (B : Nat → Int32) (tp p : Nat) : Nat := fwi (fun i => wd B tp p (stC (22 + i))) 12 0
theorem t_oneOf_13_eq (hB : TB B tp) (h : TC B tp σ) (hp : p ≤ tp) (hs : sk B tp p = p) : t_oneOf_13 (cx σ p) = some (cx σ p, if fww B tp p = 12 then -1 else nI (fww B tp p)) := by
  have key : ∀ k i n, i + k = 12 → k < n → t_oneOf_13_2 (fun σ_8 => some (σ_8, -1)) n (cx σ p) (nI i) = some (cx σ p, if fwi (fun i => wd B tp p (stC (22 + i))) k i = 12 then -1 else nI (fwi (fun i => wd B tp p (stC (22 + i))) k i)) := by
    intro k
    induction k with
    | zero =>
      intro i n hi hn
      obtain ⟨n, rfl⟩ : ∃ m, n = m + 1 := ⟨n - 1, by omega⟩
      obtain rfl : i = 12 := by omega
      rw [t_oneOf_13_2, if_pos (show (12 : Int32) ≤ nI 12 from nI_le (a := 12) (b := 12) (Nat.le_refl _) (by decide))]
      rfl
    | succ k ih =>
      intro i n hi hn
      obtain ⟨n, rfl⟩ : ∃ m, n = m + 1 := ⟨n - 1, by omega⟩
      have hi6 : i < 12 := by omega
      rw [t_oneOf_13_2, if_neg (show ¬ (12 : Int32) ≤ nI i from nI_ge (a := i) (b := 12) hi6 (by decide)), inbn hi6 (by decide), ixn (by omega), decide_eq_true (wn_lt i hi6), t_isWord_eq hB h hp (by rw [(wn_e i hi6).1]; exact (wn_e i hi6).2.1), (wn_e i hi6).1, hs, nI_1]
      unfold fwi
      by_cases c : wd B tp p (stC (22 + i)) = true
      · rw [if_pos c, if_neg (by omega), c]
        rfl
      · rw [if_neg c, show wd B tp p (stC (22 + i)) = false by simpa using c]
        exact ih (i + 1) n (by omega) (by omega)
  unfold t_oneOf_13
  exact key 12 0 FU (by decide) (FU_gt (by decide))
theorem m_val38 {ρ : Type} {v1 : Int32} (hB : TB B tp) (h : TM B tp β) (h36 : β.1 999 36 = 12) (hp : p ≤ 1000) (K : Int32 → Option ρ) : m_value_38 (mx β p) v1 K FU 0 = K (nI (fww B tp p)) := by
  have h36' : (mx β p).1 999 36 = nI 12 := (mx_p (by decide)).trans h36
  have key : ∀ k i n, i + k = 12 → k < n → m_value_38 (mx β p) v1 K n (nI i) = K (nI (fwi (fun i => wd B tp p (stC (22 + i))) k i)) := by
    intro k
    induction k with
    | zero =>
      intro i n hi hn
      obtain ⟨n, rfl⟩ : ∃ m, n = m + 1 := ⟨n - 1, by omega⟩
      obtain rfl : i = 12 := by omega
      rw [m_value_38, h36', if_pos (nI_le (Nat.le_refl _) (by decide))]
      rfl
    | succ k ih =>
      intro i n hi hn
      obtain ⟨n, rfl⟩ : ∃ m, n = m + 1 := ⟨n - 1, by omega⟩
      have hi6 : i < 12 := by omega
      rw [m_value_38, h36', if_neg (nI_ge hi6 (by decide)), m_wordOf_eq i hi6]
      show gd (decide (22 + i < 43)) ((m_stood (mx β p) (22 + i)).bind _) = _
      rw [decide_eq_true (by omega), m_stood_eq hB h hp (wn_e i hi6).2.1, nI_1]
      unfold fwi
      by_cases c : wd B tp p (stC (22 + i)) = true
      · rw [if_pos c, c]
        rfl
      · rw [if_neg c, show wd B tp p (stC (22 + i)) = false by simpa using c]
        exact ih (i + 1) n (by omega) (by omega)
  exact key 12 0 FU (by decide) (FU_gt (by decide))
/-- a word that stands ends on the tape -/
theorem wd_len {L : List Int32} (h : wd B tp p L = true) (hL : 0 < L.length) : p + L.length ≤ tp := by
  unfold wd at h
  have h1 : lt_ B tp p = L.length := of_decide_eq_true (Bool.and_eq_true_iff.mp h).1
  have := ltf_le B (tp - p) p
  unfold lt_ at h1
  omega
theorem fww_le : fww B tp p ≤ 12 ∧ (fww B tp p < 12 → wd B tp p (stC (22 + fww B tp p)) = true) := by
  have := fwi_le (fun i => wd B tp p (stC (22 + i))) 12 0
  unfold fww
  exact ⟨by omega, fun h => this.2 (by omega)⟩
theorem om_val (hU : UB B tp σx σm r) (h : Dm r σm k q b) : OO (m_value b) (Dm r σm k q) := by
  have h4 := hU.1.1
  unfold m_value
  refine OO.bd (om_bl hU h) (fun b h => ?_)
  have hM := h.2.1.tm hU.2.2.1
  obtain ⟨p, hp, ep⟩ := h.2.2
  have hf := fww_le (B := B) (tp := tp) (p := p)
  rw [mx_id ep, m_isDigit_eq hU.1 hM (by omega)]
  have h36 : b.1 999 36 = 12 := (h.2.1.2.2.2.2 36 (by decide) (by decide) (by decide) (by decide) (by decide) (by decide)).trans hU.2.2.2.2.2
  cases hc : (decide (p < tp) && isD (B p)) with
  | false =>
    show OO (m_value_38 (mx b p) _ _ FU 0) _
    rw [m_val38 hU.1 hM h36 (by omega), show (mx b p).1 999 36 = nI 12 from (mx_p (by decide)).trans h36]
    by_cases e : fww B tp p = 12
    · rw [if_pos (by rw [e]), m_fails_d (h.mv hp).nz]
      exact OO.ret (h.mv hp)
    · rw [if_neg (fun x => e ((nI_eq (by omega) (by decide)).mp x))]
      have f12 : fww B tp p < 12 := by omega
      have hl := wd_len (hf.2 f12) (wn_e _ f12).2.2
      have hd : Dm r σm k q (si (si (mx b p) 999 34 ((mx b p).1 999 34 + 1)) 999 28 (nI (p + (stC (22 + fww B tp p)).length))) := by
        have h2 := (h.mv (p := p) hp).st (i := 34) (v := (mx b p).1 999 34 + 1) (by omega)
        exact h2.mv (by omega)
      rw [isC_d (h.mv hp)]
      show OO ((m_wordOf (nI (fww B tp p))).bind _) _
      rw [m_wordOf_eq _ f12]
      show OO (gd (decide (22 + fww B tp p < 43)) ((m_entry (si (si (mx b p) 999 34 ((mx b p).1 999 34 + 1)) 999 28 ((si (mx b p) 999 34 ((mx b p).1 999 34 + 1)).1 999 28 + nI (stC (22 + fww B tp p)).length)) 1 _).bind _)) _
      rw [decide_eq_true (by omega), si_p (by decide : 28 ≠ 34), mx_n, nI_add, m_entry_d hd.nz]
      exact OO.ret hd
  | true =>
    show OO ((m_digits (mx b p) 99999).bind _) _
    refine OO.bd (om_dig hU (h.mv hp)) (fun ⟨b2, n⟩ h2 => ?_)
    refine OO.bd (om_isC h2) (fun b3 h3 => ?_)
    rw [m_entry_d h3.nz]
    exact OO.ret h3
end UA
