/-! PURE LAW: numbers read -/
set_option maxRecDepth 100000
section TN
variable {B : Nat → Int32} {tp p q w c : Nat} {σ β σ' β' : cS} {lo hi : Int32}
theorem t_isDigit_eq (hB : TB B tp) (h : TC B tp σ) (hp : p ≤ tp) : t_isDigit σ (nI p) = some (i01 (decide (p < tp) && isD (B p))) := by
  have h4 := hB.1
  unfold t_isDigit
  rw [h.1]
  by_cases c : p < tp
  · rw [if_neg (nI_ge c (by omega)), inbn (by omega) (by decide), ixn (by omega), h.2 p c, decide_eq_true c, Bool.true_and]
    show (if B p < 48 then _ else _) = _
    by_cases d : isD (B p) = true
    · have := isD_i.mp d
      rw [if_neg (by rw [i_lt, show (48 : Int32).toInt = 48 by decide]; omega), if_neg (by rw [i_lt, show (57 : Int32).toInt = 57 by decide]; omega), d]
      rfl
    · have : B p < 48 ∨ 57 < B p := by
        rw [isD_i] at d
        rw [i_lt, i_lt, show (48 : Int32).toInt = 48 by decide, show (57 : Int32).toInt = 57 by decide]
        omega
      rw [show isD (B p) = false by simpa using d]
      rcases this with x | x
      · rw [if_pos x]; rfl
      · rw [if_pos x]
        split <;> rfl
  · rw [if_pos (nI_le (by omega) (by omega)), decide_eq_false c, Bool.false_and]
    rfl
theorem m_isDigit_eq (hB : TB B tp) (h : TM B tp β) (hp : p < 2 ^ 31) : m_isDigit (mx β p) = some (i01 (decide (p < tp) && isD (B p))) := by
  have h4 := hB.1
  unfold m_isDigit
  rw [m_sign_eq hB h hp]
  show (m_in (sg B tp p).toInt64 48 57).bind _ = _
  rw [show (48 : Int64) = (48 : Int32).toInt64 by decide, show (57 : Int64) = (57 : Int32).toInt64 by decide, m_in_eq]
  unfold sg
  by_cases c : p < tp
  · have hb := hB.2 p c
    rw [if_pos c, decide_eq_true c, Bool.true_and]
    have h1 := hb.1
    have h2 := hb.2
    by_cases d : isD (B p) = true
    · have := isD_i.mp d
      rw [(isD_t d).2.2, ib_1 ⟨by rw [i_le, show (48 : Int32).toInt = 48 by decide]; omega, by rw [i_le, show (57 : Int32).toInt = 57 by decide]; omega⟩, d]
      rfl
    · rw [show isD (B p) = false by simpa using d, ib_0]
      · rfl
      · rw [isD_i] at d
        rw [i_le, i_le, show (48 : Int32).toInt = 48 by decide, show (57 : Int32).toInt = 57 by decide, sg_b hb]
        split <;> omega
  · rw [if_neg c, decide_eq_false c, Bool.false_and]
    rfl
/-- how many digits, and what they say -/
def nd (B : Nat → Int32) (tp q : Nat) : Nat := (dgf B (tp - q) q 0 0).1
def nv (B : Nat → Int32) (tp q : Nat) : Nat := (dgf B (tp - q) q 0 0).2
theorem nd_le : nd B tp q ≤ tp - q ∧ nv B tp q ≤ 99999 := by
  have := dgf_le B (tp - q) q 0 0 (by decide)
  unfold nd nv
  omega
theorem nd_0 : nd B tp q = 0 ↔ (decide (q < tp) && isD (B q)) = false := by
  unfold nd
  by_cases c : q < tp
  · rw [decide_eq_true c, Bool.true_and]
    obtain ⟨k, hk⟩ : ∃ k, tp - q = k + 1 := ⟨tp - q - 1, by omega⟩
    rw [hk]
    unfold dgf
    by_cases d : isD (B q) = true
    · rw [if_pos d, d]
      have := dgf_le B k (q + 1) (0 + 1) (if 5 ≤ 0 then 0 else 10 * 0 + dg (B q)) (pw_s (by decide) (isD_t d).2.1)
      constructor
      · intro x; omega
      · intro x; cases x
    · rw [if_neg d]
      exact ⟨fun _ => by simpa using d, fun _ => rfl⟩
  · rw [decide_eq_false c, show tp - q = 0 by omega]
    exact ⟨fun _ => rfl, fun _ => rfl⟩
theorem num_ev {x : Int32} {w d : Nat} (h : x = nI (48 + d)) : 10 * nI w + x - 48 = nI (10 * w + d) := by
  rw [h, show (10 : Int32) = nI 10 from rfl, pk_mul, nI_add, show (48 : Int32) = nI 48 from rfl, pk_sub (by omega), show 10 * w + (48 + d) - 48 = 10 * w + d by omega]
theorem t_num24 (hB : TB B tp) (h : TC B tp σ) {s : Nat} {v1 v2 : Int32} : ∀ k c w n, tp - (s + c) = k → s + c ≤ tp → k < n → w < pw c → ∀ K : cS → Int32 → Option (cS × Option Int32), t_number_24 v1 v2 (nI s) K n (cx σ (s + c)) (nI w) = K (cx σ (s + (dgf B k (s + c) c w).1)) (nI (dgf B k (s + c) c w).2) := by
  have h4 := hB.1
  intro k
  induction k with
  | zero =>
    intro c w n hk hp hn hw K
    obtain ⟨n, rfl⟩ : ∃ m, n = m + 1 := ⟨n - 1, by omega⟩
    rw [t_number_24, cx_n, t_isDigit_eq hB h.cx hp, decide_eq_false (by omega), Bool.false_and]
    rfl
  | succ k ih =>
    intro c w n hk hp hn hw K
    obtain ⟨n, rfl⟩ : ∃ m, n = m + 1 := ⟨n - 1, by omega⟩
    rw [t_number_24, cx_n, t_isDigit_eq hB h.cx hp, decide_eq_true (by omega : s + c < tp), Bool.true_and]
    unfold dgf
    by_cases d : isD (B (s + c)) = true
    · obtain ⟨d1, d2, d3⟩ := isD_t d
      have hw2 := pw_s hw d2
      rw [d, if_pos rfl]
      show (if nI 5 ≤ nI (s + c) - nI s then t_number_24 v1 v2 (nI s) K n (si (cx σ (s + c)) 997 2 (nI (s + c) + 1)) (nI w) else gd (inb (nI (s + c)) 400) (t_number_24 v1 v2 (nI s) K n (si (cx σ (s + c)) 997 2 (nI (s + c) + 1)) (10 * nI w + (cx σ (s + c)).1 9 (ix (nI (s + c))) - 48))) = _
      rw [pk_sub (by omega), show s + c - s = c by omega, nI_1, show si (cx σ (s + c)) 997 2 (nI (s + c + 1)) = cx σ (s + (c + 1)) from cx_cx, inbn (by omega) (by decide), ixn (by omega), h.cx.2 _ (by omega)]
      by_cases e : 5 ≤ c
      · rw [if_pos (nI_le e (by omega)), if_pos e]
        rw [if_pos e] at hw2
        exact ih (c + 1) w n (by omega) (by omega) (by omega) hw2 K
      · rw [if_neg (nI_ge (by omega) (by omega)), if_neg e]
        rw [if_neg e] at hw2
        show t_number_24 v1 v2 (nI s) K n (cx σ (s + (c + 1))) (10 * nI w + B (s + c) - 48) = _
        rw [num_ev d1]
        exact ih (c + 1) _ n (by omega) (by omega) (by omega) hw2 K
    · rw [show isD (B (s + c)) = false by simpa using d]
      rfl
theorem m_num25 (hB : TB B tp) (h : TM B tp β) {s : Nat} {v1 : Int32} {ρ : Type} : ∀ k c w n, tp - (s + c) = k → s + c ≤ tp → k < n → w < pw c → ∀ K : cS → Int32 → Option ρ, m_digits_25 v1 (nI s) K n (mx β (s + c)) (nI w) = K (mx β (s + (dgf B k (s + c) c w).1)) (nI (dgf B k (s + c) c w).2) := by
  have h4 := hB.1
  intro k
  induction k with
  | zero =>
    intro c w n hk hp hn hw K
    obtain ⟨n, rfl⟩ : ∃ m, n = m + 1 := ⟨n - 1, by omega⟩
    rw [m_digits_25, m_isDigit_eq hB h (by omega), decide_eq_false (by omega), Bool.false_and]
    rfl
  | succ k ih =>
    intro c w n hk hp hn hw K
    obtain ⟨n, rfl⟩ : ∃ m, n = m + 1 := ⟨n - 1, by omega⟩
    rw [m_digits_25, m_isDigit_eq hB h (by omega), decide_eq_true (by omega : s + c < tp), Bool.true_and, m_sign_eq hB h (by omega), mx_n]
    unfold dgf
    by_cases d : isD (B (s + c)) = true
    · obtain ⟨d1, d2, d3⟩ := isD_t d
      have hw2 := pw_s hw d2
      have hs : sg B tp (s + c) = nI (48 + dg (B (s + c))) := by
        unfold sg
        rw [if_pos (by omega), d3]; exact d1
      rw [d, if_pos rfl, hs]
      show (if nI 5 ≤ nI (s + c) - nI s then some (nI w) else some (10 * nI w + nI (48 + dg (B (s + c))) - 48) : Option Int32).bind (fun t_7 => m_digits_25 v1 (nI s) K n (si (mx β (s + c)) 999 28 (nI (s + c) + 1)) t_7) = _
      rw [pk_sub (by omega), show s + c - s = c by omega, nI_1, show si (mx β (s + c)) 999 28 (nI (s + c + 1)) = mx β (s + (c + 1)) from mx_mx]
      by_cases e : 5 ≤ c
      · rw [if_pos (nI_le e (by omega)), if_pos e]
        rw [if_pos e] at hw2
        exact ih (c + 1) w n (by omega) (by omega) (by omega) hw2 K
      · rw [if_neg (nI_ge (by omega) (by omega)), if_neg e]
        rw [if_neg e] at hw2
        rw [num_ev rfl]
        exact ih (c + 1) _ n (by omega) (by omega) (by omega) hw2 K
    · rw [show isD (B (s + c)) = false by simpa using d]
      rfl
/-- a fault -/
def fx (σ : cS) (k q : Nat) : cS := si (si σ 998 6 (nI k)) 998 7 (nI q)
def fm (β : cS) (k q : Nat) : cS := si β 999 29 (nI (1 + 8 * q + k))
theorem t_demand_0 {k q : Nat} : t_demand σ 0 (nI k) (nI q) = some (fx σ k q, none) := rfl
theorem t_demand_1 {k q : Int32} : t_demand σ 1 k q = some (σ, some ()) := rfl
theorem m_fails_0 {k q : Nat} (h : β.1 999 29 = 0) : m_fails β (nI k) (nI q) = some (fm β k q) := by
  unfold m_fails
  rw [if_pos h, show (8 : Int32) = nI 8 from rfl, pk_mul, show (1 : Int32) = nI 1 from rfl, nI_add, nI_add]
  rfl
theorem m_fails_d {k q : Int32} (h : ¬ β.1 999 29 = 0) : m_fails β k q = some β := by
  unfold m_fails
  rw [if_neg h, si_same]
def nok (B : Nat → Int32) (tp q : Nat) (lo hi : Int32) : Bool := decide (nd B tp q ≠ 0 ∧ nd B tp q ≤ 5 ∧ ib (nI (nv B tp q)) lo hi = 1)
def nfk (B : Nat → Int32) (tp q : Nat) : Nat := if nd B tp q = 0 then 0 else 1
theorem t_number_eq (hB : TB B tp) (h : TC B tp σ) (hp : p ≤ tp) : t_number (cx σ p) lo hi = if nok B tp (sk B tp p) lo hi = true then some (cx σ (sk B tp p + nd B tp (sk B tp p)), some (nI (nv B tp (sk B tp p)))) else some (fx (cx σ (sk B tp p + nd B tp (sk B tp p))) (nfk B tp (sk B tp p)) (sk B tp p), none) := by
  have h4 := hB.1
  have hq := (sk_le (B := B) (tp := tp) (p := p)).2.1 hp
  unfold t_number
  rw [t_see_eq hB h hp]
  generalize sk B tp p = q at *
  show (t_isDigit (cx σ q) ((cx σ q).1 997 2)).bind _ = _
  rw [cx_n, t_isDigit_eq hB h.cx hq]
  have hnd := nd_le (B := B) (tp := tp) (q := q)
  unfold nok nfk
  by_cases e : nd B tp q = 0
  · rw [nd_0.mp e, if_neg (by rw [decide_eq_true_eq]; exact fun x => x.1 e), if_pos e, e]
    rfl
  · have e1 : (decide (q < tp) && isD (B q)) = true := by
      cases hc : (decide (q < tp) && isD (B q)) with
      | true => rfl
      | false => exact absurd (nd_0.mpr hc) e
    rw [e1, if_neg e]
    show t_number_24 lo hi (nI q) _ FU (cx σ (q + 0)) (nI 0) = _
    rw [t_num24 hB h (tp - q) 0 0 FU (by omega) (by omega) (FU_gt (by omega)) (by decide)]
    show (if 5 < (cx σ (q + nd B tp q)).1 997 2 - nI q then _ else (x_in (nI (nv B tp q)).toInt64 lo.toInt64 hi.toInt64).bind _) = _
    rw [cx_n, pk_sub (by omega), show q + nd B tp q - q = nd B tp q by omega, x_in_eq]
    by_cases c5 : 5 < nd B tp q
    · rw [if_pos (show (5 : Int32) < nI (nd B tp q) from nI_lt (a := 5) c5 (by omega)), if_neg (by rw [decide_eq_true_eq]; omega)]
      rfl
    · rw [if_neg (show ¬ (5 : Int32) < nI (nd B tp q) from nI_nlt (a := 5) (by omega) (by decide))]
      rcases ib_e (v := nI (nv B tp q)) (a := lo) (b := hi) with y | y
      · rw [y, if_neg (by rw [decide_eq_true_eq]; exact fun x => absurd x.2.2 (by decide))]
        rfl
      · rw [y.1, if_pos (by rw [decide_eq_true_eq]; exact ⟨e, by omega, rfl⟩)]
        rfl
theorem m_amount_eq (hB : TB B tp) (h : TM B tp β) (h29 : β.1 999 29 = 0) (hp : p ≤ tp) : ∃ r, m_amount (mx β p) lo hi = if nok B tp (sk B tp p) lo hi = true then some (mx β (sk B tp p + nd B tp (sk B tp p)), nI (nv B tp (sk B tp p))) else some (fm (mx β (sk B tp p + nd B tp (sk B tp p))) (nfk B tp (sk B tp p)) (sk B tp p), r) := by
  have h4 := hB.1
  have hq := (sk_le (B := B) (tp := tp) (p := p)).2.1 hp
  unfold m_amount
  rw [m_blanks_eq hB h (by omega)]
  generalize sk B tp p = q at *
  have hz : ∀ p, (mx β p).1 999 29 = 0 := fun p => (mx_p (by decide)).trans h29
  have hf : ∀ k q p, (fm (mx β p) k q).1 999 29 = nI (1 + 8 * q + k) := fun k q p => si_a
  have hnd := nd_le (B := B) (tp := tp) (q := q)
  show ∃ r, ((if (mx β q).1 999 29 = 0 then (m_digits (mx β q) 99999).bind _ else _ : Option (cS × Int32)).bind _) = _
  rw [if_pos (hz q)]
  unfold m_digits
  rw [m_isDigit_eq hB h (by omega)]
  unfold nok nfk
  by_cases e : nd B tp q = 0
  · refine ⟨0, ?_⟩
    rw [nd_0.mp e, if_neg (by rw [decide_eq_true_eq]; exact fun x => x.1 e), if_pos e, e]
    show (((m_fails (mx β q) 0 ((mx β q).1 999 28)).bind _ : Option (cS × Int32)).bind _).bind _ = _
    rw [mx_n, show (0 : Int32) = nI 0 from rfl, m_fails_0 (hz q)]
    show (if (fm (mx β q) 0 q).1 999 29 = 0 then _ else _) = _
    rw [hf, if_neg (nI_ne0 (by omega) (by omega))]
    rfl
  · have e1 : (decide (q < tp) && isD (B q)) = true := by
      cases hc : (decide (q < tp) && isD (B q)) with
      | true => rfl
      | false => exact absurd (nd_0.mpr hc) e
    rw [e1, if_neg e]
    have hv : ¬ (if (mx β (q + nd B tp q)).1 999 29 = 0 then True else False) → False := fun x => x (by rw [if_pos (hz _)]; trivial)
    refine ⟨nI (nv B tp q), ?_⟩
    show (((m_digits_25 99999 ((mx β q).1 999 28) _ FU (mx β (q + 0)) (nI 0) : Option (cS × Int32)).bind _).bind _) = _
    rw [mx_n, m_num25 hB h (tp - q) 0 0 FU (by omega) (by omega) (FU_gt (by omega)) (by decide)]
    show (((if 5 < (mx β (q + nd B tp q)).1 999 28 - nI q then (m_fails (mx β (q + nd B tp q)) 1 (nI q)).bind _ else if nI (nv B tp q) ≤ nI 99999 then some (mx β (q + nd B tp q), nI (nv B tp q)) else _ : Option (cS × Int32)).bind _).bind _) = _
    rw [mx_n, pk_sub (by omega), show q + nd B tp q - q = nd B tp q by omega]
    by_cases c5 : 5 < nd B tp q
    · rw [if_pos (show (5 : Int32) < nI (nd B tp q) from nI_lt (a := 5) c5 (by omega)), if_neg (by rw [decide_eq_true_eq]; omega), show (1 : Int32) = nI 1 from rfl, m_fails_0 (hz _)]
      show (if (fm (mx β (q + nd B tp q)) 1 q).1 999 29 = 0 then _ else _) = _
      rw [hf, if_neg (nI_ne0 (by omega) (by omega))]
      rfl
    · rw [if_neg (show ¬ (5 : Int32) < nI (nd B tp q) from nI_nlt (a := 5) (by omega) (by decide)), if_pos (nI_le hnd.2 (by omega))]
      show (if (mx β (q + nd B tp q)).1 999 29 = 0 then (m_in (nI (nv B tp q)).toInt64 lo.toInt64 hi.toInt64).bind _ else _) = _
      rw [if_pos (hz _), m_in_eq]
      rcases ib_e (v := nI (nv B tp q)) (a := lo) (b := hi) with y | y
      · rw [y, if_neg (by rw [decide_eq_true_eq]; exact fun x => absurd x.2.2 (by decide))]
        show (m_fails (mx β (q + nd B tp q)) 1 ((mx β q).1 999 28)).bind _ = _
        rw [mx_n, show (1 : Int32) = nI 1 from rfl, m_fails_0 (hz _)]
        rfl
      · rw [y.1, if_pos (by rw [decide_eq_true_eq]; exact ⟨e, by omega, rfl⟩)]
        rfl
theorem m_amount_d (hB : TB B tp) (h : TM B tp β) (h29 : ¬ β.1 999 29 = 0) (hp : p ≤ 1000) : m_amount (mx β p) lo hi = some (mx β (sk B tp p), 0) := by
  unfold m_amount
  rw [m_blanks_eq hB h hp]
  have hz : ∀ p, ¬ (mx β p).1 999 29 = 0 := fun p => by rw [mx_p (by decide)]; exact h29
  show ((if (mx β (sk B tp p)).1 999 29 = 0 then _ else some (mx β (sk B tp p), 0) : Option (cS × Int32)).bind _) = _
  rw [if_neg (hz _)]
  show (if (mx β (sk B tp p)).1 999 29 = 0 then _ else _) = _
  rw [if_neg (hz _)]
end TN
