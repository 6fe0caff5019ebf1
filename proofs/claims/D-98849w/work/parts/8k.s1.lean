/-! PURE LAW: words and numbers of the tape -/
set_option maxRecDepth 100000
section TQ
variable {B : Nat → Int32} {tp p q w : Nat} {σ β σ' β' : cS} {lo hi : Int32}
theorem wm_up {L : List Int32} {j : Nat} (h : wm_ B L p j = false) : ∀ m, j ≤ m → wm_ B L p m = false := by
  intro m
  induction m with
  | zero =>
    intro hm
    obtain rfl : j = 0 := by omega
    exact h
  | succ m ih =>
    intro hm
    by_cases e : j = m + 1
    · rw [← e]; exact h
    · show (wm_ B L p m && _) = false
      rw [ih (by omega)]
      rfl
/-- answer of a test -/
def i01 (b : Bool) : Int32 := if b = true then 1 else 0
theorem t_isWord_eq (hB : TB B tp) (h : TC B tp σ) (hp : p ≤ tp) (hL : (stC w).length ≤ 100) : t_isWord (cx σ p) w = some (cx σ (sk B tp p), i01 (wd B tp (sk B tp p) (stC w))) := by
  have h4 := hB.1
  have hq := (sk_le (B := B) (tp := tp) (p := p)).2.1 hp
  generalize hqe : sk B tp p = q at *
  have hlt : q + lt_ B tp q ≤ tp := by have := ltf_le B (tp - q) q; unfold lt_; omega
  have key : ∀ k j n, (stC w).length - j = k → j ≤ (stC w).length → k < n → lt_ B tp q = (stC w).length → wm_ B (stC w) q j = true → ∀ K : Int32 → Option (cS × Int32), t_isWord_22 (cx σ q) w (nI (stC w).length) K n 1 (nI j) = K (i01 (wm_ B (stC w) q (stC w).length)) := by
    intro k
    induction k with
    | zero =>
      intro j n hk hj hn e1 e2 K
      obtain ⟨n, rfl⟩ : ∃ m, n = m + 1 := ⟨n - 1, by omega⟩
      obtain rfl : j = (stC w).length := by omega
      rw [t_isWord_22, if_neg (by decide), if_pos (nI_le (Nat.le_refl _) (by omega)), e2]
      rfl
    | succ k ih =>
      intro j n hk hj hn e1 e2 K
      obtain ⟨n, rfl⟩ : ∃ m, n = m + 1 := ⟨n - 1, by omega⟩
      have hs : wm_ B (stC w) q (j + 1) = (wm_ B (stC w) q j && decide (B (q + j) = (stC w).getD j 0)) := rfl
      rw [t_isWord_22, if_neg (by decide), if_neg (nI_ge (by omega) (by omega)), inbn (by omega) (by omega), cx_n, nI_add, inbn (by omega) (by decide), ixn (by omega), ixn (by omega), h.cx.2 _ (by omega), nI_1]
      show (if (stC w).getD j 0 = B (q + j) then _ else _) = _
      by_cases c : B (q + j) = (stC w).getD j 0
      · rw [if_pos c.symm]
        exact ih (j + 1) n (by omega) (by omega) (by omega) e1 (by rw [hs, e2, decide_eq_true c]; rfl) K
      · rw [if_neg (fun x => c x.symm)]
        have hf : wm_ B (stC w) q (j + 1) = false := by rw [hs, decide_eq_false c, Bool.and_false]
        obtain ⟨n, rfl⟩ : ∃ m, n = m + 1 := ⟨n - 1, by omega⟩
        rw [t_isWord_22, if_pos rfl, wm_up hf _ (by omega)]
        rfl
  unfold t_isWord
  rw [t_letters_eq hB h hp, hqe]
  unfold wd
  by_cases e : lt_ B tp q = (stC w).length
  · show ((if nI (lt_ B tp q) = nI (stC w).length then some 1 else some 0 : Option Int32).bind _) = _
    rw [e, if_pos rfl]
    show t_isWord_22 (cx σ q) w (nI (stC w).length) _ FU 1 (nI 0) = _
    rw [key _ 0 FU rfl (Nat.zero_le _) (FU_gt (by omega)) e rfl, decide_eq_true rfl, Bool.true_and]
    cases wm_ B (stC w) q (stC w).length <;> rfl
  · show ((if nI (lt_ B tp q) = nI (stC w).length then some 1 else some 0 : Option Int32).bind _) = _
    rw [if_neg (fun x => e ((nI_eq (by omega) (by omega)).mp x)), decide_eq_false e, Bool.false_and]
    obtain ⟨n, hn⟩ : ∃ m, FU = m + 1 := ⟨FU - 1, by have := FU_gt (n := 0) (by decide); omega⟩
    show t_isWord_22 (cx σ q) w (nI (lt_ B tp q)) _ FU 0 0 = _
    rw [hn, t_isWord_22, if_pos (show (0 : Int32) = 0 from rfl)]
    rfl
theorem m_stood_eq (hB : TB B tp) (h : TM B tp β) (hq : q ≤ 1000) (hL : (stC w).length ≤ 100) : m_stood (mx β q) w = some (i01 (wd B tp q (stC w))) := by
  have h4 := hB.1
  have hlt : q ≤ tp → q + lt_ B tp q ≤ tp := by have := ltf_le B (tp - q) q; unfold lt_; omega
  have hlt0 : tp ≤ q → lt_ B tp q = 0 := by intro x; unfold lt_; rw [show tp - q = 0 by omega]; rfl
  have key : ∀ k j n, (stC w).length - j = k → j ≤ (stC w).length → k < n → lt_ B tp q = (stC w).length → wm_ B (stC w) q j = true → ∀ K : Int32 → Option Int32, m_stood_63 (mx β q) w K n 1 (nI j) = K (i01 (wm_ B (stC w) q (stC w).length)) := by
    intro k
    induction k with
    | zero =>
      intro j n hk hj hn e1 e2 K
      obtain ⟨n, rfl⟩ : ∃ m, n = m + 1 := ⟨n - 1, by omega⟩
      obtain rfl : j = (stC w).length := by omega
      rw [m_stood_63, if_pos (nI_le (Nat.le_refl _) (by omega)), e2]
      rfl
    | succ k ih =>
      intro j n hk hj hn e1 e2 K
      obtain ⟨n, rfl⟩ : ∃ m, n = m + 1 := ⟨n - 1, by omega⟩
      have hqt : q + j < tp := by
        by_cases x : q ≤ tp
        · have := hlt x; omega
        · have := hlt0 (by omega); omega
      have hs : wm_ B (stC w) q (j + 1) = (wm_ B (stC w) q j && decide (B (q + j) = (stC w).getD j 0)) := rfl
      rw [m_stood_63, if_neg (nI_ge (by omega) (by omega)), if_neg (by decide), mx_n, nI_add, inbn (by omega) (by decide), inbn (by omega) (by omega), ixn (by omega), ixn (by omega), h.mx.2 _ hqt, nI_1]
      show (if B (q + j) = (stC w).getD j 0 then _ else _) = _
      by_cases c : B (q + j) = (stC w).getD j 0
      · rw [if_pos c]
        exact ih (j + 1) n (by omega) (by omega) (by omega) e1 (by rw [hs, e2, decide_eq_true c]; rfl) K
      · rw [if_neg c]
        have hf : wm_ B (stC w) q (j + 1) = false := by rw [hs, decide_eq_false c, Bool.and_false]
        obtain ⟨n, rfl⟩ : ∃ m, n = m + 1 := ⟨n - 1, by omega⟩
        rw [m_stood_63, if_pos (show (0 : Int32) = 0 from rfl), wm_up hf _ (by omega)]
        split <;> rfl
  have key5 : ∀ k r n, tp - r = k → r ≤ 2000 → k < n → ∀ K : Int32 → Option Int32, m_stood_5 (mx β q) w K n (nI r) = K (nI (r + ltf B k r)) := by
    intro k
    induction k with
    | zero =>
      intro r n hk hr hn K
      obtain ⟨n, rfl⟩ : ∃ m, n = m + 1 := ⟨n - 1, by omega⟩
      rw [m_stood_5, h.mx.1, if_pos (nI_le (by omega) (by omega))]
      rfl
    | succ k ih =>
      intro r n hk hr hn K
      obtain ⟨n, rfl⟩ : ∃ m, n = m + 1 := ⟨n - 1, by omega⟩
      rw [m_stood_5, h.mx.1, if_neg (nI_ge (by omega) (by omega)), inbn (by omega) (by decide), ixn (by omega), h.mx.2 _ (by omega), nI_1]
      unfold ltf
      show (if B r < 97 then _ else _) = _
      by_cases c : isL (B r) = true
      · rw [if_neg (isL_t c).1, if_neg (isL_t c).2, if_pos c, ih (r + 1) n (by omega) (by omega) (by omega) K, show r + 1 + ltf B k (r + 1) = r + (ltf B k (r + 1) + 1) by omega]
      · rw [if_neg c]
        rcases isL_f c with x | x
        · rw [if_pos x]; rfl
        · rw [if_pos x]
          split <;> rfl
  unfold m_stood
  rw [show (mx β q).1 999 28 = nI q from mx_n, key5 _ q FU rfl (by omega) (FU_gt (by omega)), show ltf B (tp - q) q = lt_ B tp q from rfl]
  have hl0 : q + lt_ B tp q < 2 ^ 31 := by
    by_cases x : q ≤ tp
    · have := hlt x; omega
    · have := hlt0 (by omega); omega
  rw [pk_sub (by omega), show q + lt_ B tp q - q = lt_ B tp q by omega]
  unfold wd
  by_cases e : lt_ B tp q = (stC w).length
  · rw [e, if_pos rfl]
    show m_stood_63 (mx β q) w _ FU 1 (nI 0) = _
    rw [key _ 0 FU rfl (Nat.zero_le _) (FU_gt (by omega)) e rfl, decide_eq_true rfl, Bool.true_and]
    cases wm_ B (stC w) q (stC w).length <;> rfl
  · rw [if_neg (fun x => e ((nI_eq (by omega) (by omega)).mp x)), decide_eq_false e, Bool.false_and]
    obtain ⟨n, hn⟩ : ∃ m, FU = m + 1 := ⟨FU - 1, by have := FU_gt (n := 0) (by decide); omega⟩
    rw [hn]
    show m_stood_63 (mx β q) w _ (n + 1) 0 0 = _
    rw [m_stood_63, if_pos (show (0 : Int32) = 0 from rfl)]
    split <;> rfl
/-! numbers -/
def isD (b : Int32) : Bool := decide (48 ≤ b.toInt) && decide (b.toInt ≤ 57)
def dg (b : Int32) : Nat := (b.toInt - 48).toNat
theorem isD_i {b : Int32} : isD b = true ↔ 48 ≤ b.toInt ∧ b.toInt ≤ 57 := by
  unfold isD
  rw [Bool.and_eq_true_iff, decide_eq_true_eq, decide_eq_true_eq]
theorem isD_t {b : Int32} (h : isD b = true) : b = nI (48 + dg b) ∧ dg b ≤ 9 ∧ b &&& 255 = b := by
  have h1 := isD_i.mp h
  have hd : dg b ≤ 9 := by unfold dg; omega
  refine ⟨?_, hd, ?_⟩
  · rw [i_eq, nI_toInt (by omega)]
    unfold dg
    omega
  · rw [i_eq, sg_b ⟨by omega, by omega⟩, if_neg (by omega)]
def dgf (B : Nat → Int32) : Nat → Nat → Nat → Nat → Nat × Nat
  | 0, _, c, w => (c, w)
  | k + 1, p, c, w => if isD (B p) = true then dgf B k (p + 1) (c + 1) (if 5 ≤ c then w else 10 * w + dg (B p)) else (c, w)
def pw (c : Nat) : Nat := if c = 0 then 1 else if c = 1 then 10 else if c = 2 then 100 else if c = 3 then 1000 else if c = 4 then 10000 else 100000
theorem pw_5 {c : Nat} (h : 5 ≤ c) : pw c = 100000 := by
  unfold pw
  rw [if_neg (by omega), if_neg (by omega), if_neg (by omega), if_neg (by omega), if_neg (by omega)]
theorem pw_s {c w d : Nat} (h : w < pw c) (hd : d ≤ 9) : (if 5 ≤ c then w else 10 * w + d) < pw (c + 1) := by
  have hc : c = 0 ∨ c = 1 ∨ c = 2 ∨ c = 3 ∨ c = 4 ∨ 5 ≤ c := by omega
  rcases hc with rfl | rfl | rfl | rfl | rfl | hc
  · have h : w < 1 := h
    rw [if_neg (by decide), show pw (0 + 1) = 10 from rfl]; omega
  · have h : w < 10 := h
    rw [if_neg (by decide), show pw (1 + 1) = 100 from rfl]; omega
  · have h : w < 100 := h
    rw [if_neg (by decide), show pw (2 + 1) = 1000 from rfl]; omega
  · have h : w < 1000 := h
    rw [if_neg (by decide), show pw (3 + 1) = 10000 from rfl]; omega
  · have h : w < 10000 := h
    rw [if_neg (by decide), show pw (4 + 1) = 100000 from rfl]; omega
  · rw [if_pos hc, pw_5 (by omega)]
    rw [pw_5 hc] at h
    exact h
theorem dgf_le (B : Nat → Int32) : ∀ k p c w, w < pw c → c ≤ (dgf B k p c w).1 ∧ (dgf B k p c w).1 ≤ c + k ∧ (dgf B k p c w).2 ≤ 99999 := by
  have hp : ∀ c, pw c ≤ 100000 := by
    intro c
    have hc : c = 0 ∨ c = 1 ∨ c = 2 ∨ c = 3 ∨ c = 4 ∨ 5 ≤ c := by omega
    rcases hc with rfl | rfl | rfl | rfl | rfl | hc
    · decide
    · decide
    · decide
    · decide
    · decide
    · rw [pw_5 hc]; exact Nat.le_refl _
  intro k
  induction k with
  | zero =>
    intro p c w h
    have := hp c
    exact ⟨Nat.le_refl _, Nat.le_refl _, by show w ≤ 99999; omega⟩
  | succ k ih =>
    intro p c w h
    unfold dgf
    split
    · rename_i hd
      have := ih (p + 1) (c + 1) _ (pw_s h (isD_t hd).2.1)
      exact ⟨by omega, by omega, this.2.2⟩
    · have := hp c
      exact ⟨Nat.le_refl _, by show c ≤ _; omega, by show w ≤ 99999; omega⟩
end TQ
