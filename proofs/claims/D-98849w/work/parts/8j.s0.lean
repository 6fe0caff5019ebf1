/-! PURE LAW: the tape, as both sides read it -/
set_option maxRecDepth 100000
/-- the class's place, the model's place -/
def cx (σ : cS) (p : Nat) : cS := si σ 997 2 (nI p)
def mx (β : cS) (p : Nat) : cS := si β 999 28 (nI p)
theorem cx_id {σ : cS} {p : Nat} (h : σ.1 997 2 = nI p) : σ = cx σ p := by
  unfold cx
  rw [← h]
  exact si_same.symm
theorem mx_id {σ : cS} {p : Nat} (h : σ.1 999 28 = nI p) : σ = mx σ p := by
  unfold mx
  rw [← h]
  exact si_same.symm
theorem cx_cx {σ : cS} {p q : Nat} : cx (cx σ p) q = cx σ q := si_si
theorem mx_mx {σ : cS} {p q : Nat} : mx (mx σ p) q = mx σ q := si_si
theorem cx_n {σ : cS} {p : Nat} : (cx σ p).1 997 2 = nI p := si_a
theorem mx_n {σ : cS} {p : Nat} : (mx σ p).1 999 28 = nI p := si_a
theorem cx_o {σ : cS} {p k : Nat} (h : k ≠ 997) : (cx σ p).1 k = σ.1 k := si_o h
theorem mx_o {σ : cS} {p k : Nat} (h : k ≠ 999) : (mx σ p).1 k = σ.1 k := si_o h
theorem cx_p {σ : cS} {p k : Nat} (h : k ≠ 2) : (cx σ p).1 997 k = σ.1 997 k := si_p h
theorem mx_p {σ : cS} {p k : Nat} (h : k ≠ 28) : (mx σ p).1 999 k = σ.1 999 k := si_p h
theorem cx_si {σ : cS} {p q : Nat} (h : nI q = (cx σ p).1 997 2 + 1) : si (cx σ p) 997 2 ((cx σ p).1 997 2 + 1) = cx σ q := by
  rw [← h]; exact si_si
/-- a tape -/
def TC (B : Nat → Int32) (tp : Nat) (σ : cS) : Prop := σ.1 999 10 = nI tp ∧ ∀ i, i < tp → σ.1 9 i = B i
def TM (B : Nat → Int32) (tp : Nat) (β : cS) : Prop := β.1 999 27 = nI tp ∧ ∀ i, i < tp → β.1 37 i = B i
def TB (B : Nat → Int32) (tp : Nat) : Prop := tp ≤ 400 ∧ ∀ i, i < tp → byt (B i)
section TP
variable {B : Nat → Int32} {tp p q : Nat} {σ β σ' β' : cS}
theorem TC.cx (h : TC B tp σ) : TC B tp (cx σ p) := ⟨by rw [cx_o (by decide)]; exact h.1, fun i hi => by rw [cx_o (by decide)]; exact h.2 i hi⟩
theorem TM.mx (h : TM B tp β) : TM B tp (mx β p) := ⟨by rw [mx_p (by decide)]; exact h.1, fun i hi => by rw [mx_o (by decide)]; exact h.2 i hi⟩
theorem TC.of (h : TC B tp σ) (h1 : σ'.1 999 10 = σ.1 999 10) (h2 : σ'.1 9 = σ.1 9) : TC B tp σ' := ⟨h1.trans h.1, fun i hi => by rw [h2]; exact h.2 i hi⟩
theorem TM.of (h : TM B tp β) (h1 : β'.1 999 27 = β.1 999 27) (h2 : β'.1 37 = β.1 37) : TM B tp β' := ⟨h1.trans h.1, fun i hi => by rw [h2]; exact h.2 i hi⟩
/-- the sign at a place -/
def sg (B : Nat → Int32) (tp p : Nat) : Int32 := if p < tp then B p &&& 255 else -1
theorem byt_e {b : Int32} (h : byt b) : ∃ i : Fin 256, b = Int32.ofInt ((i.val : Int) - 128) := by
  refine ⟨⟨(b.toInt + 128).toNat, by have := h.1; have := h.2; omega⟩, ?_⟩
  have h1 := h.1
  have h2 := h.2
  rw [i_eq, Int32.toInt_ofInt_of_le (by show (-2147483648 : Int) ≤ _; dsimp only; omega) (by dsimp only; omega)]
  dsimp only
  omega
theorem sg_fin : ∀ i : Fin 256, (Int32.ofInt ((i.val : Int) - 128) &&& 255).toInt = if ((i.val : Int) - 128) < 0 then (i.val : Int) + 128 else (i.val : Int) - 128 := by decide +kernel
theorem sg_b {b : Int32} (h : byt b) : (b &&& 255).toInt = if b.toInt < 0 then b.toInt + 256 else b.toInt := by
  obtain ⟨i, rfl⟩ := byt_e h
  have hi := i.isLt
  rw [sg_fin, Int32.toInt_ofInt_of_le (by show (-2147483648 : Int) ≤ _; omega) (by omega)]
  split <;> omega
/-- a sign of seven bits -/
theorem sg_eq {b c : Int32} (h : byt b) (hc : 0 ≤ c.toInt ∧ c.toInt ≤ 127) : b &&& 255 = c ↔ b = c := by
  rw [i_eq, i_eq, sg_b h]
  have h1 := h.1
  have h2 := h.2
  split <;> omega
theorem m_sign_eq (hB : TB B tp) (h : TM B tp β) (hp : p < 2 ^ 31) : m_sign (mx β p) = some (sg B tp p) := by
  have h4 := hB.1
  unfold m_sign sg
  rw [mx_n, h.mx.1]
  by_cases c : p < tp
  · rw [if_neg (nI_ge c (by omega)), if_pos c, inbn (by omega) (by decide), ixn (by omega), h.mx.2 p c]
    rfl
  · rw [if_pos (nI_le (by omega) hp), if_neg c]
/-- behind the blanks -/
def skf (B : Nat → Int32) : Nat → Nat → Nat
  | 0, p => p
  | k + 1, p => if B p = 32 then skf B k (p + 1) else p
def sk (B : Nat → Int32) (tp p : Nat) : Nat := skf B (tp - p) p
theorem skf_le (B : Nat → Int32) : ∀ k p, p ≤ skf B k p ∧ skf B k p ≤ p + k ∧ (skf B k p < p + k → B (skf B k p) ≠ 32) := by
  intro k
  induction k with
  | zero => exact fun p => ⟨Nat.le_refl _, Nat.le_refl _, fun h => absurd h (by show ¬ p < p + 0; omega)⟩
  | succ k ih =>
    intro p
    unfold skf
    split
    · have := ih (p + 1)
      exact ⟨by omega, by omega, fun h => this.2.2 (by omega)⟩
    · rename_i c
      exact ⟨Nat.le_refl _, by omega, fun _ => c⟩
theorem sk_le : p ≤ sk B tp p ∧ (p ≤ tp → sk B tp p ≤ tp) ∧ (sk B tp p < tp → B (sk B tp p) ≠ 32) := by
  have h := skf_le B (tp - p) p
  unfold sk
  refine ⟨h.1, fun hp => by omega, fun hq => h.2.2 (by omega)⟩
theorem sk_id (h : p < tp → B p ≠ 32) : sk B tp p = p := by
  unfold sk
  cases e : tp - p with
  | zero => rfl
  | succ k => exact if_neg (h (by omega))
theorem sk_sk : sk B tp (sk B tp p) = sk B tp p := sk_id sk_le.2.2
theorem sk_ge (h : tp ≤ p) : sk B tp p = p := sk_id (fun q => absurd q (by omega))
theorem m_blanks_eq (hB : TB B tp) (h : TM B tp β) (hp : p ≤ 1000) : m_blanks (mx β p) = some (mx β (sk B tp p)) := by
  have h4 := hB.1
  have key : ∀ k p n, tp - p = k → p ≤ 1000 → k < n → m_blanks_0 (fun σ_4 => some σ_4) n (mx β p) = some (mx β (skf B k p)) := by
    intro k
    induction k with
    | zero =>
      intro p n hk hp hn
      obtain ⟨n, rfl⟩ : ∃ m, n = m + 1 := ⟨n - 1, by omega⟩
      rw [m_blanks_0, m_sign_eq hB h (by omega)]
      show (if sg B tp p = 32 then _ else _) = _
      rw [if_neg]
      · rfl
      · unfold sg
        rw [if_neg (by omega)]
        decide
    | succ k ih =>
      intro p n hk hp hn
      obtain ⟨n, rfl⟩ : ∃ m, n = m + 1 := ⟨n - 1, by omega⟩
      rw [m_blanks_0, m_sign_eq hB h (by omega)]
      show (if sg B tp p = 32 then _ else _) = _
      have hs : sg B tp p = B p &&& 255 := if_pos (by omega)
      rw [hs, mx_n, nI_1]
      unfold skf
      by_cases c : B p = 32
      · rw [if_pos ((sg_eq (hB.2 p (by omega)) (by decide)).mpr c), if_pos c]
        show m_blanks_0 _ n (mx (mx β p) (p + 1)) = _
        rw [mx_mx]
        exact ih (p + 1) n (by omega) (by omega) (by omega)
      · rw [if_neg (fun q => c ((sg_eq (hB.2 p (by omega)) (by decide)).mp q)), if_neg c]
  unfold m_blanks sk
  exact key _ p FU rfl hp (FU_gt (by omega))
theorem t_see_eq (hB : TB B tp) (h : TC B tp σ) (hp : p ≤ tp) : t_see (cx σ p) = some (cx σ (sk B tp p), sg B tp (sk B tp p)) := by
  have h4 := hB.1
  have key : ∀ k p n, tp - p = k → p ≤ tp → k < n → ∀ K : cS → Option (cS × Int32), t_see_0 K n (cx σ p) = K (cx σ (skf B k p)) := by
    intro k
    induction k with
    | zero =>
      intro p n hk hp hn K
      obtain ⟨n, rfl⟩ : ∃ m, n = m + 1 := ⟨n - 1, by omega⟩
      rw [t_see_0, cx_n, h.cx.1, if_pos (nI_le (by omega) (by omega))]
      rfl
    | succ k ih =>
      intro p n hk hp hn K
      obtain ⟨n, rfl⟩ : ∃ m, n = m + 1 := ⟨n - 1, by omega⟩
      rw [t_see_0, cx_n, h.cx.1, if_neg (nI_ge (by omega) (by omega)), inbn (by omega) (by decide), ixn (by omega), h.cx.2 p (by omega), nI_1]
      unfold skf
      show (if B p = 32 then _ else _) = _
      by_cases c : B p = 32
      · rw [if_pos c, if_pos c]
        show t_see_0 K n (cx (cx σ p) (p + 1)) = _
        rw [cx_cx]
        exact ih (p + 1) n (by omega) (by omega) (by omega) K
      · rw [if_neg c, if_neg c]
  unfold t_see
  rw [key _ p FU rfl hp (FU_gt (by omega))]
  have hq := (sk_le (B := B) (tp := tp) (p := p)).2.1 hp
  show (if _ ≤ _ then _ else _) = _
  rw [show skf B (tp - p) p = sk B tp p from rfl, cx_n, h.cx.1]
  unfold sg
  by_cases c : sk B tp p < tp
  · rw [if_neg (nI_ge c (by omega)), if_pos c, inbn (by omega) (by decide), ixn (by omega), h.cx.2 _ c]
    rfl
  · rw [if_pos (nI_le (by omega) (by omega)), if_neg c]
/-! words -/
def isL (b : Int32) : Bool := decide (97 ≤ b.toInt) && decide (b.toInt ≤ 122)
def ltf (B : Nat → Int32) : Nat → Nat → Nat
  | 0, _ => 0
  | k + 1, p => if isL (B p) = true then ltf B k (p + 1) + 1 else 0
def lt_ (B : Nat → Int32) (tp p : Nat) : Nat := ltf B (tp - p) p
theorem ltf_le (B : Nat → Int32) : ∀ k p, ltf B k p ≤ k := by
  intro k
  induction k with
  | zero => exact fun _ => Nat.le_refl _
  | succ k ih =>
    intro p
    unfold ltf
    split
    · have := ih (p + 1); omega
    · omega
theorem isL_t {b : Int32} (h : isL b = true) : ¬ b < 97 ∧ ¬ 122 < b := by
  unfold isL at h
  rw [Bool.and_eq_true_iff, decide_eq_true_eq, decide_eq_true_eq] at h
  rw [i_lt, i_lt, show (97 : Int32).toInt = 97 by decide, show (122 : Int32).toInt = 122 by decide]
  omega
theorem isL_f {b : Int32} (h : ¬ isL b = true) : b < 97 ∨ 122 < b := by
  unfold isL at h
  rw [Bool.and_eq_true_iff, decide_eq_true_eq, decide_eq_true_eq] at h
  rw [i_lt, i_lt, show (97 : Int32).toInt = 97 by decide, show (122 : Int32).toInt = 122 by decide]
  omega
/-- the word stands at p -/
def wm_ (B : Nat → Int32) (L : List Int32) (p : Nat) : Nat → Bool
  | 0 => true
  | j + 1 => wm_ B L p j && decide (B (p + j) = L.getD j 0)
def wd (B : Nat → Int32) (tp p : Nat) (L : List Int32) : Bool := decide (lt_ B tp p = L.length) && wm_ B L p L.length
theorem t_letters_eq (hB : TB B tp) (h : TC B tp σ) (hp : p ≤ tp) : t_letters (cx σ p) = some (cx σ (sk B tp p), nI (lt_ B tp (sk B tp p))) := by
  have h4 := hB.1
  have hq := (sk_le (B := B) (tp := tp) (p := p)).2.1 hp
  have key : ∀ k j q n, tp - (q + j) = k → q + j ≤ tp → k < n → ∀ K : Int32 → Option (cS × Int32), t_letters_7 (cx σ q) K n (nI j) = K (nI (j + ltf B k (q + j))) := by
    intro k
    induction k with
    | zero =>
      intro j q n hk hp hn K
      obtain ⟨n, rfl⟩ : ∃ m, n = m + 1 := ⟨n - 1, by omega⟩
      rw [t_letters_7, cx_n, nI_add, h.cx.1, if_pos (nI_le (by omega) (by omega))]
      rfl
    | succ k ih =>
      intro j q n hk hp hn K
      obtain ⟨n, rfl⟩ : ∃ m, n = m + 1 := ⟨n - 1, by omega⟩
      rw [t_letters_7, cx_n, nI_add, h.cx.1, if_neg (nI_ge (by omega) (by omega)), inbn (by omega) (by decide), ixn (by omega), h.cx.2 _ (by omega), nI_1]
      unfold ltf
      show (if B (q + j) < 97 then _ else _) = _
      by_cases c : isL (B (q + j)) = true
      · rw [if_neg (isL_t c).1, if_neg (isL_t c).2, if_pos c, ih (j + 1) q n (by omega) (by omega) (by omega) K, show q + (j + 1) = q + j + 1 by omega, show j + 1 + ltf B k (q + j + 1) = j + (ltf B k (q + j + 1) + 1) by omega]
      · rw [if_neg c]
        rcases isL_f c with x | x
        · rw [if_pos x]; rfl
        · rw [if_pos x]
          split <;> rfl
  unfold t_letters
  rw [t_see_eq hB h hp]
  show t_letters_7 (cx σ (sk B tp p)) _ FU (nI 0) = _
  rw [key _ 0 (sk B tp p) FU rfl (by omega) (FU_gt (by omega))]
  show some (cx σ (sk B tp p), nI (0 + ltf B (tp - (sk B tp p + 0)) (sk B tp p + 0))) = _
  rw [Nat.zero_add, Nat.add_zero]
  rfl
end TP
