/-! PURE LAW, base: two runs side by side, numbers -/
set_option maxRecDepth 100000
def JJ {α β : Type} (o1 : Option α) (o2 : Option β) (P : α → β → Prop) : Prop := ∃ a b, o1 = some a ∧ o2 = some b ∧ P a b
def OO {α : Type} (o : Option α) (P : α → Prop) : Prop := ∃ a, o = some a ∧ P a
section JB
variable {α β γ κ : Type}
theorem JJ.ret {a : α} {b : β} {P : α → β → Prop} (h : P a b) : JJ (some a) (some b) P := ⟨a, b, rfl, rfl, h⟩
theorem JJ.mono {o1 : Option α} {o2 : Option β} {Q P : α → β → Prop} (h : JJ o1 o2 Q) (k : ∀ a b, Q a b → P a b) : JJ o1 o2 P := by
  obtain ⟨a, b, h1, h2, q⟩ := h
  exact ⟨a, b, h1, h2, k a b q⟩
theorem JJ.of {o1 : Option α} {o2 : Option β} {Q : α → Prop} {R : β → Prop} {P : α → β → Prop} (h1 : OO o1 Q) (h2 : OO o2 R) (k : ∀ a b, Q a → R b → P a b) : JJ o1 o2 P := by
  obtain ⟨a, h1, q⟩ := h1
  obtain ⟨b, h2, r⟩ := h2
  exact ⟨a, b, h1, h2, k a b q r⟩
theorem JJ.bd {o1 : Option α} {o2 : Option β} {f : α → Option γ} {g : β → Option κ} {Q : α → β → Prop} {P : γ → κ → Prop} (h : JJ o1 o2 Q) (k : ∀ a b, Q a b → JJ (f a) (g b) P) : JJ (o1.bind f) (o2.bind g) P := by
  obtain ⟨a, b, rfl, rfl, q⟩ := h
  exact k a b q
theorem JJ.bl {o1 : Option α} {f : α → Option γ} {o2 : Option β} {P : γ → β → Prop} {a : α} (h : o1 = some a) (k : JJ (f a) o2 P) : JJ (o1.bind f) o2 P := by
  subst h
  exact k
theorem JJ.br {o2 : Option α} {f : α → Option γ} {o1 : Option β} {P : β → γ → Prop} {a : α} (h : o2 = some a) (k : JJ o1 (f a) P) : JJ o1 (o2.bind f) P := by
  subst h
  exact k
theorem JJ.ol {o1 : Option α} {f : α → Option γ} {o2 : Option β} {P : γ → β → Prop} {Q : α → Prop} (h : OO o1 Q) (k : ∀ a, Q a → JJ (f a) o2 P) : JJ (o1.bind f) o2 P := by
  obtain ⟨a, rfl, q⟩ := h
  exact k a q
theorem JJ.or {o2 : Option α} {f : α → Option γ} {o1 : Option β} {P : β → γ → Prop} {Q : α → Prop} (h : OO o2 Q) (k : ∀ a, Q a → JJ o1 (f a) P) : JJ o1 (o2.bind f) P := by
  obtain ⟨a, rfl, q⟩ := h
  exact k a q
theorem JJ.gl {b : Bool} {o1 : Option α} {o2 : Option β} {P : α → β → Prop} (h : b = true) (k : JJ o1 o2 P) : JJ (gd b o1) o2 P := by
  subst h
  exact k
theorem JJ.gr {b : Bool} {o1 : Option α} {o2 : Option β} {P : α → β → Prop} (h : b = true) (k : JJ o1 o2 P) : JJ o1 (gd b o2) P := by
  subst h
  exact k
theorem JJ.nl {τ : Type} {x : τ} {f : τ → Option α} {o2 : Option β} {P : α → β → Prop} (k : JJ (f x) o2 P) : JJ (nmb x f) o2 P := k
theorem JJ.nr {τ : Type} {x : τ} {f : τ → Option β} {o1 : Option α} {P : α → β → Prop} (k : JJ o1 (f x) P) : JJ o1 (nmb x f) P := k
theorem JJ.tl {c : Prop} [Decidable c] {a b : Option α} {o2 : Option β} {P : α → β → Prop} (h : c) (k : JJ a o2 P) : JJ (if c then a else b) o2 P := by
  rw [if_pos h]
  exact k
theorem JJ.el {c : Prop} [Decidable c] {a b : Option α} {o2 : Option β} {P : α → β → Prop} (h : ¬ c) (k : JJ b o2 P) : JJ (if c then a else b) o2 P := by
  rw [if_neg h]
  exact k
theorem JJ.tr {c : Prop} [Decidable c] {a b : Option β} {o1 : Option α} {P : α → β → Prop} (h : c) (k : JJ o1 a P) : JJ o1 (if c then a else b) P := by
  rw [if_pos h]
  exact k
theorem JJ.er {c : Prop} [Decidable c] {a b : Option β} {o1 : Option α} {P : α → β → Prop} (h : ¬ c) (k : JJ o1 b P) : JJ o1 (if c then a else b) P := by
  rw [if_neg h]
  exact k
theorem JJ.ii {c d : Prop} [Decidable c] [Decidable d] {a b : Option α} {a' b' : Option β} {P : α → β → Prop} (h : c ↔ d) (k1 : c → d → JJ a a' P) (k2 : ¬ c → ¬ d → JJ b b' P) : JJ (if c then a else b) (if d then a' else b') P := by
  by_cases hc : c
  · rw [if_pos hc, if_pos (h.mp hc)]
    exact k1 hc (h.mp hc)
  · have hd : ¬ d := fun q => hc (h.mpr q)
    rw [if_neg hc, if_neg hd]
    exact k2 hc hd
theorem OO.ret {a : α} {P : α → Prop} (h : P a) : OO (some a) P := ⟨a, rfl, h⟩
theorem OO.mono {o : Option α} {Q P : α → Prop} (h : OO o Q) (k : ∀ a, Q a → P a) : OO o P := by
  obtain ⟨a, h1, q⟩ := h
  exact ⟨a, h1, k a q⟩
theorem OO.bd {o : Option α} {f : α → Option γ} {Q : α → Prop} {P : γ → Prop} (h : OO o Q) (k : ∀ a, Q a → OO (f a) P) : OO (o.bind f) P := by
  obtain ⟨a, rfl, q⟩ := h
  exact k a q
theorem OO.b {o : Option α} {f : α → Option γ} {P : γ → Prop} {a : α} (h : o = some a) (k : OO (f a) P) : OO (o.bind f) P := by
  subst h
  exact k
theorem OO.g {b : Bool} {o : Option α} {P : α → Prop} (h : b = true) (k : OO o P) : OO (gd b o) P := by
  subst h
  exact k
theorem OO.n {τ : Type} {x : τ} {f : τ → Option α} {P : α → Prop} (k : OO (f x) P) : OO (nmb x f) P := k
theorem OO.t {c : Prop} [Decidable c] {a b : Option α} {P : α → Prop} (h : c) (k : OO a P) : OO (if c then a else b) P := by
  rw [if_pos h]
  exact k
theorem OO.e {c : Prop} [Decidable c] {a b : Option α} {P : α → Prop} (h : ¬ c) (k : OO b P) : OO (if c then a else b) P := by
  rw [if_neg h]
  exact k
theorem OO.ii {c : Prop} [Decidable c] {a b : Option α} {P : α → Prop} (k1 : c → OO a P) (k2 : ¬ c → OO b P) : OO (if c then a else b) P := by
  by_cases hc : c
  · rw [if_pos hc]; exact k1 hc
  · rw [if_neg hc]; exact k2 hc
theorem OO.v {o : Option α} {a : α} {P : α → Prop} (h : o = some a) (k : P a) : OO o P := ⟨a, h, k⟩
theorem JJ.loop {S T : Type} {Lx : Nat → S → Int32 → Option α} {Lm : Nat → T → Int32 → Option β} {I : Nat → S → T → Prop} {N : Nat} {P : α → β → Prop}
    (step : ∀ n n' j s t, j < N → I j s t → (∀ s' t', I (j + 1) s' t' → JJ (Lx n s' (nI (j + 1))) (Lm n' t' (nI (j + 1))) P) → JJ (Lx (n + 1) s (nI j)) (Lm (n' + 1) t (nI j)) P)
    (stop : ∀ n n' s t, I N s t → JJ (Lx (n + 1) s (nI N)) (Lm (n' + 1) t (nI N)) P) :
    ∀ d j, j + d = N → ∀ n n', d < n → d < n' → ∀ s t, I j s t → JJ (Lx n s (nI j)) (Lm n' t (nI j)) P := by
  intro d
  induction d with
  | zero =>
    intro j hj n n' h1 h2 s t hI
    obtain ⟨n, rfl⟩ : ∃ k, n = k + 1 := ⟨n - 1, by omega⟩
    obtain ⟨n', rfl⟩ : ∃ k, n' = k + 1 := ⟨n' - 1, by omega⟩
    have : j = N := by omega
    subst this
    exact stop n n' s t hI
  | succ d ih =>
    intro j hj n n' h1 h2 s t hI
    obtain ⟨n, rfl⟩ : ∃ k, n = k + 1 := ⟨n - 1, by omega⟩
    obtain ⟨n', rfl⟩ : ∃ k, n' = k + 1 := ⟨n' - 1, by omega⟩
    exact step n n' j s t (by omega) hI (fun s' t' h => ih (j + 1) (by omega) n n' (by omega) (by omega) s' t' h)
theorem OO.loop {S : Type} {L : Nat → S → Int32 → Option α} {I : Nat → S → Prop} {N : Nat} {P : α → Prop}
    (step : ∀ n j s, j < N → I j s → (∀ s', I (j + 1) s' → OO (L n s' (nI (j + 1))) P) → OO (L (n + 1) s (nI j)) P)
    (stop : ∀ n s, I N s → OO (L (n + 1) s (nI N)) P) :
    ∀ d j, j + d = N → ∀ n, d < n → ∀ s, I j s → OO (L n s (nI j)) P := by
  intro d
  induction d with
  | zero =>
    intro j hj n h1 s hI
    obtain ⟨n, rfl⟩ : ∃ k, n = k + 1 := ⟨n - 1, by omega⟩
    have : j = N := by omega
    subst this
    exact stop n s hI
  | succ d ih =>
    intro j hj n h1 s hI
    obtain ⟨n, rfl⟩ : ∃ k, n = k + 1 := ⟨n - 1, by omega⟩
    exact step n j s (by omega) hI (fun s' h => ih (j + 1) (by omega) n (by omega) s' h)
end JB
theorem ifc {α : Type} {c d : Prop} [Decidable c] [Decidable d] {a b : α} (h : c ↔ d) : (if c then a else b) = if d then a else b := by
  by_cases hc : c
  · rw [if_pos hc, if_pos (h.mp hc)]
  · rw [if_neg hc, if_neg (fun q => hc (h.mpr q))]
theorem FU_gt {n : Nat} (h : n < 1000000) : n < FU := by rw [FU_eq]; exact h
/-! numbers -/
theorem ixn {n : Nat} (h : n < 2 ^ 31) : ix (nI n) = n := nI_clamp h
theorem inbn {n N : Nat} (h : n < N) (hN : N < 2 ^ 31) : inb (nI n) N = true := inb_of (vp_in_nI h hN)
theorem lit (n : Nat) : (OfNat.ofNat n : Int32) = nI n := rfl
theorem lc_lt (x y : Int64) : lg_cmp x y < 0 ↔ x < y := by
  unfold lg_cmp
  by_cases h : x > y
  · rw [if_pos h]
    refine ⟨fun q => absurd q (by decide), fun q => ?_⟩
    have h1 := Int64.lt_iff_toInt_lt.mp h
    have h2 := Int64.lt_iff_toInt_lt.mp q
    omega
  · rw [if_neg h]
    by_cases e : x = y
    · rw [if_pos e]
      subst e
      exact ⟨fun q => absurd q (by decide), fun q => absurd q h⟩
    · rw [if_neg e]
      refine ⟨fun _ => ?_, fun _ => by decide⟩
      have h1 : ¬ y.toInt < x.toInt := fun q => h (Int64.lt_iff_toInt_lt.mpr q)
      have h2 : x.toInt ≠ y.toInt := fun q => e (Int64.toInt_inj.mp q)
      exact Int64.lt_iff_toInt_lt.mpr (by omega)
theorem lc_eq (x y : Int64) : lg_cmp x y = 0 ↔ x = y := by
  unfold lg_cmp
  by_cases h : x > y
  · rw [if_pos h]
    refine ⟨fun q => absurd q (by decide), fun q => ?_⟩
    subst q
    have h1 := Int64.lt_iff_toInt_lt.mp h
    omega
  · rw [if_neg h]
    by_cases e : x = y
    · rw [if_pos e]
      exact ⟨fun _ => e, fun _ => rfl⟩
    · rw [if_neg e]
      exact ⟨fun q => absurd q (by decide), fun q => absurd q e⟩
theorem lc_gt (x y : Int64) : 0 < lg_cmp x y ↔ y < x := by
  unfold lg_cmp
  by_cases h : x > y
  · rw [if_pos h]
    exact ⟨fun _ => h, fun _ => by decide⟩
  · rw [if_neg h]
    by_cases e : x = y
    · rw [if_pos e]
      exact ⟨fun q => absurd q (by decide), fun q => absurd q h⟩
    · rw [if_neg e]
      exact ⟨fun q => absurd q (by decide), fun q => absurd q h⟩
theorem n_le (x y : Int32) : ¬ x < y ↔ y ≤ x := by
  rw [Int32.lt_iff_toInt_lt, Int32.le_iff_toInt_le]; omega
theorem n_lt (x y : Int32) : ¬ x ≤ y ↔ y < x := by
  rw [Int32.lt_iff_toInt_lt, Int32.le_iff_toInt_le]; omega
theorem n_leL (x y : Int64) : ¬ x < y ↔ y ≤ x := by
  rw [Int64.lt_iff_toInt_lt, Int64.le_iff_toInt_le]; omega
theorem n_ltL (x y : Int64) : ¬ x ≤ y ↔ y < x := by
  rw [Int64.lt_iff_toInt_lt, Int64.le_iff_toInt_le]; omega
theorem lc_ge (x y : Int64) : 0 ≤ lg_cmp x y ↔ y ≤ x := by
  rw [← n_le, lc_lt, n_leL]
theorem lc_le (x y : Int64) : lg_cmp x y ≤ 0 ↔ x ≤ y := by
  rw [← n_leL y x, ← lc_gt, n_le]
theorem w_le (x y : Int32) : x.toInt64 ≤ y.toInt64 ↔ x ≤ y := by rw [Int64.le_iff_toInt_le, Int32.le_iff_toInt_le, Int32.toInt_toInt64, Int32.toInt_toInt64]
theorem w_lt (x y : Int32) : x.toInt64 < y.toInt64 ↔ x < y := by rw [Int64.lt_iff_toInt_lt, Int32.lt_iff_toInt_lt, Int32.toInt_toInt64, Int32.toInt_toInt64]
theorem i_le (x y : Int32) : x ≤ y ↔ x.toInt ≤ y.toInt := Int32.le_iff_toInt_le
theorem i_lt (x y : Int32) : x < y ↔ x.toInt < y.toInt := Int32.lt_iff_toInt_lt
theorem i_eq (x y : Int32) : x = y ↔ x.toInt = y.toInt := Int32.toInt_inj.symm
/-- in of a range -/
def ib (v a b : Int32) : Int32 := if a ≤ v ∧ v ≤ b then 1 else 0
theorem ib_1 {v a b : Int32} (h : a ≤ v ∧ v ≤ b) : ib v a b = 1 := if_pos h
theorem ib_0 {v a b : Int32} (h : ¬ (a ≤ v ∧ v ≤ b)) : ib v a b = 0 := if_neg h
theorem ib_e {v a b : Int32} : ib v a b = 0 ∨ (ib v a b = 1 ∧ a ≤ v ∧ v ≤ b) := by
  unfold ib
  split
  · rename_i h; exact Or.inr ⟨rfl, h⟩
  · exact Or.inl rfl
theorem m_in_eq (v a b : Int32) : m_in v.toInt64 a.toInt64 b.toInt64 = some (ib v a b) := by
  unfold m_in ib
  by_cases h : a ≤ v
  · rw [if_neg (fun q => (n_leL _ _).mpr ((w_le _ _).mpr h) ((lc_lt _ _).mp q))]
    by_cases h2 : v ≤ b
    · rw [if_neg (fun q => (n_leL _ _).mpr ((w_le _ _).mpr h2) ((lc_gt _ _).mp q)), if_pos ⟨h, h2⟩]
    · rw [if_pos ((lc_gt _ _).mpr ((w_lt _ _).mpr ((n_lt _ _).mp h2))), if_neg (fun q => h2 q.2)]
  · rw [if_pos ((lc_lt _ _).mpr ((w_lt _ _).mpr ((n_lt _ _).mp h))), if_neg (fun q => h q.1)]
theorem x_in_eq (v a b : Int32) : x_in v.toInt64 a.toInt64 b.toInt64 = some (ib v a b) := m_in_eq v a b
theorem ib_n {n a b : Nat} (hn : n < 2 ^ 31) (ha : a < 2 ^ 31) (hb : b < 2 ^ 31) : ib (nI n) (nI a) (nI b) = if a ≤ n ∧ n ≤ b then 1 else 0 := by
  unfold ib
  simp only [nI_leI ha hn, nI_leI hn hb]
/-- a bit of a set -/
def bk (b v : Int32) : Int32 := if ((b >>> (v &&& 31)) &&& 1) = 1 then 1 else 0
theorem bk_c (b v : Int32) : bk b v = 0 ∨ bk b v = 1 := by
  unfold bk; split
  · exact Or.inr rfl
  · exact Or.inl rfl
theorem zb_bk (b v : Int32) : zb (bk b v) = true := by
  rcases bk_c b v with h | h <;> rw [h] <;> rfl
theorem x_has_eq (b v : Int32) : x_has b v = some (bk b v) := by
  unfold x_has bk; split <;> rfl
theorem m_has_eq (b v : Int32) : m_has b v = some (bk b v) := x_has_eq b v
theorem d_isBaked_eq (δ : cS) (v : Int32) : d_isBaked δ v = some (bk (δ.1 999 7) v) := by
  unfold d_isBaked
  rw [x_has_eq]
  show gd (zb (bk _ _)) _ = _
  rw [zb_bk]
  rfl
theorem m_isBaked_eq (σ : cS) (v : Int32) : m_isBaked σ v = some (bk (σ.1 1 4) v) := by
  unfold m_isBaked
  rw [m_has_eq]
  show gd (zb (bk _ _)) _ = _
  rw [zb_bk]
  rfl
/-- held between -a and a -/
def hd (x a : Int32) : Int32 := jmax (-a) (jmin a x)
theorem x_held_eq (x a : Int32) : x_held x a = some (hd x a) := rfl
theorem m_held_eq {x a : Int32} (ha : (-a).toInt = - a.toInt) (h0 : 0 ≤ a.toInt) : m_held x.toInt64 a = some (hd x a) := by
  unfold m_held hd jmax jmin
  by_cases h1 : -a ≤ x
  · rw [if_pos ((lc_ge _ _).mpr ((w_le _ _).mpr h1))]
    by_cases h2 : x ≤ a
    · rw [if_pos ((lc_le _ _).mpr ((w_le _ _).mpr h2)), Int32.toInt32_toInt64]
      rw [i_le] at h1 h2
      by_cases h3 : x < a
      · rw [if_pos h3]
        by_cases h4 : -a < x
        · rw [if_pos h4]
        · rw [if_neg h4]
          rw [i_lt] at h4
          exact congrArg some ((i_eq _ _).mpr (by omega))
      · rw [if_neg h3]
        rw [i_lt] at h3
        have e : x = a := (i_eq _ _).mpr (by omega)
        subst e
        by_cases h4 : -x < x
        · rw [if_pos h4]
        · rw [if_neg h4]
          rw [i_lt] at h4
          exact congrArg some ((i_eq _ _).mpr (by omega))
    · rw [if_neg (fun q => h2 ((w_le _ _).mp ((lc_le _ _).mp q)))]
      have h2' := (n_lt _ _).mp h2
      rw [i_lt] at h2'
      rw [if_neg (by rw [i_lt]; omega : ¬ x < a)]
      by_cases h4 : -a < a
      · rw [if_pos h4]
      · rw [if_neg h4]
        rw [i_lt] at h4
        exact congrArg some ((i_eq _ _).mpr (by omega))
  · rw [if_neg (fun q => h1 ((w_le _ _).mp ((lc_ge _ _).mp q)))]
    have h1' := (n_lt _ _).mp h1
    rw [i_lt] at h1'
    rw [if_pos (by rw [i_lt]; omega : x < a), if_neg (by rw [i_lt]; omega : ¬ -a < x)]
theorem m_held20 (x : Int32) : m_held x.toInt64 20 = some (hd x 20) := m_held_eq (by decide) (by decide)
theorem m_held3 (x : Int32) : m_held x.toInt64 3 = some (hd x 3) := m_held_eq (by decide) (by decide)
def lk (x : Int32) : Prop := -20 ≤ x.toInt ∧ x.toInt ≤ 20
theorem hd_lk (x : Int32) : lk (hd x 20) := by
  unfold lk hd jmax jmin
  have e1 : (20 : Int32).toInt = 20 := by decide
  have e2 : (-20 : Int32).toInt = -20 := by decide
  by_cases h3 : x < 20
  · rw [if_pos h3]
    by_cases h4 : -20 < x
    · rw [if_pos h4]
      rw [i_lt, e1] at h3
      rw [i_lt, e2] at h4
      omega
    · rw [if_neg h4, e2]; omega
  · rw [if_neg h3]
    by_cases h4 : (-20 : Int32) < 20
    · rw [if_pos h4, e1]; omega
    · rw [if_neg h4, e2]; omega
/-! reading a state -/
theorem si_s {σ : cS} {k i : Nat} {v : Int32} : (si σ k i v).1 k = upd (σ.1 k) i v := by simp [si, va_up]
theorem si_a {σ : cS} {k i : Nat} {v : Int32} : (si σ k i v).1 k i = v := by simp [si, va_up, upd]
theorem si_o {σ : cS} {k i j : Nat} {v : Int32} (h : j ≠ k) : (si σ k i v).1 j = σ.1 j := by simp [si, va_up, h]
theorem si_p {σ : cS} {k i j : Nat} {v : Int32} (h : j ≠ i) : (si σ k i v).1 k j = σ.1 k j := by simp [si, va_up, upd, h]
theorem upd_a {f : Nat → Int32} {i : Nat} {v : Int32} : upd f i v i = v := if_pos rfl
theorem upd_o {f : Nat → Int32} {i j : Nat} {v : Int32} (h : j ≠ i) : upd f i v j = f j := if_neg h
theorem upd_c {f g : Nat → Int32} {i j : Nat} {v : Int32} (h : f j = g j) : upd f i v j = upd g i v j := by
  unfold upd; split
  · rfl
  · exact h
theorem upd_P {P : Int32 → Prop} {f : Nat → Int32} {i j : Nat} {v : Int32} (h : P (f j)) (hv : P v) : P (upd f i v j) := by
  unfold upd; split
  · exact hv
  · exact h
