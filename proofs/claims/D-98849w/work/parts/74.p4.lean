/-! PURE LAW: copies of chunks, rows of the past -/
set_option maxRecDepth 100000
theorem sA_o {σ : cS} {k j : Nat} {f : Nat → Int32} (h : j ≠ k) : (sA σ k f).1 j = σ.1 j := by simp [sA, va_up, h]
theorem sA_s {σ : cS} {k : Nat} {f : Nat → Int32} : (sA σ k f).1 k = f := by simp [sA, va_up]
theorem ix_0 : ix 0 = 0 := rfl
theorem ix_8 : ix 8 = 8 := rfl
theorem ix_10 : ix 10 = 10 := rfl
theorem cpy_in {α : Type} {f g : Nat → α} {sp dp n k : Nat} (h1 : dp ≤ k) (h2 : k < dp + n) : va_cpy f g sp dp n k = f (sp + (k - dp)) := if_pos ⟨h1, h2⟩
theorem cpy_out {α : Type} {f g : Nat → α} {sp dp n k : Nat} (h : ¬ (dp ≤ k ∧ k < dp + n)) : va_cpy f g sp dp n k = g k := if_neg h
/-- the lengths of a Dough's rows -/
def zD : List Nat := [0, 0, 0, 0, 0, 0, 0, 0, 0, 10, 100, 8, 8, 8, 16, 30, 10, 10, 10, 8, 800]
/-- the first a numbers and the rows of S are those of the chunk behind (τ's blocks 1000 ..), the rest is τ's own -/
def Cq (τ : cS) (N S : List Nat) (z : cS) : Prop := (∀ k, k ≠ 999 → k ∉ S → z.1 k = τ.1 k) ∧ (∀ i, i ∉ N → z.1 999 i = τ.1 999 i) ∧ (∀ i ∈ N, z.1 999 i = τ.1 1999 i) ∧ ∀ k ∈ S, (∀ i, i < zD.getD k 0 → z.1 k i = τ.1 (1000 + k) i)
theorem Cq.z {τ : cS} : Cq τ [] [] τ := ⟨fun _ _ _ => rfl, fun _ _ => rfl, fun _ h => absurd h List.not_mem_nil, fun _ h => absurd h List.not_mem_nil⟩
theorem Cq.num {τ z : cS} {N S : List Nat} {x : Int32} (i : Nat) (h : Cq τ N S z) (hS : 999 ∉ S) (hx : x = τ.1 1999 i) : Cq τ (i :: N) S (si z 999 i x) := by
  obtain ⟨h1, h2, h3, h4⟩ := h
  refine ⟨fun k hk hk2 => by rw [si_o hk]; exact h1 k hk hk2, fun j hj => ?_, fun j hj => ?_, fun k hk j hj => ?_⟩
  · rw [si_p (fun e => hj (by rw [e]; exact List.mem_cons_self))]
    exact h2 j (fun q => hj (List.mem_cons_of_mem _ q))
  · by_cases e : j = i
    · subst e; rw [si_a]; exact hx
    · rw [si_p e]
      rcases List.mem_cons.mp hj with q | q
      · exact absurd q e
      · exact h3 j q
  · rw [si_o (fun e : k = 999 => hS (e ▸ hk))]
    exact h4 k hk j hj
theorem Cq.row {τ z : cS} {N S : List Nat} (k n : Nat) (h : Cq τ N S z) (hS : k ∉ S) (hk : k ≠ 999) (hS2 : 1000 + k ∉ S) (hn : zD.getD k 0 = n) (hn2 : n < 2 ^ 31) : Cq τ N (k :: S) (sA z k (va_cpy (z.1 (1000 + k)) (z.1 k) (ix 0) (ix 0) (ix (nI n)))) := by
  obtain ⟨h1, h2, h3, h4⟩ := h
  refine ⟨fun j hj hj2 => ?_, fun j hj => ?_, fun j hj => ?_, fun j hj i hi => ?_⟩
  · rw [sA_o (fun e => hj2 (by rw [e]; exact List.mem_cons_self))]
    exact h1 j hj (fun q => hj2 (List.mem_cons_of_mem _ q))
  · rw [sA_o (fun e => hk e.symm)]; exact h2 j hj
  · rw [sA_o (fun e => hk e.symm)]; exact h3 j hj
  · by_cases e : j = k
    · subst e
      rw [sA_s, ixn hn2, ix_0, cpy_in (Nat.zero_le _) (by omega), h1 _ (by omega) hS2]
      show τ.1 (1000 + j) (0 + (i - 0)) = _
      rw [Nat.zero_add, Nat.sub_zero]
    · rw [sA_o e]
      rcases List.mem_cons.mp hj with q | q
      · exact absurd q e
      · exact h4 j q i hi
theorem od_standsAs (τ : cS) : OO (d_standsAs τ) (Cq τ [8, 7] [19, 18, 17, 16]) := by
  unfold d_standsAs
  refine OO.nq (Cq.num 7 Cq.z (by decide) rfl) (fun a1 q1 => ?_)
  refine OO.nq (Cq.num 8 q1 (by decide) (by rw [si_o (by decide)])) (fun a2 q2 => ?_)
  refine OO.nq (Cq.row 16 10 q2 (by decide) (by decide) (by decide) rfl (by decide)) (fun a3 q3 => ?_)
  refine OO.nq (Cq.row 17 10 q3 (by decide) (by decide) (by decide) rfl (by decide)) (fun a4 q4 => ?_)
  refine OO.nq (Cq.row 18 10 q4 (by decide) (by decide) (by decide) rfl (by decide)) (fun a5 q5 => ?_)
  exact OO.ret (Cq.row 19 8 q5 (by decide) (by decide) (by decide) rfl (by decide))
/-- all of a Dough -/
def eqD (a b : cS) : Prop := (∀ i, i < 9 → a.1 999 i = b.1 999 i) ∧ ∀ k, 9 ≤ k → k ≤ 20 → ∀ i, i < zD.getD k 0 → a.1 k i = b.1 k i
theorem od_copies (τ : cS) : OO (d_copies τ) (fun z => (∀ k, 1000 ≤ k → z.1 k = τ.1 k) ∧ eqD z (fun k => τ.1 (1000 + k), τ.2)) := by
  unfold d_copies
  refine OO.nq (Cq.num 0 Cq.z (by decide) rfl) (fun a1 q1 => ?_)
  refine OO.nq (Cq.num 1 q1 (by decide) (by rw [si_o (by decide)])) (fun a2 q2 => ?_)
  refine OO.nq (Cq.num 2 q2 (by decide) (by rw [si_o (by decide), q1.1 _ (by decide) (by decide)])) (fun a3 q3 => ?_)
  refine OO.nq (Cq.num 3 q3 (by decide) (by rw [si_o (by decide), q2.1 _ (by decide) (by decide)])) (fun a4 q4 => ?_)
  refine OO.nq (Cq.num 4 q4 (by decide) (by rw [si_o (by decide), q3.1 _ (by decide) (by decide)])) (fun a5 q5 => ?_)
  refine OO.nq (Cq.num 5 q5 (by decide) (by rw [si_o (by decide), q4.1 _ (by decide) (by decide)])) (fun a6 q6 => ?_)
  refine OO.nq (Cq.num 6 q6 (by decide) (by rw [si_o (by decide), q5.1 _ (by decide) (by decide)])) (fun a7 q7 => ?_)
  refine OO.nq (Cq.row 9 10 q7 (by decide) (by decide) (by decide) rfl (by decide)) (fun b1 p1 => ?_)
  refine OO.nq (Cq.row 10 100 p1 (by decide) (by decide) (by decide) rfl (by decide)) (fun b2 p2 => ?_)
  refine OO.nq (Cq.row 11 8 p2 (by decide) (by decide) (by decide) rfl (by decide)) (fun b3 p3 => ?_)
  refine OO.nq (Cq.row 12 8 p3 (by decide) (by decide) (by decide) rfl (by decide)) (fun b4 p4 => ?_)
  refine OO.nq (Cq.row 13 8 p4 (by decide) (by decide) (by decide) rfl (by decide)) (fun b5 p5 => ?_)
  refine OO.nq (Cq.row 14 16 p5 (by decide) (by decide) (by decide) rfl (by decide)) (fun b6 p6 => ?_)
  refine OO.nq (Cq.row 15 30 p6 (by decide) (by decide) (by decide) rfl (by decide)) (fun b7 p7 => ?_)
  have p8 := Cq.row 20 800 p7 (by decide) (by decide) (by decide) rfl (by decide)
  refine OO.bd (od_standsAs _) (fun z qz => OO.ret ?_)
  obtain ⟨h1, h2, h3, h4⟩ := p8
  obtain ⟨g1, g2, g3, g4⟩ := qz
  have up : ∀ k, 1000 ≤ k → (sA b7 20 (va_cpy (b7.1 (1000 + 20)) (b7.1 20) (ix 0) (ix 0) (ix (nI 800)))).1 k = τ.1 k := fun k hk => h1 k (by omega) (by simp only [List.mem_cons, List.not_mem_nil, or_false]; omega)
  refine ⟨fun k hk => (g1 k (by omega) (by simp only [List.mem_cons, List.not_mem_nil, or_false]; omega)).trans (up k hk), fun i hi => ?_, fun k hk1 hk2 i hi => ?_⟩
  · by_cases e : i = 7 ∨ i = 8
    · exact (g3 i (by simp only [List.mem_cons, List.not_mem_nil, or_false]; omega)).trans (congrFun (up 1999 (by decide)) i)
    · exact (g2 i (by simp only [List.mem_cons, List.not_mem_nil, or_false]; omega)).trans (h3 i (by simp only [List.mem_cons, List.not_mem_nil, or_false]; omega))
  · by_cases e : 16 ≤ k ∧ k ≤ 19
    · exact (g4 k (by simp only [List.mem_cons, List.not_mem_nil, or_false]; omega) i hi).trans (congrFun (up (1000 + k) (by omega)) i)
    · rw [g1 k (by omega) (by simp only [List.mem_cons, List.not_mem_nil, or_false]; omega)]
      exact h4 k (by simp only [List.mem_cons, List.not_mem_nil, or_false]; omega) i hi
/-! chunks in the class's state -/
theorem vw_pb {σ δ : cS} {b k : Nat} (hk : k < 1000) : (vw (pb σ b δ) b).1 k = δ.1 k := by
  show (if b ≤ b + k ∧ b + k < b + 1000 then δ.1 (b + k - b) else σ.1 (b + k)) = _
  rw [if_pos (by omega), show b + k - b = k by omega]
theorem pb_o {σ δ : cS} {b k : Nat} (h : ¬ (b ≤ k ∧ k < b + 1000)) : (pb σ b δ).1 k = σ.1 k := if_neg h
theorem vw2_1 {σ : cS} {b c k : Nat} (h : k < 1000) : (vw2 σ b c).1 k = σ.1 (b + k) := if_pos h
theorem vw2_2 {σ : cS} {b c k : Nat} : (vw2 σ b c).1 (1000 + k) = σ.1 (c + k) := by
  show (if 1000 + k < 1000 then _ else _) = _
  rw [if_neg (by omega), show 1000 + k - 1000 = k by omega]
/-- nothing but chunk b is another -/
def Ch (b : Nat) (σ σ' : cS) : Prop := ∀ k, ¬ (b ≤ k ∧ k < b + 1000) → σ'.1 k = σ.1 k
theorem Ch.rf {b : Nat} {σ : cS} : Ch b σ σ := fun _ _ => rfl
theorem Ch.tr {b : Nat} {x y z : cS} (h : Ch b x y) (h2 : Ch b y z) : Ch b x z := fun k hk => (h2 k hk).trans (h k hk)
theorem Ch.pb {b : Nat} {σ δ : cS} : Ch b σ (pb σ b δ) := fun _ h => pb_o h
theorem Ch.si {b k i : Nat} {σ : cS} {v : Int32} (hk : b ≤ k ∧ k < b + 1000) : Ch b σ (si σ k i v) := fun j hj => si_o (fun e => hj (e ▸ hk))
theorem Ch.vw {b c : Nat} {σ σ' : cS} (h : Ch b σ σ') (hbc : b + 1000 ≤ c ∨ c + 1000 ≤ b) {k : Nat} (hk : k < 1000) : (vw σ' c).1 k = (vw σ c).1 k := h (c + k) (by omega)
theorem pb2_c {σ z : cS} {b c : Nat} (hbc : b + 1000 ≤ c ∨ c + 1000 ≤ b) (hz : ∀ k, 1000 ≤ k → z.1 k = (vw2 σ b c).1 k) : Ch b σ (pb2 σ b c z) := by
  intro k hk
  show (if c ≤ k ∧ k < c + 1000 then z.1 (1000 + (k - c)) else (pb σ b (vw z 0)).1 k) = _
  by_cases h : c ≤ k ∧ k < c + 1000
  · rw [if_pos h, hz _ (by omega), vw2_2, show c + (k - c) = k by omega]
  · rw [if_neg h, pb_o hk]
theorem pb2_b {σ z : cS} {b c k : Nat} (hbc : b + 1000 ≤ c ∨ c + 1000 ≤ b) (hk : k < 1000) : (vw (pb2 σ b c z) b).1 k = z.1 k := by
  show (if c ≤ b + k ∧ b + k < c + 1000 then z.1 (1000 + (b + k - c)) else (pb σ b (vw z 0)).1 (b + k)) = _
  rw [if_neg (by omega)]
  show (if b ≤ b + k ∧ b + k < b + 1000 then z.1 (0 + (b + k - b)) else σ.1 (b + k)) = _
  rw [if_pos (by omega), show 0 + (b + k - b) = k by omega]
/-- a copy of chunk c in chunk b -/
theorem ox_copies (σ : cS) {b c : Nat} (hbc : b + 1000 ≤ c ∨ c + 1000 ≤ b) : OO (d_copies (vw2 σ b c)) (fun z => Ch b σ (pb2 σ b c z) ∧ eqD (vw (pb2 σ b c z) b) (vw σ c)) := by
  refine OO.mono (od_copies _) (fun z ⟨h1, h2, h3⟩ => ⟨pb2_c hbc h1, fun i hi => ?_, fun k hk1 hk2 i hi => ?_⟩)
  · rw [pb2_b hbc (by decide), h2 i hi]
    show (vw2 σ b c).1 (1000 + 999) i = _
    rw [vw2_2]
    rfl
  · rw [pb2_b hbc (by omega), h3 k hk1 hk2 i hi]
    show (vw2 σ b c).1 (1000 + k) i = _
    rw [vw2_2]
    rfl
/-- chunk b stands as chunk c -/
def StA (o a c : cS) : Prop := (∀ i, i ≠ 7 → i ≠ 8 → a.1 999 i = o.1 999 i) ∧ (a.1 999 7 = c.1 999 7 ∧ a.1 999 8 = c.1 999 8) ∧ (∀ k, k < 999 → (k < 16 ∨ 19 < k) → a.1 k = o.1 k) ∧ ∀ k, 16 ≤ k → k ≤ 19 → ∀ i, i < zD.getD k 0 → a.1 k i = c.1 k i
theorem ox_standsAs (σ : cS) {b c : Nat} (hbc : b + 1000 ≤ c ∨ c + 1000 ≤ b) : OO (d_standsAs (vw2 σ b c)) (fun z => Ch b σ (pb2 σ b c z) ∧ StA (vw σ b) (vw (pb2 σ b c z) b) (vw σ c)) := by
  refine OO.mono (od_standsAs _) (fun z ⟨h1, h2, h3, h4⟩ => ?_)
  have up : ∀ k, 1000 ≤ k → z.1 k = (vw2 σ b c).1 k := fun k hk => h1 k (by omega) (by simp only [List.mem_cons, List.not_mem_nil, or_false]; omega)
  refine ⟨pb2_c hbc up, fun i i7 i8 => ?_, ⟨?_, ?_⟩, fun k hk hk2 => ?_, fun k hk1 hk2 i hi => ?_⟩
  · rw [pb2_b hbc (by decide), h2 i (by simp only [List.mem_cons, List.not_mem_nil, or_false]; omega), vw2_1 (by decide)]
    rfl
  · rw [pb2_b hbc (by decide), h3 7 (by decide)]
    show (vw2 σ b c).1 (1000 + 999) 7 = _
    rw [vw2_2]
    rfl
  · rw [pb2_b hbc (by decide), h3 8 (by decide)]
    show (vw2 σ b c).1 (1000 + 999) 8 = _
    rw [vw2_2]
    rfl
  · rw [pb2_b hbc (by omega), h1 k (by omega) (by simp only [List.mem_cons, List.not_mem_nil, or_false]; omega), vw2_1 (by omega)]
    rfl
  · rw [pb2_b hbc (by omega), h4 k (by simp only [List.mem_cons, List.not_mem_nil, or_false]; omega) i hi, vw2_2]
    rfl
/-! rows of the past -/
def rwx (δ : cS) (j : Nat) : Int32 := if j = 0 then δ.1 999 7 else if j = 1 then δ.1 999 8 else if j < 12 then δ.1 16 (j - 2) else if j < 22 then δ.1 17 (j - 12) else if j < 32 then δ.1 18 (j - 22) else δ.1 19 (j - 32)
def rwm (σ : cS) (j : Nat) : Int32 := if j = 0 then σ.1 1 4 else if j = 1 then σ.1 1 5 else if j < 12 then σ.1 2 (j - 2) else if j < 22 then σ.1 3 (j - 12) else if j < 32 then σ.1 4 (j - 22) else σ.1 9 (j - 32)
theorem Rn.row {mm vv ww t : Nat} {δ σ : cS} (h : Rn mm vv ww t t δ σ) {j : Nat} (hj : j < 40) : rwx δ j = rwm σ j := by
  unfold rwx rwm
  by_cases h0 : j = 0
  · rw [if_pos h0, if_pos h0, h.bd]
  rw [if_neg h0, if_neg h0]
  by_cases h1 : j = 1
  · rw [if_pos h1, if_pos h1, h.dt, h.mt]
  rw [if_neg h1, if_neg h1]
  by_cases h2 : j < 12
  · rw [if_pos h2, if_pos h2, h.ln (by omega)]
  rw [if_neg h2, if_neg h2]
  by_cases h3 : j < 22
  · rw [if_pos h3, if_pos h3, h.dg (by omega)]
  rw [if_neg h3, if_neg h3]
  by_cases h4 : j < 32
  · rw [if_pos h4, if_pos h4, h.sl (by omega)]
  rw [if_neg h4, if_neg h4, h.cr (by omega)]
/-- the first n places of row k are δ's -/
def Lq (δ : cS) (k n : Nat) (z : cS) : Prop := (∀ b, b ≠ 20 → z.1 b = δ.1 b) ∧ ∀ i, z.1 20 i = if 40 * k ≤ i ∧ i < 40 * k + n then rwx δ (i - 40 * k) else δ.1 20 i
theorem Lq.z {δ : cS} {k : Nat} : Lq δ k 0 δ := ⟨fun _ _ => rfl, fun i => (if_neg (by omega)).symm⟩
theorem Lq.one {δ z : cS} {k n : Nat} {x i : Int32} (h : Lq δ k n z) (hi : i = nI (40 * k + n)) (hn : 40 * k + n < 2 ^ 31) (hx : x = rwx δ n) : Lq δ k (n + 1) (si z 20 (ix i) x) := by
  subst hi
  rw [ixn hn]
  refine ⟨fun b hb => by rw [si_o hb]; exact h.1 b hb, fun i => ?_⟩
  by_cases e : i = 40 * k + n
  · subst e
    rw [si_a, if_pos (by omega), show 40 * k + n - 40 * k = n by omega]
    exact hx
  · rw [si_p e, h.2 i]
    by_cases c : 40 * k ≤ i ∧ i < 40 * k + n
    · rw [if_pos c, if_pos (by omega)]
    · rw [if_neg c, if_neg (by omega)]
theorem Lq.many {δ z : cS} {k n m : Nat} {f : Nat → Int32} {i c : Int32} (h : Lq δ k n z) (hi : i = nI (40 * k + n)) (hc : c = nI m) (hn : 40 * k + n < 2 ^ 31) (hm : m < 2 ^ 31) (hx : ∀ j, j < m → f j = rwx δ (n + j)) : Lq δ k (n + m) (sA z 20 (va_cpy f (z.1 20) (ix 0) (ix i) (ix c))) := by
  subst hi hc
  rw [ixn hn, ixn hm]
  refine ⟨fun b hb => by rw [sA_o hb]; exact h.1 b hb, fun i => ?_⟩
  rw [sA_s]
  by_cases e : 40 * k + n ≤ i ∧ i < 40 * k + n + m
  · rw [cpy_in e.1 e.2, if_pos (by omega)]
    show f (0 + (i - (40 * k + n))) = _
    rw [Nat.zero_add, hx _ (by omega), show n + (i - (40 * k + n)) = i - 40 * k by omega]
  · rw [cpy_out e, h.2 i]
    by_cases c : 40 * k ≤ i ∧ i < 40 * k + n
    · rw [if_pos c, if_pos (by omega)]
    · rw [if_neg c, if_neg (by omega)]
theorem cpb_t {a b n : Nat} {x y : Nat} (ha : a < 2 ^ 31) (hb : b < 2 ^ 31) (hn : n < 2 ^ 31) (h1 : a + n ≤ x) (h2 : b + n ≤ y) : cpb (nI a) (nI b) (nI n) x y = true := by
  unfold cpb
  rw [nI_clamp ha, nI_clamp hb, nI_clamp hn]
  simp only [nI_pos ha, nI_pos hb, nI_pos hn, h1, h2, not_false_iff, decide_true, Bool.and_self]
theorem at_row {k j : Nat} : (40 : Int32) * nI k + nI j = nI (40 * k + j) := by
  rw [show (40 : Int32) = nI 40 from rfl, pk_mul, nI_add]
theorem at_row0 {k : Nat} : (40 : Int32) * nI k = nI (40 * k + 0) := by
  rw [show (40 : Int32) = nI 40 from rfl, pk_mul, Nat.add_zero]
theorem od_lays (δ : cS) {k : Nat} (hk : k < 20) : OO (d_lays δ (nI k)) (Lq δ k 40) := by
  have e0 : (40 : Int32) * nI k = nI (40 * k + 0) := at_row0
  have e1 : (40 : Int32) * nI k + 1 = nI (40 * k + 1) := at_row
  have e2 : (40 : Int32) * nI k + 2 = nI (40 * k + 2) := at_row
  have e3 : (40 : Int32) * nI k + 12 = nI (40 * k + 12) := at_row
  have e4 : (40 : Int32) * nI k + 22 = nI (40 * k + 22) := at_row
  have e5 : (40 : Int32) * nI k + 32 = nI (40 * k + 32) := at_row
  unfold d_lays
  refine OO.g (by rw [e0]; exact inbn (by omega) (by decide)) ?_
  refine OO.nq (Lq.one Lq.z e0 (by omega) rfl) (fun a1 q1 => ?_)
  refine OO.g (by rw [e1]; exact inbn (by omega) (by decide)) ?_
  refine OO.nq (Lq.one q1 e1 (by omega) (by rw [si_o (by decide)]; rfl)) (fun a2 q2 => ?_)
  refine OO.g (by rw [e2]; exact cpb_t (a := 0) (n := 10) (by decide) (by omega) (by decide) (by omega) (by omega)) ?_
  refine OO.nq (Lq.many (m := 10) q2 e2 rfl (by omega) (by decide) (fun j hj => by rw [q2.1 16 (by decide)]; unfold rwx; rw [if_neg (by omega), if_neg (by omega), if_pos (by omega)]; rw [show 2 + j - 2 = j by omega])) (fun a3 q3 => ?_)
  refine OO.g (by rw [e3]; exact cpb_t (a := 0) (n := 10) (by decide) (by omega) (by decide) (by omega) (by omega)) ?_
  refine OO.nq (Lq.many (m := 10) q3 e3 rfl (by omega) (by decide) (fun j hj => by rw [q3.1 17 (by decide)]; unfold rwx; rw [if_neg (by omega), if_neg (by omega), if_neg (by omega), if_pos (by omega)]; rw [show 12 + j - 12 = j by omega])) (fun a4 q4 => ?_)
  refine OO.g (by rw [e4]; exact cpb_t (a := 0) (n := 10) (by decide) (by omega) (by decide) (by omega) (by omega)) ?_
  refine OO.nq (Lq.many (m := 10) q4 e4 rfl (by omega) (by decide) (fun j hj => by rw [q4.1 18 (by decide)]; unfold rwx; rw [if_neg (by omega), if_neg (by omega), if_neg (by omega), if_neg (by omega), if_pos (by omega)]; rw [show 22 + j - 22 = j by omega])) (fun a5 q5 => ?_)
  refine OO.g (by rw [e5]; exact cpb_t (a := 0) (n := 8) (by decide) (by omega) (by decide) (by omega) (by omega)) ?_
  exact OO.ret (Lq.many (m := 8) q5 e5 rfl (by omega) (by decide) (fun j hj => by rw [q5.1 19 (by decide)]; unfold rwx; rw [if_neg (by omega), if_neg (by omega), if_neg (by omega), if_neg (by omega), if_neg (by omega)]; rw [show 32 + j - 32 = j by omega]))
/-- row k taken back -/
def Tq (δ : cS) (k : Nat) (z : cS) : Prop := (∀ b, b ≠ 999 → b ≠ 16 → b ≠ 17 → b ≠ 18 → b ≠ 19 → z.1 b = δ.1 b) ∧ (∀ i, i ≠ 7 → i ≠ 8 → z.1 999 i = δ.1 999 i) ∧ ∀ j, j < 40 → rwx z j = δ.1 20 (40 * k + j)
theorem od_takes (δ : cS) {k : Nat} (hk : k < 20) : OO (d_takes δ (nI k)) (Tq δ k) := by
  have e0 : (40 : Int32) * nI k = nI (40 * k + 0) := at_row0
  have e1 : (40 : Int32) * nI k + 1 = nI (40 * k + 1) := at_row
  have e2 : (40 : Int32) * nI k + 2 = nI (40 * k + 2) := at_row
  have e3 : (40 : Int32) * nI k + 12 = nI (40 * k + 12) := at_row
  have e4 : (40 : Int32) * nI k + 22 = nI (40 * k + 22) := at_row
  have e5 : (40 : Int32) * nI k + 32 = nI (40 * k + 32) := at_row
  unfold d_takes
  rw [e1, e2, e3, e4, e5, e0, ixn (by omega), ixn (by omega), ixn (by omega), ixn (by omega), ixn (by omega), ixn (by omega)]
  refine OO.g (inbn (by omega) (by decide)) (OO.g (inbn (by omega) (by decide)) ?_)
  refine OO.n (OO.n ?_)
  refine OO.g (cpb_t (b := 0) (n := 10) (by omega) (by decide) (by decide) (by omega) (by omega)) (OO.n ?_)
  refine OO.g (cpb_t (b := 0) (n := 10) (by omega) (by decide) (by decide) (by omega) (by omega)) (OO.n ?_)
  refine OO.g (cpb_t (b := 0) (n := 10) (by omega) (by decide) (by decide) (by omega) (by omega)) (OO.n ?_)
  refine OO.g (cpb_t (b := 0) (n := 8) (by omega) (by decide) (by decide) (by omega) (by omega)) (OO.ret ?_)
  refine ⟨fun b h1 h2 h3 h4 h5 => ?_, fun i h7 h8 => ?_, fun j hj => ?_⟩
  · rw [sA_o h5, sA_o h4, sA_o h3, sA_o h2, si_o h1, si_o h1]
  · rw [sA_o (by decide), sA_o (by decide), sA_o (by decide), sA_o (by decide), si_p h8, si_p h7]
  · unfold rwx
    by_cases c0 : j = 0
    · rw [if_pos c0, sA_o (by decide), sA_o (by decide), sA_o (by decide), sA_o (by decide), si_p (by decide), si_a, c0]
    rw [if_neg c0]
    by_cases c1 : j = 1
    · rw [if_pos c1, sA_o (by decide), sA_o (by decide), sA_o (by decide), sA_o (by decide), si_a, si_o (by decide), c1]
    rw [if_neg c1]
    by_cases c2 : j < 12
    · rw [if_pos c2, sA_o (by decide), sA_o (by decide), sA_o (by decide), sA_s, ix_0, ix_10, cpy_in (Nat.zero_le _) (by omega), si_o (by decide), si_o (by decide)]
      rw [show 40 * k + 2 + (j - 2 - 0) = 40 * k + j by omega]
    rw [if_neg c2]
    by_cases c3 : j < 22
    · rw [if_pos c3, sA_o (by decide), sA_o (by decide), sA_s, ix_0, ix_10, cpy_in (Nat.zero_le _) (by omega), sA_o (by decide), si_o (by decide), si_o (by decide)]
      rw [show 40 * k + 12 + (j - 12 - 0) = 40 * k + j by omega]
    rw [if_neg c3]
    by_cases c4 : j < 32
    · rw [if_pos c4, sA_o (by decide), sA_s, ix_0, ix_10, cpy_in (Nat.zero_le _) (by omega), sA_o (by decide), sA_o (by decide), si_o (by decide), si_o (by decide)]
      rw [show 40 * k + 22 + (j - 22 - 0) = 40 * k + j by omega]
    · rw [if_neg c4, sA_s, ix_0, ix_8, cpy_in (Nat.zero_le _) (by omega), sA_o (by decide), sA_o (by decide), sA_o (by decide), si_o (by decide), si_o (by decide)]
      rw [show 40 * k + 32 + (j - 32 - 0) = 40 * k + j by omega]
