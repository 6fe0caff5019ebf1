/-! the class's world: blocks below 1000 its own, a chunk of 1000 blocks for each Dough (own 1000, spare 2000, deep 3000 .. 7000, reading 8000, blank 9000, of images 10000 ..) -/
set_option maxRecDepth 100000
def ch (b : Nat) : List Nat := dIds.map fun k => b + k
def xIds : List Nat := [999, 998, 3, 9, 11, 12, 13, 14, 16, 17, 20, 22, 24] ++ (ch 1000 ++ (ch 2000 ++ (ch 3000 ++ (ch 4000 ++ (ch 5000 ++ (ch 6000 ++ (ch 7000 ++ (ch 8000 ++ ch 9000))))))))
theorem xIds_nd : xIds.Nodup := by decide +kernel
def dn (ad : Nat → Nat) (z : Int32) : Option Nat := if z = 0 then none else some (ad 1999)
abbrev rr (f : Nat → Option Nat) : (Nat → Int32) ⊕ (Nat → Int64) ⊕ (Nat → UInt32) ⊕ (Nat → UInt64) ⊕ (Nat → Option Nat) := .inr (.inr (.inr (.inr f)))
def wnL : List Nat := [1, 7, 8, 9, 10, 2, 11, 12, 13, 14, 15, 16]
abbrev xR : Type := (Nat → Option Nat) × (Nat → Option Nat)
def xF (ad : Nat → Nat) (σ : cS) : List Value := [va_rf (dn ad (σ.1 999 0)), .ref (ad 1999), .ref (ad 2999), .ref (ad 3), .ref (ad 8999), .ref (ad 9999), .int (σ.1 999 6), .int (σ.1 999 7), .ref (ad 998), .ref (ad 9), .int (σ.1 999 10), .ref (ad 11), .ref (ad 12), .ref (ad 13), .ref (ad 14), .int (σ.1 999 15), .ref (ad 16), .ref (ad 17), .int (σ.1 999 18), .int (σ.1 999 19), .ref (ad 20), .int (σ.1 999 21), .ref (ad 22), .int (σ.1 999 23), .ref (ad 24)]
def faF (g : gG) (σ : cS) : List Value := [.null, .null, .null, .ref (g.2.2.1 17), .null, .int 0, .int (σ.1 998 6), .int (σ.1 998 7)]
def txF (ad : Nat → Nat) (σ : cS) : List Value := [.ref (ad 13), .ref (ad 8999), .int (σ.1 997 2), .int (σ.1 997 3), .int (σ.1 997 4), .int (σ.1 997 5), .ref (ad 999)]
def imF (ad : Nat → Nat) (σ : cS) (k : Nat) : List Value := [.ref (ad (1000 * (k - 980) + 999)), .int (σ.1 k 1), .int (σ.1 k 2), .int (σ.1 k 3)]
/-- the cell of a block below 1000 -/
def oE (g : gG) (ad : Nat → Nat) (q : xR) (σ : cS) (k : Nat) : va_E :=
  if k = 999 then .inr (0, xF ad σ) else if k = 998 then .inr (2, faF g σ) else if k = 997 then .inr (4, txF ad σ) else if 990 ≤ k then .inr (13, imF ad σ k)
  else if k = 9 then .inl (g.2.1 1, 400, .inl (σ.1 9)) else if k = 3 then .inl (g.2.1 4, 5, rr (fun i => some (ad (1000 * (i + 3) + 999)))) else if k = 11 then .inl (g.2.1 5, 6, rr (fun i => some (g.2.2.1 i))) else if k = 12 then .inl (g.2.1 5, 1, rr (fun _ => some (g.2.2.1 6))) else if k = 13 then .inl (g.2.1 5, 12, rr (fun i => some (g.2.2.1 (wnL.getD i 0))))
  else if k = 14 then .inl (g.2.1 6, 6, rr q.1) else if k = 24 then .inl (g.2.1 7, 4, rr q.2) else .inl (g.2.1 0, (if k = 20 then 300 else if k = 22 then 100 else 3), .inl (σ.1 k))
def xE (g : gG) (ad : Nat → Nat) (q : xR) (σ : cS) (k : Nat) : va_E := if 1000 ≤ k then dE g ad σ k else oE g ad q σ k
theorem xE_d {g : gG} {ad : Nat → Nat} {q : xR} {σ : cS} {k : Nat} (h : 1000 ≤ k) : xE g ad q σ k = dE g ad σ k := if_pos h
theorem xE_o {g : gG} {ad : Nat → Nat} {q : xR} {σ : cS} {k : Nat} (h : k < 1000) : xE g ad q σ k = oE g ad q σ k := if_neg (by omega)
/-- a cell below 1000 by what it reads -/
theorem oE_eq {g : gG} {ad : Nat → Nat} {q : xR} {σ σ' : cS} {k : Nat} (h : σ'.1 k = σ.1 k) : oE g ad q σ' k = oE g ad q σ k := by
  unfold oE
  by_cases h1 : k = 999
  · subst h1; simp only [if_true, xF, h]
  rw [if_neg h1, if_neg h1]
  by_cases h2 : k = 998
  · subst h2; simp only [if_true, faF, h]
  rw [if_neg h2, if_neg h2]
  by_cases h3 : k = 997
  · subst h3; simp only [if_true, txF, h]
  rw [if_neg h3, if_neg h3]
  by_cases h4 : 990 ≤ k
  · simp only [if_pos h4, imF, h]
  rw [if_neg h4, if_neg h4]
  by_cases h5 : k = 9
  · subst h5; simp only [if_true, h]
  rw [if_neg h5, if_neg h5]
  repeat' split
  all_goals first | rfl | rw [h]
theorem dE_eq {g : gG} {ad : Nat → Nat} {σ σ' : cS} {k : Nat} (h : σ'.1 k = σ.1 k) (h2 : σ'.2 k = σ.2 k) (hk : 999 ≤ k) : dE g ad σ' k = dE g ad σ k := by
  by_cases h9 : k % 1000 = 999
  · rw [dE_o h9, dE_o h9, dF_eq (σ := σ)]
    rw [show k - 999 + 999 = k by omega]
    exact h
  · exact dE_ne h9 h h2
theorem xE_eq {g : gG} {ad : Nat → Nat} {q : xR} {σ σ' : cS} {k : Nat} (h : σ'.1 k = σ.1 k) (h2 : σ'.2 k = σ.2 k) : xE g ad q σ' k = xE g ad q σ k := by
  by_cases hk : 1000 ≤ k
  · rw [xE_d hk, xE_d hk]; exact dE_eq h h2 (by omega)
  · rw [xE_o (by omega), xE_o (by omega)]; exact oE_eq h
/-- a store into an array or a field: the cell of its block alone is another -/
theorem xE_up {g : gG} {ad : Nat → Nat} {q : xR} {σ σ' : cS} {k : Nat} {e : va_E} (h : ∀ j, j ≠ k → σ'.1 j = σ.1 j ∧ σ'.2 j = σ.2 j) (he : xE g ad q σ' k = e) (j : Nat) : xE g ad q σ' j = va_up (xE g ad q σ) k e j := by
  by_cases hj : j = k
  · subst hj; rw [he]; simp [va_up]
  · rw [show va_up (xE g ad q σ) k e j = xE g ad q σ j by simp [va_up, hj]]
    exact xE_eq (h j hj).1 (h j hj).2
theorem si_ne {σ : cS} {k i : Nat} {v : Int32} (j : Nat) (h : j ≠ k) : (si σ k i v).1 j = σ.1 j ∧ (si σ k i v).2 j = σ.2 j := ⟨by simp [si, va_up, h], rfl⟩
theorem sA_ne {σ : cS} {k : Nat} {f : Nat → Int32} (j : Nat) (h : j ≠ k) : (sA σ k f).1 j = σ.1 j ∧ (sA σ k f).2 j = σ.2 j := ⟨by simp [sA, va_up, h], rfl⟩
/-! a Dough's chunk, seen as a world of its own -/
def vw (σ : cS) (b : Nat) : cS := (fun j => σ.1 (b + j), fun j => σ.2 (b + j))
def pb (σ : cS) (b : Nat) (δ : cS) : cS := (fun k => if b ≤ k ∧ k < b + 1000 then δ.1 (k - b) else σ.1 k, fun k => if b ≤ k ∧ k < b + 1000 then δ.2 (k - b) else σ.2 k)
theorem dE_vw {g : gG} {ad : Nat → Nat} {σ : cS} {b k : Nat} (hb : b % 1000 = 0) (hk : k < 1000) : dE g (fun j => ad (b + j)) (vw σ b) k = dE g ad σ (b + k) := by
  unfold dE
  rw [show (b + k) % 1000 = k % 1000 by omega]
  by_cases h9 : k % 1000 = 999
  · have : k = 999 := by omega
    subst this
    simp [dF, vw]
  · rw [if_neg h9, if_neg h9]
    rfl
theorem dIds_lt : ∀ k ∈ dIds, k < 1000 := by decide +kernel
theorem dE_eq' {g : gG} {ad : Nat → Nat} {σ σ' : cS} {k : Nat} (hk : k < 1000) (h : σ'.1 k = σ.1 k) (h2 : σ'.2 k = σ.2 k) : dE g ad σ' k = dE g ad σ k := by
  by_cases h9 : k % 1000 = 999
  · have : k = 999 := by omega
    subst this
    rw [dE_o rfl, dE_o rfl, dF_eq (σ := σ)]
    exact h
  · exact dE_ne h9 h h2
theorem dE_eq2 {g : gG} {ad : Nat → Nat} {σ σ' : cS} {k : Nat} (hk : k < 2000) (h : σ'.1 k = σ.1 k) (h2 : σ'.2 k = σ.2 k) : dE g ad σ' k = dE g ad σ k := by
  by_cases h9 : k % 1000 = 999
  · rw [dE_o h9, dE_o h9, dF_eq (σ := σ)]
    rw [show k - 999 + 999 = k by omega]
    exact h
  · exact dE_ne h9 h h2
theorem ch_at {b j : Nat} (h : j ∈ ch b) : b ≤ j ∧ j < b + 1000 ∧ j - b ∈ dIds := by
  obtain ⟨k, hk, rfl⟩ := List.mem_map.mp h
  have := dIds_lt k hk
  exact ⟨by omega, by omega, by rw [show b + k - b = k by omega]; exact hk⟩
theorem Sub.chunk {g : gG} {A : Nat → Prop} {ids : List Nat} {ad : Nat → Nat} {q : xR} {σ δ : cS} {b : Nat} (hI : wI A ids ad) (hb : b % 1000 = 0) (hb0 : 1000 ≤ b) (h1 : ∀ k ∈ dIds, b + k ∈ ids) (h2 : ∀ j ∈ ids, b ≤ j → j < b + 1000 → j - b ∈ dIds) :
    Sub ids ad (xE g ad q σ) (xE g ad q (pb σ b δ)) dIds (fun j => ad (b + j)) (dE g (fun j => ad (b + j)) (vw σ b)) (dE g (fun j => ad (b + j)) δ) := by
  refine ⟨fun k hk => ⟨b + k, h1 k hk, rfl, by rw [xE_d (by omega), dE_vw hb (dIds_lt k hk)]⟩, fun j hj => ?_⟩
  by_cases hr : b ≤ j ∧ j < b + 1000
  · refine Or.inl ⟨j - b, h2 j hj hr.1 hr.2, by show ad j = ad (b + (j - b)); rw [show b + (j - b) = j by omega], ?_⟩
    have e := dE_vw (g := g) (ad := ad) (σ := pb σ b δ) (k := j - b) hb (by omega)
    rw [show b + (j - b) = j by omega] at e
    rw [xE_d (by omega), ← e]
    have hlt : j - b < 1000 := by omega
    refine (dE_eq' hlt ?_ ?_).symm
    · simp only [vw, pb]; rw [if_pos (by omega)]; rw [show b + (j - b) - b = j - b by omega]
    · simp only [vw, pb]; rw [if_pos (by omega)]; rw [show b + (j - b) - b = j - b by omega]
  · refine Or.inr ⟨xE_eq (by simp only [pb]; rw [if_neg hr]) (by simp only [pb]; rw [if_neg hr]), fun k hk e => hr ?_⟩
    have := hI.1 j (b + k) hj (h1 k hk) e
    have := dIds_lt k hk
    omega
def vw2 (σ : cS) (b c : Nat) : cS := (fun j => if j < 1000 then σ.1 (b + j) else σ.1 (c + (j - 1000)), fun j => if j < 1000 then σ.2 (b + j) else σ.2 (c + (j - 1000)))
def pb2 (σ : cS) (b c : Nat) (δ : cS) : cS := pb (pb σ b (vw δ 0)) c (vw δ 1000)
def ad2_ (ad : Nat → Nat) (b c : Nat) : Nat → Nat := fun j => if j < 1000 then ad (b + j) else ad (c + (j - 1000))
theorem eIds_at : ∀ k ∈ eIds, (k < 1000 ∧ k ∈ dIds) ∨ (1000 ≤ k ∧ k - 1000 ∈ dIds) := by decide +kernel
theorem eIds_of : ∀ k ∈ dIds, k ∈ eIds ∧ 1000 + k ∈ eIds := by decide +kernel
theorem dE_vw2 {g : gG} {ad : Nat → Nat} {σ : cS} {b c k : Nat} (hb : b % 1000 = 0) (hc : c % 1000 = 0) (hk : k < 2000) : dE g (ad2_ ad b c) (vw2 σ b c) k = if k < 1000 then dE g ad σ (b + k) else dE g ad σ (c + (k - 1000)) := by
  by_cases h : k < 1000
  · rw [if_pos h]
    unfold dE
    rw [show (b + k) % 1000 = k % 1000 by omega]
    by_cases h9 : k % 1000 = 999
    · have : k = 999 := by omega
      subst this
      simp [dF, vw2, ad2_]
    · rw [if_neg h9, if_neg h9]
      simp [vw2, h]
  · rw [if_neg h]
    unfold dE
    rw [show (c + (k - 1000)) % 1000 = k % 1000 by omega]
    by_cases h9 : k % 1000 = 999
    · have : k = 1999 := by omega
      subst this
      simp [dF, vw2, ad2_]
    · rw [if_neg h9, if_neg h9]
      simp [vw2, h]
theorem Sub.chunk2 {g : gG} {A : Nat → Prop} {ids : List Nat} {ad : Nat → Nat} {q : xR} {σ δ : cS} {b c : Nat} (hI : wI A ids ad) (hb : b % 1000 = 0) (hc : c % 1000 = 0) (hbc : b ≠ c) (hb0 : 1000 ≤ b) (hc0 : 1000 ≤ c) (h1 : ∀ k ∈ dIds, b + k ∈ ids ∧ c + k ∈ ids) (h2 : ∀ j ∈ ids, b ≤ j → j < b + 1000 → j - b ∈ dIds) (h3 : ∀ j ∈ ids, c ≤ j → j < c + 1000 → j - c ∈ dIds) :
    Sub ids ad (xE g ad q σ) (xE g ad q (pb2 σ b c δ)) eIds (ad2_ ad b c) (dE g (ad2_ ad b c) (vw2 σ b c)) (dE g (ad2_ ad b c) δ) := by
  refine ⟨fun k hk => ?_, fun j hj => ?_⟩
  · rcases eIds_at k hk with ⟨hl, hd⟩ | ⟨hl, hd⟩
    · exact ⟨b + k, (h1 k hd).1, by simp [ad2_, hl], by rw [xE_d (by omega), dE_vw2 hb hc (by omega), if_pos hl]⟩
    · have := dIds_lt _ hd
      exact ⟨c + (k - 1000), (h1 _ hd).2, by simp [ad2_, show ¬ k < 1000 by omega], by rw [xE_d (by omega), dE_vw2 hb hc (by omega), if_neg (by omega)]⟩
  · by_cases hr : b ≤ j ∧ j < b + 1000
    · have hd := h2 j hj hr.1 hr.2
      refine Or.inl ⟨j - b, (eIds_of _ hd).1, by simp [ad2_, show j - b < 1000 by omega, show b + (j - b) = j by omega], ?_⟩
      have e := dE_vw2 (g := g) (ad := ad) (σ := pb2 σ b c δ) (k := j - b) hb hc (by omega)
      rw [if_pos (by omega), show b + (j - b) = j by omega] at e
      rw [xE_d (by omega), ← e]
      refine (dE_eq2 (by omega) ?_ ?_).symm
      · simp only [vw2, pb2, pb, vw]; rw [if_pos (by omega), if_neg (by omega), if_pos (by omega), show 0 + (b + (j - b) - b) = j - b by omega]
      · simp only [vw2, pb2, pb, vw]; rw [if_pos (by omega), if_neg (by omega), if_pos (by omega), show 0 + (b + (j - b) - b) = j - b by omega]
    · by_cases hr2 : c ≤ j ∧ j < c + 1000
      · have hd := h3 j hj hr2.1 hr2.2
        refine Or.inl ⟨1000 + (j - c), (eIds_of _ hd).2, by simp [ad2_, show ¬ 1000 + (j - c) < 1000 by omega, show c + (j - c) = j by omega], ?_⟩
        have e := dE_vw2 (g := g) (ad := ad) (σ := pb2 σ b c δ) (k := 1000 + (j - c)) hb hc (by omega)
        rw [if_neg (by omega), show c + (1000 + (j - c) - 1000) = j by omega] at e
        rw [xE_d (by omega), ← e]
        refine (dE_eq2 (by omega) ?_ ?_).symm
        · simp only [vw2, pb2, pb, vw]; rw [if_neg (by omega), if_pos (by omega), show 1000 + (c + (1000 + (j - c) - 1000) - c) = 1000 + (j - c) by omega]
        · simp only [vw2, pb2, pb, vw]; rw [if_neg (by omega), if_pos (by omega), show 1000 + (c + (1000 + (j - c) - 1000) - c) = 1000 + (j - c) by omega]
      · refine Or.inr ⟨xE_eq (by simp only [pb2, pb]; rw [if_neg hr2, if_neg hr]) (by simp only [pb2, pb]; rw [if_neg hr2, if_neg hr]), fun k hk e => ?_⟩
        rcases eIds_at k hk with ⟨hl, hd⟩ | ⟨hl, hd⟩
        · rw [show ad2_ ad b c k = ad (b + k) by simp [ad2_, hl]] at e
          have := hI.1 j (b + k) hj (h1 _ hd).1 e
          omega
        · rw [show ad2_ ad b c k = ad (c + (k - 1000)) by simp [ad2_, show ¬ k < 1000 by omega]] at e
          have := hI.1 j (c + (k - 1000)) hj (h1 _ hd).2 e
          have := dIds_lt _ hd
          omega
theorem wI_chunk {A : Nat → Prop} {ids : List Nat} {ad : Nat → Nat} {b : Nat} (hI : wI A ids ad) (h1 : ∀ k ∈ dIds, b + k ∈ ids) : dI_ (fun j => ad (b + j)) := ⟨fun i j hi hj e => by have := hI.1 (b + i) (b + j) (h1 i hi) (h1 j hj) e; omega, fun _ _ => trivial⟩
theorem wI_chunk2 {A : Nat → Prop} {ids : List Nat} {ad : Nat → Nat} {b c : Nat} (hI : wI A ids ad) (hbc : b ≠ c) (hb : b % 1000 = 0) (hc : c % 1000 = 0) (h1 : ∀ k ∈ dIds, b + k ∈ ids ∧ c + k ∈ ids) : eI_ (ad2_ ad b c) := by
  have key : ∀ k ∈ eIds, ∃ k' ∈ ids, ad2_ ad b c k = ad k' ∧ ((k < 1000 ∧ k' = b + k) ∨ (1000 ≤ k ∧ k < 2000 ∧ k' = c + (k - 1000))) := by
    intro k hk
    rcases eIds_at k hk with ⟨hl, hd⟩ | ⟨hl, hd⟩
    · exact ⟨b + k, (h1 _ hd).1, by simp [ad2_, hl], Or.inl ⟨hl, rfl⟩⟩
    · have := dIds_lt _ hd
      exact ⟨c + (k - 1000), (h1 _ hd).2, by simp [ad2_, show ¬ k < 1000 by omega], Or.inr ⟨hl, by omega, rfl⟩⟩
  refine ⟨fun i j hi hj e => ?_, fun _ _ => trivial⟩
  obtain ⟨i', hi', e1, q1⟩ := key i hi
  obtain ⟨j', hj', e2, q2⟩ := key j hj
  have := hI.1 i' j' hi' hj' (by rw [← e1, ← e2]; exact e)
  omega
theorem ch_in (b : Nat) (hb : b ∈ [1000, 2000, 3000, 4000, 5000, 6000, 7000, 8000, 9000]) : (∀ k ∈ dIds, b + k ∈ xIds) ∧ (∀ j ∈ xIds, b ≤ j → j < b + 1000 → j - b ∈ dIds) := by
  have h : ∀ b ∈ [1000, 2000, 3000, 4000, 5000, 6000, 7000, 8000, 9000], (∀ k ∈ dIds, b + k ∈ xIds) ∧ (∀ j ∈ xIds, b ≤ j → j < b + 1000 → j - b ∈ dIds) := by decide +kernel
  exact h b hb
abbrev xI_ (ad : Nat → Nat) : Prop := wI (fun _ => True) xIds ad
