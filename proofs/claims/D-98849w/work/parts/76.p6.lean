/-! PURE LAW: the model's images, all of a strip, what the law's two sides have in common -/
set_option maxRecDepth 100000
def offI (b : Nat) : Nat := if b = 1 then 0 else if b = 2 then 9 else if b = 3 then 19 else if b = 4 then 29 else if b = 9 then 39 else if b = 50 then 47 else if b = 5 then 48 else if b = 6 then 148 else if b = 7 then 156 else if b = 8 then 164 else if b = 10 then 172 else if b = 11 then 180 else if b = 12 then 188 else if b = 13 then 198 else if b = 14 then 208 else if b = 15 then 218 else if b = 16 then 228 else 229
def rdI (σ : cS) (b i : Nat) : Int32 := if b = 50 then σ.1 999 51 else σ.1 b i
def Fq (σ : cS) (a n : Nat) (S : List Nat) (z : cS) : Prop := z.1 999 66 = nI (a + n) ∧ z.1 999 67 = 0 ∧ (∀ i, i ≠ 66 → i ≠ 67 → z.1 999 i = σ.1 999 i) ∧ (∀ k, k ≠ 64 → k ≠ 999 → k ≠ 50 → z.1 k = σ.1 k) ∧ (∀ b ∈ S, ∀ i, i < (mK b).2 → z.1 64 (a + offI b + i) = rdI σ b i) ∧ ∀ i, ¬ (a ≤ i ∧ i < a + n) → z.1 64 i = σ.1 64 i
theorem of_carry {σ z : cS} {a n N b : Nat} {S : List Nat} (h : Fq σ a n S z) (hN : (mK b).2 = N) (ho : offI b = n) (ha : a + n + N ≤ 5500) (hb : b ≠ 64 ∧ b ≠ 999 ∧ b ≠ 50) (hS : ∀ b' ∈ S, offI b' + (mK b').2 ≤ n) : OO (m_carryRow z b) (Fq σ a (n + N) (b :: S)) := by
  obtain ⟨h1, h2, h3, h4, h5, h6⟩ := h
  refine OO.mono (om_carry hN (a := a + n) ha h1 h2 ⟨hb.1, hb.2.1⟩) (fun w ⟨q1, q2, q3, q4⟩ => ⟨by rw [q1, Nat.add_assoc], by rw [q2 67 (by decide)]; exact h2, fun i i1 i2 => by rw [q2 i i1]; exact h3 i i1 i2, fun k k1 k2 k3 => by rw [q3 k k1 k2]; exact h4 k k1 k2 k3, fun b' hb' i hi => ?_, fun i hi => ?_⟩)
  · rw [q4]
    rcases List.mem_cons.mp hb' with e | e
    · subst e
      rw [if_pos (by omega), h4 b' hb.1 hb.2.1 hb.2.2, ho, show a + n + i - (a + n) = i by omega]
      unfold rdI
      rw [if_neg hb.2.2]
    · have := hS b' e
      rw [if_neg (by omega)]
      exact h5 b' e i hi
  · rw [q4, if_neg (by omega)]
    exact h6 i (by omega)
theorem of_ring {σ z : cS} {a n : Nat} {S : List Nat} (h : Fq σ a n S z) (hn : n = 47) (ha : a + 48 ≤ 5500) (hS : ∀ b' ∈ S, offI b' + (mK b').2 ≤ n) : OO (m_carryRow (si z 50 (ix 0) (z.1 999 51)) 50) (fun w => Fq σ a 48 (50 :: S) w ∧ w.1 50 (ix 0) = w.1 999 51) := by
  subst hn
  obtain ⟨h1, h2, h3, h4, h5, h6⟩ := h
  have e51 := h3 51 (by decide) (by decide)
  refine OO.mono (om_carry (N := 1) rfl (a := a + 47) (by omega) (by rw [si_o (by decide)]; exact h1) (by rw [si_o (by decide)]; exact h2) (by decide)) (fun w ⟨q1, q2, q3, q4⟩ => ⟨⟨by rw [q1], by rw [q2 67 (by decide), si_o (by decide)]; exact h2, fun i i1 i2 => by rw [q2 i i1, si_o (by decide)]; exact h3 i i1 i2, fun k k1 k2 k3 => by rw [q3 k k1 k2, si_o k3]; exact h4 k k1 k2 k3, fun b' hb' i hi => ?_, fun i hi => ?_⟩, ?_⟩)
  · rw [q4]
    rcases List.mem_cons.mp hb' with e | e
    · subst e
      have : i = 0 := by have : i < 1 := hi; omega
      subst this
      rw [show a + offI 50 + 0 = a + 47 from rfl, if_pos (by omega), show a + 47 - (a + 47) = 0 by omega]
      show (si z 50 0 (z.1 999 51)).1 50 0 = _
      rw [si_a]
      exact e51
    · have := hS b' e
      rw [if_neg (by omega), si_o (by decide)]
      exact h5 b' e i hi
  · rw [q4, if_neg (by omega), si_o (by decide)]
    exact h6 i (by omega)
  · rw [q3 50 (by decide) (by decide), q2 51 (by decide)]
    show (si z 50 0 (z.1 999 51)).1 50 0 = (si z 50 0 (z.1 999 51)).1 999 51
    rw [si_a, si_o (by decide)]
def imA : List Nat := [49, 16, 15, 14, 13, 12, 11, 10, 8, 7, 6, 5, 50, 9, 4, 3, 2, 1]
def imB : List Nat := [9, 4, 3, 2, 1]
theorem of_first {σ : cS} {k : Nat} : Fq σ (1100 * k) 0 [] (si (si σ 999 66 (1100 * nI k)) 999 67 0) :=
  ⟨by rw [si_p (by decide), si_a, show (1100 : Int32) = nI 1100 from rfl, pk_mul]; rfl, si_a, fun i h1 h2 => by rw [si_p h2, si_p h1], fun j h1 h2 h3 => by rw [si_o h2, si_o h2], fun _ h => absurd h List.not_mem_nil, fun i _ => by rw [si_o (by decide), si_o (by decide)]⟩
set_option maxHeartbeats 4000000 in
theorem om_image (σ : cS) {k : Nat} (hk : k < 4) : OO (m_carriesAll σ (nI k) 0) (Fq σ (1100 * k) 1029 imA) := by
  unfold m_carriesAll
  refine OO.n (OO.g rfl ?_)
  refine OO.bd (of_carry (b := 1) (N := 9) of_first rfl rfl (by omega) (by decide) (by decide)) (fun z1 q1 => ?_)
  refine OO.bd (of_carry (b := 2) (N := 10) q1 rfl rfl (by omega) (by decide) (by decide)) (fun z2 q2 => ?_)
  refine OO.bd (of_carry (b := 3) (N := 10) q2 rfl rfl (by omega) (by decide) (by decide)) (fun z3 q3 => ?_)
  refine OO.bd (of_carry (b := 4) (N := 10) q3 rfl rfl (by omega) (by decide) (by decide)) (fun z4 q4 => ?_)
  refine OO.bd (of_carry (b := 9) (N := 8) q4 rfl rfl (by omega) (by decide) (by decide)) (fun z5 q5 => ?_)
  refine OO.e (fun e => by have := (nI_eq (b := 4) (by omega) (by decide)).mp e; omega) ?_
  refine OO.bd (of_ring q5 rfl (by omega) (by decide)) (fun z6 q6 => ?_)
  rw [q6.2, si_same]
  refine OO.bd (of_carry (b := 5) (N := 100) q6.1 rfl rfl (by omega) (by decide) (by decide)) (fun z7 q7 => ?_)
  refine OO.bd (of_carry (b := 6) (N := 8) q7 rfl rfl (by omega) (by decide) (by decide)) (fun z8 q8 => ?_)
  refine OO.bd (of_carry (b := 7) (N := 8) q8 rfl rfl (by omega) (by decide) (by decide)) (fun z9 q9 => ?_)
  refine OO.bd (of_carry (b := 8) (N := 8) q9 rfl rfl (by omega) (by decide) (by decide)) (fun y1 p1 => ?_)
  refine OO.bd (of_carry (b := 10) (N := 8) p1 rfl rfl (by omega) (by decide) (by decide)) (fun y2 p2 => ?_)
  refine OO.bd (of_carry (b := 11) (N := 8) p2 rfl rfl (by omega) (by decide) (by decide)) (fun y3 p3 => ?_)
  refine OO.bd (of_carry (b := 12) (N := 10) p3 rfl rfl (by omega) (by decide) (by decide)) (fun y4 p4 => ?_)
  refine OO.bd (of_carry (b := 13) (N := 10) p4 rfl rfl (by omega) (by decide) (by decide)) (fun y5 p5 => ?_)
  refine OO.bd (of_carry (b := 14) (N := 10) p5 rfl rfl (by omega) (by decide) (by decide)) (fun y6 p6 => ?_)
  refine OO.bd (of_carry (b := 15) (N := 10) p6 rfl rfl (by omega) (by decide) (by decide)) (fun y7 p7 => ?_)
  refine OO.bd (of_carry (b := 16) (N := 1) p7 rfl rfl (by omega) (by decide) (by decide)) (fun y8 p8 => ?_)
  exact OO.bd (of_carry (b := 49) (N := 800) p8 rfl rfl (by omega) (by decide) (by decide)) (fun y9 p9 => OO.ret p9)
theorem om_keeps (σ : cS) : OO (m_keepsAll σ) (Fq σ 4400 47 imB) := by
  unfold m_keepsAll m_carriesAll
  refine OO.bd (Q := Fq σ 4400 47 imB) ?_ (fun z q => OO.ret q)
  refine OO.n (OO.g rfl ?_)
  refine OO.bd (of_carry (b := 1) (N := 9) (of_first (k := 4)) rfl rfl (by omega) (by decide) (by decide)) (fun z1 q1 => ?_)
  refine OO.bd (of_carry (b := 2) (N := 10) q1 rfl rfl (by omega) (by decide) (by decide)) (fun z2 q2 => ?_)
  refine OO.bd (of_carry (b := 3) (N := 10) q2 rfl rfl (by omega) (by decide) (by decide)) (fun z3 q3 => ?_)
  refine OO.bd (of_carry (b := 4) (N := 10) q3 rfl rfl (by omega) (by decide) (by decide)) (fun z4 q4 => ?_)
  refine OO.bd (of_carry (b := 9) (N := 8) q4 rfl rfl (by omega) (by decide) (by decide)) (fun z5 q5 => ?_)
  exact OO.t rfl (OO.ret q5)
/-- going back: the rows S are taken from the images at a -/
def Gq (σ : cS) (a n : Nat) (S : List Nat) (z : cS) : Prop := z.1 999 66 = nI (a + n) ∧ z.1 999 67 = 1 ∧ (∀ i, i ≠ 66 → i ≠ 67 → i ≠ 51 → z.1 999 i = σ.1 999 i) ∧ (50 ∉ S → z.1 999 51 = σ.1 999 51) ∧ (∀ k, k ∉ S → k ≠ 50 → k ≠ 999 → z.1 k = σ.1 k) ∧ ∀ b ∈ S, ∀ i, i < (mK b).2 → rdI z b i = σ.1 64 (a + offI b + i)
theorem og_carry {σ z : cS} {a n N b : Nat} {S : List Nat} (h : Gq σ a n S z) (hN : (mK b).2 = N) (ho : offI b = n) (ha : a + n + N ≤ 5500) (hb : b ≠ 64 ∧ b ≠ 999 ∧ b ≠ 50) (hS : b ∉ S ∧ 64 ∉ S ∧ 999 ∉ S) : OO (m_carryRow z b) (Gq σ a (n + N) (b :: S)) := by
  obtain ⟨h1, h2, h3, h4, h5, h6⟩ := h
  have e64 : z.1 64 = σ.1 64 := h5 64 hS.2.1 (by decide) (by decide)
  refine OO.mono (om_carryB hN (a := a + n) ha h1 h2 ⟨hb.1, hb.2.1⟩) (fun w ⟨q1, q2, q3, q4⟩ => ⟨by rw [q1, Nat.add_assoc], by rw [q2 67 (by decide)]; exact h2, fun i i1 i2 i3 => by rw [q2 i i1]; exact h3 i i1 i2 i3, fun hq => by rw [q2 51 (by decide)]; exact h4 (fun q => hq (List.mem_cons_of_mem _ q)), fun k k1 k2 k3 => by rw [q3 k (fun e => k1 (by rw [e]; exact List.mem_cons_self)) k3]; exact h5 k (fun q => k1 (List.mem_cons_of_mem _ q)) k2 k3, fun b' hb' i hi => ?_⟩)
  rcases List.mem_cons.mp hb' with e | e
  · subst e
    unfold rdI
    rw [if_neg hb.2.2, q4, if_pos (by omega), e64, ho]
  · have hne : b' ≠ b := fun q => hS.1 (q ▸ e)
    rw [← h6 b' e i hi]
    unfold rdI
    split
    · exact q2 51 (by decide)
    · rw [q3 b' hne (fun q => hS.2.2 (q ▸ e))]
theorem og_ring {σ z : cS} {a n : Nat} {S : List Nat} (h : Gq σ a n S z) (hn : n = 47) (ha : a + 48 ≤ 5500) (hS : 50 ∉ S ∧ 64 ∉ S ∧ 999 ∉ S) : OO (m_carryRow (si z 50 (ix 0) (z.1 999 51)) 50) (fun w => Gq σ a 48 (50 :: S) (si w 999 51 (w.1 50 (ix 0)))) := by
  subst hn
  obtain ⟨h1, h2, h3, h4, h5, h6⟩ := h
  have e64 : z.1 64 = σ.1 64 := h5 64 hS.2.1 (by decide) (by decide)
  refine OO.mono (om_carryB (N := 1) rfl (a := a + 47) (by omega) (by rw [si_o (by decide)]; exact h1) (by rw [si_o (by decide)]; exact h2) (by decide)) (fun w ⟨q1, q2, q3, q4⟩ => ?_)
  have w0 : w.1 50 (ix 0) = σ.1 64 (a + 47) := by
    rw [ix_0, q4, if_pos (by decide), si_o (by decide), e64]
  rw [w0]
  refine ⟨by rw [si_p (by decide)]; exact q1, by rw [si_p (by decide), q2 67 (by decide), si_o (by decide)]; exact h2, fun i i1 i2 i3 => by rw [si_p i3, q2 i i1, si_o (by decide)]; exact h3 i i1 i2 i3, fun hq => absurd List.mem_cons_self hq, fun k k1 k2 k3 => ?_, fun b' hb' i hi => ?_⟩
  · rw [si_o k3, q3 k k2 k3, si_o k2]
    exact h5 k (fun q => k1 (List.mem_cons_of_mem _ q)) k2 k3
  · rcases List.mem_cons.mp hb' with e | e
    · subst e
      have : i = 0 := by have : i < 1 := hi; omega
      subst this
      show (si w 999 51 (σ.1 64 (a + 47))).1 999 51 = _
      rw [si_a]
      rfl
    · have hne : b' ≠ 50 := fun q => hS.1 (q ▸ e)
      have hn9 : b' ≠ 999 := fun q => hS.2.2 (q ▸ e)
      rw [← h6 b' e i hi]
      unfold rdI
      rw [if_neg hne, if_neg hne, si_o hn9, q3 b' hne hn9, si_o hne]
theorem og_first {σ : cS} {k : Nat} : Gq σ (1100 * k) 0 [] (si (si σ 999 66 (1100 * nI k)) 999 67 1) :=
  ⟨by rw [si_p (by decide), si_a, show (1100 : Int32) = nI 1100 from rfl, pk_mul]; rfl, si_a, fun i h1 h2 h3 => by rw [si_p h2, si_p h1], fun _ => by rw [si_p (by decide), si_p (by decide)], fun j h1 h2 h3 => by rw [si_o h3, si_o h3], fun _ h => absurd h List.not_mem_nil⟩
set_option maxHeartbeats 4000000 in
theorem om_back (σ : cS) {k : Nat} (hk : k < 4) : OO (m_carriesAll σ (nI k) 1) (Gq σ (1100 * k) 1029 imA) := by
  unfold m_carriesAll
  refine OO.n (OO.g rfl ?_)
  refine OO.bd (og_carry (b := 1) (N := 9) og_first rfl rfl (by omega) (by decide) (by decide)) (fun z1 q1 => ?_)
  refine OO.bd (og_carry (b := 2) (N := 10) q1 rfl rfl (by omega) (by decide) (by decide)) (fun z2 q2 => ?_)
  refine OO.bd (og_carry (b := 3) (N := 10) q2 rfl rfl (by omega) (by decide) (by decide)) (fun z3 q3 => ?_)
  refine OO.bd (og_carry (b := 4) (N := 10) q3 rfl rfl (by omega) (by decide) (by decide)) (fun z4 q4 => ?_)
  refine OO.bd (og_carry (b := 9) (N := 8) q4 rfl rfl (by omega) (by decide) (by decide)) (fun z5 q5 => ?_)
  refine OO.e (fun e => by have := (nI_eq (b := 4) (by omega) (by decide)).mp e; omega) ?_
  refine OO.bd (og_ring q5 rfl (by omega) (by decide)) (fun z6 q6 => ?_)
  refine OO.bd (og_carry (b := 5) (N := 100) q6 rfl rfl (by omega) (by decide) (by decide)) (fun z7 q7 => ?_)
  refine OO.bd (og_carry (b := 6) (N := 8) q7 rfl rfl (by omega) (by decide) (by decide)) (fun z8 q8 => ?_)
  refine OO.bd (og_carry (b := 7) (N := 8) q8 rfl rfl (by omega) (by decide) (by decide)) (fun z9 q9 => ?_)
  refine OO.bd (og_carry (b := 8) (N := 8) q9 rfl rfl (by omega) (by decide) (by decide)) (fun y1 p1 => ?_)
  refine OO.bd (og_carry (b := 10) (N := 8) p1 rfl rfl (by omega) (by decide) (by decide)) (fun y2 p2 => ?_)
  refine OO.bd (og_carry (b := 11) (N := 8) p2 rfl rfl (by omega) (by decide) (by decide)) (fun y3 p3 => ?_)
  refine OO.bd (og_carry (b := 12) (N := 10) p3 rfl rfl (by omega) (by decide) (by decide)) (fun y4 p4 => ?_)
  refine OO.bd (og_carry (b := 13) (N := 10) p4 rfl rfl (by omega) (by decide) (by decide)) (fun y5 p5 => ?_)
  refine OO.bd (og_carry (b := 14) (N := 10) p5 rfl rfl (by omega) (by decide) (by decide)) (fun y6 p6 => ?_)
  refine OO.bd (og_carry (b := 15) (N := 10) p6 rfl rfl (by omega) (by decide) (by decide)) (fun y7 p7 => ?_)
  refine OO.bd (og_carry (b := 16) (N := 1) p7 rfl rfl (by omega) (by decide) (by decide)) (fun y8 p8 => ?_)
  exact OO.bd (og_carry (b := 49) (N := 800) p8 rfl rfl (by omega) (by decide) (by decide)) (fun y9 p9 => OO.ret p9)
theorem om_lays (σ : cS) : OO (m_laysBack σ) (Gq σ 4400 47 imB) := by
  unfold m_laysBack m_carriesAll
  refine OO.bd (Q := Gq σ 4400 47 imB) ?_ (fun z q => OO.ret q)
  refine OO.n (OO.g rfl ?_)
  refine OO.bd (og_carry (b := 1) (N := 9) (og_first (k := 4)) rfl rfl (by omega) (by decide) (by decide)) (fun z1 q1 => ?_)
  refine OO.bd (og_carry (b := 2) (N := 10) q1 rfl rfl (by omega) (by decide) (by decide)) (fun z2 q2 => ?_)
  refine OO.bd (og_carry (b := 3) (N := 10) q2 rfl rfl (by omega) (by decide) (by decide)) (fun z3 q3 => ?_)
  refine OO.bd (og_carry (b := 4) (N := 10) q3 rfl rfl (by omega) (by decide) (by decide)) (fun z4 q4 => ?_)
  refine OO.bd (og_carry (b := 9) (N := 8) q4 rfl rfl (by omega) (by decide) (by decide)) (fun z5 q5 => ?_)
  exact OO.t rfl (OO.ret q5)
