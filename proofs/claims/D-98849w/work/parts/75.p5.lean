/-! PURE LAW: the model's rows of the past, its images -/
set_option maxRecDepth 100000
/-- where a row of the model lies in a row of the past -/
def offP (b j : Nat) : Nat := if b = 1 then j - 4 else if b = 2 then 2 + j else if b = 3 then 12 + j else if b = 4 then 22 + j else 32 + j
def inP (b j : Nat) : Prop := (b = 1 ∧ (j = 4 ∨ j = 5)) ∨ (b = 2 ∧ j < 10) ∨ (b = 3 ∧ j < 10) ∨ (b = 4 ∧ j < 10) ∨ (b = 9 ∧ j < 8)
theorem rwm_at {σ : cS} {b j : Nat} (h : inP b j) : rwm σ (offP b j) = σ.1 b j := by
  rcases h with ⟨rfl, rfl | rfl⟩ | ⟨rfl, h⟩ | ⟨rfl, h⟩ | ⟨rfl, h⟩ | ⟨rfl, h⟩
  · rfl
  · rfl
  · rw [show offP 2 j = 2 + j from rfl]
    unfold rwm
    rw [if_neg (by omega), if_neg (by omega), if_pos (by omega), show 2 + j - 2 = j by omega]
  · rw [show offP 3 j = 12 + j from rfl]
    unfold rwm
    rw [if_neg (by omega), if_neg (by omega), if_neg (by omega), if_pos (by omega), show 12 + j - 12 = j by omega]
  · rw [show offP 4 j = 22 + j from rfl]
    unfold rwm
    rw [if_neg (by omega), if_neg (by omega), if_neg (by omega), if_neg (by omega), if_pos (by omega), show 22 + j - 22 = j by omega]
  · rw [show offP 9 j = 32 + j from rfl]
    unfold rwm
    rw [if_neg (by omega), if_neg (by omega), if_neg (by omega), if_neg (by omega), if_neg (by omega), show 32 + j - 32 = j by omega]
/-- laying down: the first n places of row k are σ's -/
def Mq (σ : cS) (k n : Nat) (z : cS) : Prop := z.1 999 52 = nI (40 * k + n) ∧ z.1 999 53 = 0 ∧ (∀ b, b ≠ 49 → b ≠ 999 → z.1 b = σ.1 b) ∧ (∀ i, i ≠ 52 → i ≠ 53 → z.1 999 i = σ.1 999 i) ∧ ∀ i, z.1 49 i = if 40 * k ≤ i ∧ i < 40 * k + n then rwm σ (i - 40 * k) else σ.1 49 i
/-- taking back: the first n places are taken -/
def Bq (σ : cS) (k n : Nat) (z : cS) : Prop := z.1 999 52 = nI (40 * k + n) ∧ z.1 999 53 = 1 ∧ (∀ b, b ≠ 1 → b ≠ 2 → b ≠ 3 → b ≠ 4 → b ≠ 9 → b ≠ 999 → z.1 b = σ.1 b) ∧ (∀ i, i ≠ 52 → i ≠ 53 → z.1 999 i = σ.1 999 i) ∧ (∀ i, i ≠ 4 → i ≠ 5 → z.1 1 i = σ.1 1 i) ∧ ∀ b j, inP b j → offP b j < n → z.1 b j = σ.1 49 (40 * k + offP b j)
theorem om_lay {σ z : cS} {k n : Nat} {v : Int32} (h : Mq σ k n z) (hn : n < 40) (hk : k < 20) (hv : v = rwm σ n) : OO (m_moves z v) (fun p => p.2 = v ∧ Mq σ k (n + 1) p.1) := by
  obtain ⟨h1, h2, h3, h4, h5⟩ := h
  unfold m_moves
  refine OO.b (if_pos h2) ?_
  rw [h1, ixn (by omega)]
  refine OO.g (inbn (by omega) (by decide)) (OO.n (OO.ret ⟨rfl, ?_, ?_, fun b hb hb2 => ?_, fun i h52 h53 => ?_, fun i => ?_⟩))
  · rw [si_a, si_o (by decide), h1, nI_1]; rfl
  · rw [si_p (by decide), si_o (by decide)]; exact h2
  · rw [si_o hb2, si_o hb]; exact h3 b hb hb2
  · rw [si_p h52, si_o (by decide)]; exact h4 i h52 h53
  · rw [si_o (by decide)]
    by_cases e : i = 40 * k + n
    · subst e
      rw [si_a, if_pos (by omega), show 40 * k + n - 40 * k = n by omega]
      exact hv
    · rw [si_p e, h5 i]
      by_cases c : 40 * k ≤ i ∧ i < 40 * k + n
      · rw [if_pos c, if_pos (by omega)]
      · rw [if_neg c, if_neg (by omega)]
theorem om_take {σ z : cS} {k n : Nat} {v : Int32} (h : Bq σ k n z) (hn : n < 40) (hk : k < 20) {b j : Nat} (hb : inP b j) (ho : offP b j = n) : OO (m_moves z v) (fun p => Bq σ k (n + 1) (si p.1 b j p.2)) := by
  obtain ⟨h1, h2, h3, h4, h5, h6⟩ := h
  have e49 : z.1 49 = σ.1 49 := h3 49 (by decide) (by decide) (by decide) (by decide) (by decide) (by decide)
  unfold m_moves
  rw [h1, ixn (by omega)]
  refine OO.b (a := σ.1 49 (40 * k + n)) (by rw [if_neg (by rw [h2]; decide), inbn (by omega) (by decide), e49]; rfl) ?_
  refine OO.g (inbn (by omega) (by decide)) (OO.n (OO.ret ?_))
  have hz : si z 49 (40 * k + n) (σ.1 49 (40 * k + n)) = z := by rw [← e49, si_same]
  show Bq σ k (n + 1) (si (si (si z 49 (40 * k + n) (σ.1 49 (40 * k + n))) 999 52 _) b j (σ.1 49 (40 * k + n)))
  rw [hz, h1, nI_1]
  have hb9 : b ≠ 999 := by rcases hb with ⟨rfl, -⟩ | ⟨rfl, -⟩ | ⟨rfl, -⟩ | ⟨rfl, -⟩ | ⟨rfl, -⟩ <;> decide
  refine ⟨?_, ?_, fun b' c1 c2 c3 c4 c9 c999 => ?_, fun i c1 c2 => ?_, fun i c1 c2 => ?_, fun b' j' hb' hlt => ?_⟩
  · rw [si_o (fun e => hb9 e.symm), si_a]; rfl
  · rw [si_o (fun e => hb9 e.symm), si_p (by decide)]; exact h2
  · have : b' ≠ b := by rcases hb with ⟨rfl, -⟩ | ⟨rfl, -⟩ | ⟨rfl, -⟩ | ⟨rfl, -⟩ | ⟨rfl, -⟩ <;> assumption
    rw [si_o this, si_o c999]
    exact h3 b' c1 c2 c3 c4 c9 c999
  · rw [si_o (fun e => hb9 e.symm), si_p c1]; exact h4 i c1 c2
  · by_cases e : b = 1
    · subst e
      have : i ≠ j := by rcases hb with ⟨-, rfl | rfl⟩ | ⟨q, -⟩ | ⟨q, -⟩ | ⟨q, -⟩ | ⟨q, -⟩ <;> first | assumption | exact absurd q (by decide)
      rw [si_p this, si_o (by decide)]; exact h5 i c1 c2
    · rw [si_o (fun q => e q.symm), si_o (by decide)]; exact h5 i c1 c2
  · by_cases e : b' = b ∧ j' = j
    · obtain ⟨rfl, rfl⟩ := e
      rw [si_a, ho]
    · have hne : offP b' j' ≠ n := by
        intro q
        apply e
        rw [← ho] at q
        unfold offP at q
        rcases hb with ⟨rfl, rfl | rfl⟩ | ⟨rfl, h⟩ | ⟨rfl, h⟩ | ⟨rfl, h⟩ | ⟨rfl, h⟩ <;> rcases hb' with ⟨rfl, rfl | rfl⟩ | ⟨rfl, h'⟩ | ⟨rfl, h'⟩ | ⟨rfl, h'⟩ | ⟨rfl, h'⟩ <;> simp at q ⊢ <;> omega
      have hb'9 : b' ≠ 999 := by rcases hb' with ⟨rfl, -⟩ | ⟨rfl, -⟩ | ⟨rfl, -⟩ | ⟨rfl, -⟩ | ⟨rfl, -⟩ <;> decide
      have hz2 : (si (si z 999 52 (nI (40 * k + n + 1))) b j (σ.1 49 (40 * k + n))).1 b' j' = z.1 b' j' := by
        by_cases eb : b' = b
        · subst eb
          rw [si_p (fun q => e ⟨rfl, q⟩), si_o hb'9]
        · rw [si_o eb, si_o hb'9]
      rw [hz2]
      exact h6 b' j' hb' (by omega)
theorem om_layRow {σ z : cS} {k n b N : Nat} (h : Mq σ k n z) (hN : (mK b).2 = N) (hnN : n + N ≤ 40) (hk : k < 20) (hb : b ≠ 49 ∧ b ≠ 999) (hP : ∀ j, j < N → inP b j ∧ offP b j = n + j) : OO (m_movesRow z b) (Mq σ k (n + N)) := by
  unfold m_movesRow
  refine OO.loop (L := fun n s i => m_movesRow_2 b (fun s => some s) n s i) (I := fun j a => Mq σ k (n + j) a) (N := N) ?_ ?_ N 0 (by omega) FU (FU_gt (by omega)) z h
  · intro n' j a hj hI kk
    show OO (m_movesRow_2 b _ (n' + 1) a (nI j)) _
    rw [m_movesRow_2, hN, nI_1]
    refine OO.e (nI_ge hj (by omega)) (OO.g (inbn hj (by omega)) ?_)
    rw [ixn (by omega)]
    have ev : a.1 b j = rwm σ (n + j) := by
      rw [hI.2.2.1 b hb.1 hb.2, ← (hP j hj).2, rwm_at (hP j hj).1]
    refine OO.bd (om_lay hI (by omega) hk ev) ?_
    rintro ⟨p1, p2⟩ ⟨q1, q2⟩
    dsimp only at q1 q2
    have es : si p1 b j p2 = p1 := by
      rw [q1, ev, ← (hP j hj).2, rwm_at (hP j hj).1, ← q2.2.2.1 b hb.1 hb.2, si_same]
    show OO (m_movesRow_2 b _ n' (si p1 b j p2) (nI (j + 1))) _
    rw [es]
    exact kk p1 q2
  · intro n' a hI
    show OO (m_movesRow_2 b _ (n' + 1) a (nI N)) _
    rw [m_movesRow_2, hN]
    exact OO.t (nI_le (Nat.le_refl _) (by omega)) (OO.ret hI)
theorem om_takeRow {σ z : cS} {k n b N : Nat} (h : Bq σ k n z) (hN : (mK b).2 = N) (hnN : n + N ≤ 40) (hk : k < 20) (hP : ∀ j, j < N → inP b j ∧ offP b j = n + j) : OO (m_movesRow z b) (Bq σ k (n + N)) := by
  unfold m_movesRow
  refine OO.loop (L := fun n s i => m_movesRow_2 b (fun s => some s) n s i) (I := fun j a => Bq σ k (n + j) a) (N := N) ?_ ?_ N 0 (by omega) FU (FU_gt (by omega)) z h
  · intro n' j a hj hI kk
    show OO (m_movesRow_2 b _ (n' + 1) a (nI j)) _
    rw [m_movesRow_2, hN, nI_1]
    refine OO.e (nI_ge hj (by omega)) (OO.g (inbn hj (by omega)) ?_)
    rw [ixn (by omega)]
    refine OO.bd (om_take hI (by omega) hk (hP j hj).1 (hP j hj).2) ?_
    rintro ⟨p1, p2⟩ q
    exact kk _ q
  · intro n' a hI
    show OO (m_movesRow_2 b _ (n' + 1) a (nI N)) _
    rw [m_movesRow_2, hN]
    exact OO.t (nI_le (Nat.le_refl _) (by omega)) (OO.ret hI)
theorem om_layAll (σ : cS) {k : Nat} (hk : k < 20) : OO (m_movesAll σ (nI k) 0) (Mq σ k 40) := by
  unfold m_movesAll
  refine OO.n (OO.g rfl ?_)
  have h0 : Mq σ k 0 (si (si σ 999 52 (40 * nI k)) 999 53 0) := by
    refine ⟨by rw [si_p (by decide), si_a]; exact at_row0, si_a, fun b hb hb2 => by rw [si_o hb2, si_o hb2], fun i h1 h2 => by rw [si_p h2, si_p h1], fun i => ?_⟩
    rw [if_neg (by omega), si_o (by decide), si_o (by decide)]
  refine OO.bd (om_lay (n := 0) h0 (by decide) hk (by rw [si_o (by decide), si_o (by decide)]; rfl)) ?_
  rintro ⟨a1, v1⟩ ⟨e1, q1⟩
  dsimp only at e1 q1
  have s1 : si a1 1 (ix 4) v1 = a1 := by
    rw [e1, si_o (by decide), si_o (by decide), ← q1.2.2.1 1 (by decide) (by decide)]
    exact si_same
  show OO (((m_moves (si a1 1 (ix 4) v1) ((si a1 1 (ix 4) v1).1 1 (ix 5)))).bind _) _
  rw [s1]
  refine OO.bd (om_lay q1 (by decide) hk (by rw [q1.2.2.1 1 (by decide) (by decide)]; rfl)) ?_
  rintro ⟨a2, v2⟩ ⟨e2, q2⟩
  dsimp only at e2 q2
  have s2 : si a2 1 (ix 5) v2 = a2 := by
    rw [e2, q1.2.2.1 1 (by decide) (by decide), ← q2.2.2.1 1 (by decide) (by decide)]
    exact si_same
  show OO ((m_movesRow (si a2 1 (ix 5) v2) 2).bind _) _
  rw [s2]
  refine OO.bd (om_layRow (N := 10) q2 rfl (by decide) hk (by decide) (fun j hj => ⟨by unfold inP; omega, by unfold offP; rw [if_neg (by decide), if_pos rfl]⟩)) (fun a3 q3 => ?_)
  refine OO.bd (om_layRow (N := 10) q3 rfl (by decide) hk (by decide) (fun j hj => ⟨by unfold inP; omega, by unfold offP; rw [if_neg (by decide), if_neg (by decide), if_pos rfl]⟩)) (fun a4 q4 => ?_)
  refine OO.bd (om_layRow (N := 10) q4 rfl (by decide) hk (by decide) (fun j hj => ⟨by unfold inP; omega, by unfold offP; rw [if_neg (by decide), if_neg (by decide), if_neg (by decide), if_pos rfl]⟩)) (fun a5 q5 => ?_)
  exact OO.bd (om_layRow (N := 8) q5 rfl (by decide) hk (by decide) (fun j hj => ⟨by unfold inP; omega, by unfold offP; rw [if_neg (by decide), if_neg (by decide), if_neg (by decide), if_neg (by decide)]⟩)) (fun a6 q6 => OO.ret q6)
theorem om_takeAll (σ : cS) {k : Nat} (hk : k < 20) : OO (m_movesAll σ (nI k) 1) (Bq σ k 40) := by
  unfold m_movesAll
  refine OO.n (OO.g rfl ?_)
  have h0 : Bq σ k 0 (si (si σ 999 52 (40 * nI k)) 999 53 1) := by
    refine ⟨by rw [si_p (by decide), si_a]; exact at_row0, si_a, fun b _ _ _ _ _ hb => by rw [si_o hb, si_o hb], fun i h1 h2 => by rw [si_p h2, si_p h1], fun i _ _ => by rw [si_o (by decide), si_o (by decide)], fun b j _ h => absurd h (by omega)⟩
  refine OO.bd (om_take (n := 0) (b := 1) (j := 4) h0 (by decide) hk (by unfold inP; omega) rfl) ?_
  rintro ⟨a1, v1⟩ q1
  refine OO.bd (om_take (n := 1) (b := 1) (j := 5) q1 (by decide) hk (by unfold inP; omega) rfl) ?_
  rintro ⟨a2, v2⟩ q2
  refine OO.bd (om_takeRow (N := 10) q2 rfl (by decide) hk (fun j hj => ⟨by unfold inP; omega, by unfold offP; rw [if_neg (by decide), if_pos rfl]⟩)) (fun a3 q3 => ?_)
  refine OO.bd (om_takeRow (N := 10) q3 rfl (by decide) hk (fun j hj => ⟨by unfold inP; omega, by unfold offP; rw [if_neg (by decide), if_neg (by decide), if_pos rfl]⟩)) (fun a4 q4 => ?_)
  refine OO.bd (om_takeRow (N := 10) q4 rfl (by decide) hk (fun j hj => ⟨by unfold inP; omega, by unfold offP; rw [if_neg (by decide), if_neg (by decide), if_neg (by decide), if_pos rfl]⟩)) (fun a5 q5 => ?_)
  exact OO.bd (om_takeRow (N := 8) q5 rfl (by decide) hk (fun j hj => ⟨by unfold inP; omega, by unfold offP; rw [if_neg (by decide), if_neg (by decide), if_neg (by decide), if_neg (by decide)]⟩)) (fun a6 q6 => OO.ret q6)
/-! images -/
/-- carrying a row into the images, n of it done -/
def Cf (σ : cS) (a b n : Nat) (z : cS) : Prop := z.1 999 66 = nI (a + n) ∧ (∀ i, i ≠ 66 → z.1 999 i = σ.1 999 i) ∧ (∀ k, k ≠ 64 → k ≠ 999 → z.1 k = σ.1 k) ∧ ∀ i, z.1 64 i = if a ≤ i ∧ i < a + n then σ.1 b (i - a) else σ.1 64 i
/-- carrying a row back -/
def Cb (σ : cS) (a b n : Nat) (z : cS) : Prop := z.1 999 66 = nI (a + n) ∧ (∀ i, i ≠ 66 → z.1 999 i = σ.1 999 i) ∧ (∀ k, k ≠ b → k ≠ 999 → z.1 k = σ.1 k) ∧ ∀ i, z.1 b i = if i < n then σ.1 64 (a + i) else σ.1 b i
theorem om_carry {σ : cS} {a b N : Nat} (hN : (mK b).2 = N) (ha : a + N ≤ 5500) (h66 : σ.1 999 66 = nI a) (h67 : σ.1 999 67 = 0) (hb : b ≠ 64 ∧ b ≠ 999) : OO (m_carryRow σ b) (Cf σ a b N) := by
  unfold m_carryRow
  refine OO.loop (L := fun n s i => m_carryRow_2 b (fun s => some s) n s i) (I := fun j z => Cf σ a b j z) (N := N) ?_ ?_ N 0 (by omega) FU (FU_gt (by omega)) σ ⟨h66, fun _ _ => rfl, fun _ _ _ => rfl, fun i => (if_neg (by omega)).symm⟩
  · intro n' j z hj ⟨q1, q2, q3, q4⟩ kk
    show OO (m_carryRow_2 b _ (n' + 1) z (nI j)) _
    rw [m_carryRow_2, hN, nI_1, q1, ixn (by omega), ixn (by omega)]
    refine OO.e (nI_ge hj (by omega)) ?_
    refine OO.b (a := si z 64 (a + j) (z.1 b j)) (by rw [if_pos (by rw [q2 67 (by decide)]; exact h67), inbn hj (by omega), inbn (by omega) (by decide)]; rfl) ?_
    refine kk _ ⟨?_, fun i hi => ?_, fun k h1 h2 => ?_, fun i => ?_⟩
    · rw [si_a, si_o (by decide), q1, nI_1]; rfl
    · rw [si_p hi, si_o (by decide)]; exact q2 i hi
    · rw [si_o h2, si_o h1]; exact q3 k h1 h2
    · rw [si_o (by decide)]
      by_cases e : i = a + j
      · subst e
        rw [si_a, if_pos (by omega), q3 b hb.1 hb.2, show a + j - a = j by omega]
      · rw [si_p e, q4 i]
        by_cases c : a ≤ i ∧ i < a + j
        · rw [if_pos c, if_pos (by omega)]
        · rw [if_neg c, if_neg (by omega)]
  · intro n' z hI
    show OO (m_carryRow_2 b _ (n' + 1) z (nI N)) _
    rw [m_carryRow_2, hN]
    exact OO.t (nI_le (Nat.le_refl _) (by omega)) (OO.ret hI)
theorem om_carryB {σ : cS} {a b N : Nat} (hN : (mK b).2 = N) (ha : a + N ≤ 5500) (h66 : σ.1 999 66 = nI a) (h67 : σ.1 999 67 = 1) (hb : b ≠ 64 ∧ b ≠ 999) : OO (m_carryRow σ b) (Cb σ a b N) := by
  unfold m_carryRow
  refine OO.loop (L := fun n s i => m_carryRow_2 b (fun s => some s) n s i) (I := fun j z => Cb σ a b j z) (N := N) ?_ ?_ N 0 (by omega) FU (FU_gt (by omega)) σ ⟨h66, fun _ _ => rfl, fun _ _ _ => rfl, fun i => (if_neg (by omega)).symm⟩
  · intro n' j z hj ⟨q1, q2, q3, q4⟩ kk
    show OO (m_carryRow_2 b _ (n' + 1) z (nI j)) _
    rw [m_carryRow_2, hN, nI_1, q1, ixn (by omega), ixn (by omega)]
    refine OO.e (nI_ge hj (by omega)) ?_
    refine OO.b (a := si z b j (z.1 64 (a + j))) (by rw [if_neg (by rw [q2 67 (by decide), h67]; decide), inbn hj (by omega), inbn (by omega) (by decide)]; rfl) ?_
    refine kk _ ⟨?_, fun i hi => ?_, fun k h1 h2 => ?_, fun i => ?_⟩
    · rw [si_a, si_o (fun e => hb.2 e.symm), q1, nI_1]; rfl
    · rw [si_p hi, si_o (fun e => hb.2 e.symm)]; exact q2 i hi
    · rw [si_o h2, si_o h1]; exact q3 k h1 h2
    · rw [si_o hb.2]
      by_cases e : i = j
      · subst e
        rw [si_a, if_pos (by omega), q3 64 (fun e => hb.1 e.symm) (by decide)]
      · rw [si_p e, q4 i]
        by_cases c : i < j
        · rw [if_pos c, if_pos (by omega)]
        · rw [if_neg c, if_neg (by omega)]
  · intro n' z hI
    show OO (m_carryRow_2 b _ (n' + 1) z (nI N)) _
    rw [m_carryRow_2, hN]
    exact OO.t (nI_le (Nat.le_refl _) (by omega)) (OO.ret hI)
