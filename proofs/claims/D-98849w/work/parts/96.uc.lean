/-! PURE LAW: the rule that was read is the model's -/
set_option maxRecDepth 100000
section UH
variable {B : Nat → Int32} {tp p p' q w k r dx dm dm' cn cn0 e e0 e1 e2 o o1 op s n n1 N j : Nat} {σ β σ' β' σx σm a b y z a' b' b1 τ : cS} {lo hi M v c : Int32} {φ ψ : Wds → Int32}
theorem m_held_lim (x : Int64) : m_held x 3 = some (lim3 x) := by
  unfold m_held lim3 jmaxL jminL
  show (if 0 ≤ lg_cmp x (-3) then (if lg_cmp x 3 ≤ 0 then some x.toInt32 else some 3) else some (-3)) = _
  rw [ifc (lc_ge x (-3)), ifc (lc_le x 3)]
  have t3 : (3 : Int64).toInt = 3 := by decide
  have tm : (-3 : Int64).toInt = -3 := by decide
  by_cases h1 : -3 ≤ x
  · rw [if_pos h1]
    rw [Int64.le_iff_toInt_le, tm] at h1
    by_cases h2 : x ≤ 3
    · rw [if_pos h2]
      rw [Int64.le_iff_toInt_le, t3] at h2
      by_cases h3 : x < 3
      · rw [if_pos h3]
        by_cases h4 : x < -3
        · rw [Int64.lt_iff_toInt_lt, tm] at h4; omega
        · rw [if_neg h4]
      · rw [if_neg h3]
        have e : x = 3 := by
          rw [Int64.lt_iff_toInt_lt, t3] at h3
          exact Int64.toInt_inj.mp (by omega)
        subst e
        rfl
    · rw [if_neg h2]
      rw [Int64.le_iff_toInt_le, t3] at h2
      rw [if_neg (by rw [Int64.lt_iff_toInt_lt, t3]; omega : ¬ x < 3)]
      rfl
  · rw [if_neg h1]
    rw [Int64.le_iff_toInt_le, tm] at h1
    rw [if_pos (by rw [Int64.lt_iff_toInt_lt, t3]; omega : x < 3), if_pos (by rw [Int64.lt_iff_toInt_lt, tm]; omega : x < -3)]
    rfl
theorem tru_1 (x : Int32) : lg_cmp (tru x) 1 = 0 ↔ x ≠ 0 := by
  rw [lc_eq]
  unfold tru
  by_cases h : x = 0
  · rw [if_pos h]
    exact ⟨fun q => absurd q (by decide), fun q => absurd h q⟩
  · rw [if_neg h]
    exact ⟨fun _ => h, fun _ => rfl⟩
/-- what entries answer, asked -/
theorem m_answer_ev {V : Wds → Int64} {ws : Wds} (h : Ev r σ e1 e2 V) (he : e2 ≤ 300) (hs : ∀ i, i < 300 → τ.1 38 (300 * r + i) = σ.1 38 (300 * r + i) ∧ τ.1 39 (300 * r + i) = σ.1 39 (300 * r + i)) (hw : ∀ i, i < 12 → τ.2 45 i = ws i) : ∃ τ', m_answer τ (nI r) (nI e1) (nI e2) = some (τ', V ws) ∧ τ'.1 = τ.1 ∧ ∀ i, i < 12 → τ'.2 45 i = ws i := by
  have l1 := h.1
  obtain ⟨n, hn⟩ : ∃ m, FU = m + 1 + (e2 - e1) := ⟨FU - 1 - (e2 - e1), by have := FU_gt (n := 400) (by decide); omega⟩
  obtain ⟨τ', ⟨h1, h2, h3, h4⟩, h5⟩ := h.2 ws τ 0 (n + 1) e2 _ (fun σ_21 => some (σ_21, σ_21.2 46 (ix 0))) (fun i hi => hs i (by omega)) hw (by omega) (Nat.le_refl _) he
  refine ⟨τ', ?_, h1, fun i hi => by rw [h2 45 (by decide)]; exact hw i hi⟩
  unfold m_answer
  rw [hn]
  show m_answer_6 (nI r) (nI e2) (fun σ_21 => some (σ_21, σ_21.2 46 (ix 0))) (n + 1 + (e2 - e1)) τ (nI 0) (nI e1) = _
  rw [h5, m_answer_6, if_pos (nI_le (Nat.le_refl _) (by omega)), show ix 0 = 0 from rfl, h4]
theorem cl_rule {R : RS} (hr : r < 6) (h40 : σ.1 40 r = nI R.length) (hR : R.length ≤ 12) (hC : ∀ i q, R[i]? = some q → UCL r e σ i q) (he : e ≤ 300) : RuleOK R σ r := by
  intro ws τ hSl h18 hws
  obtain ⟨s1, s2, s3⟩ := hSl
  have key : ∀ K : cS → Int32 → Option (cS × Int64), (∀ σ_9 v_10, K σ_9 v_10 = (gd (inb v_10 72) (((m_answer σ_9 (nI r) (σ_9.1 41 (ix v_10)) (σ_9.1 42 (ix v_10))).bind fun (σ_14, r_13) => some (σ_14, r_13))))) → ∀ k i n τ', i + k = R.length → k < n → τ'.1 = τ.1 → (∀ i, i < 12 → τ'.2 45 i = ws i) → OO (m_crept_13 (nI r) K n τ' (nI (12 * r + i))) (fun p => p.1.1 = τ.1 ∧ m_held p.2 3 = some (rfeet (R.drop i) ws)) := by
    intro K hK k
    induction k with
    | zero =>
      intro i n τ' hi hn h1 h2
      obtain ⟨n, rfl⟩ : ∃ m, n = m + 1 := ⟨n - 1, by omega⟩
      rw [m_crept_13, inbn hr (by decide), ixn (by omega), h1, s2, h40, show (12 : Int32) = nI 12 from rfl, pk_mul, nI_add]
      show OO (if nI (12 * r + R.length) ≤ nI (12 * r + i) then some (τ', 0) else _) _
      rw [if_pos (nI_le (by omega) (by omega)), List.drop_eq_nil_of_le (by omega)]
      exact OO.ret ⟨h1, by rw [m_held_lim]; rfl⟩
    | succ k ih =>
      intro i n τ' hi hn h1 h2
      obtain ⟨n, rfl⟩ : ∃ m, n = m + 1 := ⟨n - 1, by omega⟩
      have hil : i < R.length := by omega
      obtain ⟨q, hq⟩ : ∃ q, R[i]? = some q := ⟨R[i], List.getElem?_eq_getElem hil⟩
      obtain ⟨x0, x1, x2, y1, y2, y3, y4, y5, y6⟩ := hC i q hq
      obtain ⟨t1, t2, t3⟩ := s3 i (by omega)
      have hent : ∀ τ2 : cS, τ2.1 = τ.1 → ∀ i, i < 300 → τ2.1 38 (300 * r + i) = σ.1 38 (300 * r + i) ∧ τ2.1 39 (300 * r + i) = σ.1 39 (300 * r + i) := fun τ2 e i hi => by rw [e]; exact s1 i hi
      have hdr : R.drop i = q :: R.drop (i + 1) := by
        obtain ⟨hlt, rfl⟩ := List.getElem?_eq_some_iff.mp hq
        exact List.drop_eq_getElem_cons hlt
      have l5 := y5.1
      have lx : x1 ≤ x2 := by
        rcases y6 with ⟨-, x⟩ | ⟨τ5, -, x⟩
        · omega
        · have := x.1; omega
      have done : ∀ τ2 : cS, τ2.1 = τ.1 → (∀ i, i < 12 → τ2.2 45 i = ws i) → OO (K τ2 (nI (12 * r + i))) (fun p => p.1.1 = τ.1 ∧ m_held p.2 3 = some (lim3 (q.1 ws))) := by
        intro τ2 e2 e3
        obtain ⟨τ3, z1, z2, z3⟩ := m_answer_ev y5 (by omega) (hent τ2 e2) e3
        rw [hK, inbn (by omega) (by decide), ixn (by omega), e2, t1, t2, y1, y2, z1]
        exact OO.ret ⟨z2.trans e2, m_held_lim _⟩
      rw [m_crept_13, inbn hr (by decide), ixn (by omega), h1, s2, h40, show (12 : Int32) = nI 12 from rfl, pk_mul, nI_add]
      show OO (if nI (12 * r + R.length) ≤ nI (12 * r + i) then some (τ', 0) else gd (inb (nI (12 * r + i)) 72) (if τ.1 42 (ix (nI (12 * r + i))) = τ.1 43 (ix (nI (12 * r + i))) then _ else (m_answer τ' (nI r) (τ.1 42 (ix (nI (12 * r + i)))) (τ.1 43 (ix (nI (12 * r + i))))).bind _)) _
      rw [if_neg (nI_ge (by omega) (by omega)), inbn (by omega) (by decide), ixn (by omega), t2, t3, y2, y3, hdr]
      rcases y6 with ⟨n1, n2⟩ | ⟨τ5, n1, hE⟩
      · show OO (if nI x1 = nI x2 then _ else _) _
        rw [if_pos (by rw [n2])]
        have hf : rfeet (q :: R.drop (i + 1)) ws = lim3 (q.1 ws) := by
          show (if fitq q.2 ws = 0 then _ else _) = _
          rw [n1]
          exact if_neg (by show ¬ (1 : Int32) = 0; decide)
        rw [hf]
        exact done τ' h1 h2
      · have lE := hE.1
        show OO (if nI x1 = nI x2 then _ else _) _
        rw [if_neg (fun x => by have := (nI_eq (by omega) (by omega)).mp x; omega)]
        obtain ⟨τ3, z1, z2, z3⟩ := m_answer_ev hE (by omega) (hent τ' h1) h2
        rw [z1]
        show OO (if lg_cmp (tru (τ5 ws)) 1 = 0 then _ else m_crept_13 (nI r) _ n τ3 (nI (12 * r + i) + 1)) _
        rw [ifc (tru_1 (τ5 ws)), nI_1]
        by_cases c : τ5 ws = 0
        · rw [if_neg (fun x => x c)]
          have hf : rfeet (q :: R.drop (i + 1)) ws = rfeet (R.drop (i + 1)) ws := by
            show (if fitq q.2 ws = 0 then _ else _) = _
            rw [n1]
            refine if_pos ?_
            show (if τ5 ws = 0 then (0 : Int32) else 1) = 0
            rw [if_pos c]
          rw [hf]
          exact ih (i + 1) n τ3 (by omega) (by omega) (z2.trans h1) z3
        · rw [if_pos c]
          have hf : rfeet (q :: R.drop (i + 1)) ws = lim3 (q.1 ws) := by
            show (if fitq q.2 ws = 0 then _ else _) = _
            rw [n1]
            refine if_neg ?_
            show ¬ (if τ5 ws = 0 then (0 : Int32) else 1) = 0
            rw [if_neg c]; decide
          rw [hf]
          exact done τ3 (z2.trans h1) z3
  unfold m_crept
  rw [show ix 8 = 8 from rfl, h18, show (12 : Int32) = nI 12 from rfl, pk_mul]
  exact key _ (fun _ _ => rfl) R.length 0 FU τ (by omega) (FU_gt (by omega)) rfl hws
end UH
