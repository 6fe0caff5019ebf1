/-! PURE LAW: what entries of a rule answer -/
set_option maxRecDepth 100000
/-- the entries e1 .. e2 of slot r answer V -/
def Ev (r : Nat) (τ0 : cS) (e1 e2 : Nat) (V : Wds → Int64) : Prop := e1 < e2 ∧ ∀ (ws : Wds) (τ : cS) (h m t : Nat) (ρ : Type) (K : cS → Option ρ), (∀ i, i < e2 → τ.1 38 (300 * r + i) = τ0.1 38 (300 * r + i) ∧ τ.1 39 (300 * r + i) = τ0.1 39 (300 * r + i)) → (∀ i, i < 12 → τ.2 45 i = ws i) → h + (e2 - e1) ≤ 300 → e2 ≤ t → t ≤ 300 → ∃ τ', (τ'.1 = τ.1 ∧ (∀ k, k ≠ 46 → τ'.2 k = τ.2 k) ∧ (∀ i, i < h → τ'.2 46 i = τ.2 46 i) ∧ τ'.2 46 h = V ws) ∧ m_answer_6 (nI r) (nI t) K (m + (e2 - e1)) τ (nI h) (nI e1) = m_answer_6 (nI r) (nI t) K m τ' (nI (h + 1)) (nI e2)
section EV
variable {r e1 e2 e3 : Nat} {τ0 τ1 : cS} {V W : Wds → Int64}
theorem sL_o {σ : cS} {k i j : Nat} {v : Int64} (h : j ≠ k) : (sL σ k i v).2 j = σ.2 j := by simp [sL, va_up, h]
theorem Ev.mv (h : Ev r τ0 e1 e2 V) (hs : ∀ i, i < e2 → τ1.1 38 (300 * r + i) = τ0.1 38 (300 * r + i) ∧ τ1.1 39 (300 * r + i) = τ0.1 39 (300 * r + i)) : Ev r τ1 e1 e2 V := ⟨h.1, fun ws τ hh m t ρ K h1 h2 h3 h4 h5 => h.2 ws τ hh m t ρ K (fun i hi => ⟨(h1 i hi).1.trans (hs i hi).1, (h1 i hi).2.trans (hs i hi).2⟩) h2 h3 h4 h5⟩
/-- a leaf -/
theorem Ev.leaf (hr : r < 6) (he : e1 < 300) (hV : (τ0.1 38 (300 * r + e1) = 0 ∧ ∀ ws, V ws = (τ0.1 39 (300 * r + e1)).toInt64) ∨ (τ0.1 38 (300 * r + e1) = 1 ∧ ∃ i, i < 12 ∧ τ0.1 39 (300 * r + e1) = nI i ∧ ∀ ws, V ws = ws i)) : Ev r τ0 e1 (e1 + 1) V := by
  refine ⟨by omega, fun ws τ h m t ρ K h1 h2 h3 h4 h5 => ?_⟩
  obtain ⟨x1, x2⟩ := h1 e1 (by omega)
  have st : ∀ v : Int64, v = V ws → ∃ τ', (τ'.1 = τ.1 ∧ (∀ k, k ≠ 46 → τ'.2 k = τ.2 k) ∧ (∀ i, i < h → τ'.2 46 i = τ.2 46 i) ∧ τ'.2 46 h = V ws) ∧ gd (inb (nI h) 300) (m_answer_6 (nI r) (nI t) K m (sL τ 46 (ix (nI h)) v) (nI h + 1) (nI e1 + 1)) = m_answer_6 (nI r) (nI t) K m τ' (nI (h + 1)) (nI (e1 + 1)) := by
    intro v hv
    refine ⟨sL τ 46 h v, ⟨rfl, fun k hk => sL_o hk, fun i hi => sL_p (by omega), sL_a.trans hv⟩, ?_⟩
    rw [inbn (by omega) (by decide), ixn (by omega), nI_1, nI_1]
    rfl
  rw [show m + (e1 + 1 - e1) = m + 1 by omega, m_answer_6, if_neg (nI_ge (by omega) (by omega)), show (300 : Int32) = nI 300 from rfl, pk_mul, nI_add, inbn (by omega) (by decide), ixn (by omega), x1, x2]
  rcases hV with ⟨a1, a2⟩ | ⟨a1, i, a2, a3, a4⟩
  · have hv : (τ0.1 39 (300 * r + e1)).toInt64 = V ws := (a2 ws).symm
    obtain ⟨τ', c1, c2⟩ := st (τ0.1 39 (300 * r + e1)).toInt64 hv
    refine ⟨τ', c1, ?_⟩
    rw [← c2, a1, if_pos (show (0 : Int32) = 0 from rfl), if_pos (show (0 : Int32) = 0 from rfl)]
    rfl
  · have hv : τ.2 45 i = V ws := by rw [a4 ws]; exact h2 i a2
    obtain ⟨τ', c1, c2⟩ := st (τ.2 45 i) hv
    refine ⟨τ', c1, ?_⟩
    rw [← c2, a1, a3, ixn (show i < 2 ^ 31 by omega), inbn a2 (by decide), if_neg (show ¬ (1 : Int32) = 0 by decide), if_pos (show (1 : Int32) = 1 from rfl), if_neg (show ¬ (1 : Int32) = 0 by decide)]
    rfl
/-- an operation on two -/
theorem Ev.two {f : Int64 → Int64 → Int64} (hr : r < 6) (h1 : Ev r τ0 e1 e2 V) (h2 : Ev r τ0 e2 e3 W) (he : e3 < 300) (h9 : τ0.1 38 (300 * r + e3) ≠ 0 ∧ τ0.1 38 (300 * r + e3) ≠ 1 ∧ τ0.1 38 (300 * r + e3) ≠ 9) (hf : ∀ x y, m_both (τ0.1 38 (300 * r + e3)) x y = some (f x y)) : Ev r τ0 e1 (e3 + 1) (fun ws => f (V ws) (W ws)) := by
  have l1 := h1.1
  have l2 := h2.1
  refine ⟨by omega, fun ws τ h m t ρ K g1 g2 g3 g4 g5 => ?_⟩
  obtain ⟨τ1, ⟨a1, a2, a3, a4⟩, a5⟩ := h1.2 ws τ h (m + 1 + (e3 - e2)) t ρ K (fun i hi => g1 i (by omega)) g2 (by omega) (by omega) g5
  obtain ⟨τ2, ⟨b1, b2, b3, b4⟩, b5⟩ := h2.2 ws τ1 (h + 1) (m + 1) t ρ K (fun i hi => by rw [a1]; exact g1 i (by omega)) (fun i hi => by rw [a2 45 (by decide)]; exact g2 i hi) (by omega) (by omega) g5
  obtain ⟨x1, x2⟩ := g1 e3 (by omega)
  refine ⟨sL τ2 46 h (f (V ws) (W ws)), ⟨b1.trans a1, fun k hk => by rw [sL_o hk, b2 k hk, a2 k hk], fun i hi => by rw [sL_p (by omega), b3 i (by omega), a3 i hi], sL_a⟩, ?_⟩
  rw [show m + (e3 + 1 - e1) = m + 1 + (e3 - e2) + (e2 - e1) by omega, a5, b5, m_answer_6, if_neg (nI_ge (by omega) (by omega)), show (300 : Int32) = nI 300 from rfl, pk_mul, nI_add, inbn (by omega) (by decide), ixn (by omega), b1, a1, x1, if_neg h9.1, if_neg h9.2.1, if_neg h9.2.2]
  have e1' : nI (h + 1 + 1) + -1 = nI (h + 1) := (Int32.sub_eq_add_neg _ _).symm.trans (nI_m1 (m := h + 1 + 1) (by omega))
  have e2' : nI (h + 1) - 1 = nI h := nI_m1 (m := h + 1) (by omega)
  rw [e1', e2', inbn (by omega) (by decide), inbn (by omega) (by decide), ixn (by omega), ixn (by omega), b4, b3 h (by omega), a4, hf, nI_1]
  rfl
/-- not -/
theorem Ev.no (hr : r < 6) (h1 : Ev r τ0 e1 e2 V) (he : e2 < 300) (h9 : τ0.1 38 (300 * r + e2) = 9) : Ev r τ0 e1 (e2 + 1) (fun ws => 1 - V ws) := by
  have l1 := h1.1
  refine ⟨by omega, fun ws τ h m t ρ K g1 g2 g3 g4 g5 => ?_⟩
  obtain ⟨τ1, ⟨a1, a2, a3, a4⟩, a5⟩ := h1.2 ws τ h (m + 1) t ρ K (fun i hi => g1 i (by omega)) g2 (by omega) (by omega) g5
  obtain ⟨x1, x2⟩ := g1 e2 (by omega)
  refine ⟨sL τ1 46 h (1 - V ws), ⟨a1, fun k hk => by rw [sL_o hk, a2 k hk], fun i hi => by rw [sL_p (by omega), a3 i hi], sL_a⟩, ?_⟩
  rw [show m + (e2 + 1 - e1) = m + 1 + (e2 - e1) by omega, a5, m_answer_6, if_neg (nI_ge (by omega) (by omega)), show (300 : Int32) = nI 300 from rfl, pk_mul, nI_add, inbn (by omega) (by decide), ixn (by omega), a1, x1, h9, if_neg (by decide), if_neg (by decide), if_pos rfl]
  have e2' : nI (h + 1) - 1 = nI h := nI_m1 (m := h + 1) (by omega)
  rw [e2', inbn (by omega) (by decide), ixn (by omega), a4, nI_1]
  rfl
end EV
