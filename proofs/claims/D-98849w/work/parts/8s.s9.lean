/-! PURE LAW: the operation strip -/
set_option maxRecDepth 100000
section SP
variable {B : Nat → Int32} {tp p q w c k mm vv ww : Nat} {σ β σ' β' σx σm a b a' b' a0 b0 : cS} {rs : List RS} {im : IM}
/-- a strip that is read is laid in the model -/
def SLay (b0 b : cS) : Prop := (∀ k, k ≠ 1 → k ≠ 2 → k ≠ 3 → k ≠ 4 → k ≠ 5 → k ≠ 6 → k ≠ 7 → k ≠ 8 → k ≠ 9 → k ≠ 10 → k ≠ 11 → k ≠ 15 → k ≠ 16 → k ≠ 999 → b.1 k = b0.1 k) ∧ (∀ i, i ≠ 51 → b.1 999 i = b0.1 999 i) ∧ b.1 999 51 = 0 ∧ ((∀ i, i < 5 → b.1 1 i = b0.1 17 i) ∧ b.1 1 5 = 0 ∧ b.1 1 6 = 0 ∧ ∀ i, 7 ≤ i → b.1 1 i = b0.1 1 i) ∧ (∀ i, i < 10 → b.1 2 i = b0.1 18 i ∧ b.1 3 i = b0.1 19 i ∧ b.1 15 i = b0.1 19 i ∧ b.1 4 i = b0.1 20 i) ∧ (∀ i, i < 100 → b.1 5 i = b0.1 21 i) ∧ (∀ i, i < 8 → b.1 6 i = b0.1 22 i ∧ b.1 7 i = b0.1 23 i ∧ b.1 8 i = b0.1 24 i ∧ b.1 10 i = b0.1 25 i ∧ b.1 11 i = b0.1 26 i ∧ b.1 9 i = 0) ∧ b.1 16 0 = b0.1 17 4
theorem om_slay : OO (m_strip_21 (fun σ_9 => (((m_copies σ_9 18 2).bind fun σ_11 => ((m_copies σ_11 19 3).bind fun σ_13 => ((m_copies σ_13 19 15).bind fun σ_15 => ((m_copies σ_15 20 4).bind fun σ_17 => ((m_copies σ_17 21 5).bind fun σ_19 => ((m_copies σ_19 22 6).bind fun σ_21 => ((m_copies σ_21 23 7).bind fun σ_23 => ((m_copies σ_23 24 8).bind fun σ_25 => ((m_copies σ_25 25 10).bind fun σ_27 => ((m_copies σ_27 26 11).bind fun σ_29 => m_strip_178 (fun σ_32 => (some ((si σ_32 999 51 0), ((si σ_32 999 51 0).1 1 (ix 2))))) FU (si σ_29 16 (ix 0) (σ_29.1 1 (ix 4))) 0)))))))))))) FU b0 0) (fun z => SLay b0 z.1 ∧ z.2 = b0.1 17 2) := by
  refine OO.loop (L := fun f s i => m_strip_21 _ f s i) (I := fun j b => (∀ k, k ≠ 1 → b.1 k = b0.1 k) ∧ (∀ i, i < j → b.1 1 i = if i < 5 then b0.1 17 i else 0) ∧ ∀ i, 7 ≤ i → b.1 1 i = b0.1 1 i) (N := 7) ?_ ?_ 7 0 (by decide) FU (FU_gt (by decide)) b0 ⟨fun _ _ => rfl, fun i hi => absurd hi (by omega), fun _ _ => rfl⟩
  · intro f j s hj ⟨i1, i2, i3⟩ kk
    show OO (m_strip_21 _ (f + 1) s (nI j)) _
    rw [m_strip_21, nI_1, ixn (by omega)]
    refine OO.e (nI_ge (a := j) (b := 7) hj (by decide)) ?_
    have step : ∀ v, v = (if j < 5 then b0.1 17 j else 0) → (∀ k, k ≠ 1 → (si s 1 j v).1 k = b0.1 k) ∧ (∀ i, i < j + 1 → (si s 1 j v).1 1 i = if i < 5 then b0.1 17 i else 0) ∧ ∀ i, 7 ≤ i → (si s 1 j v).1 1 i = b0.1 1 i := by
      intro v hv
      refine ⟨fun k hk => by rw [si_o hk]; exact i1 k hk, fun i hi => ?_, fun i hi => by rw [si_p (by omega)]; exact i3 i hi⟩
      by_cases e : i = j
      · subst e; rw [si_a]; exact hv
      · rw [si_p e]; exact i2 i (by omega)
    by_cases c : 5 ≤ j
    · refine OO.t (nI_le (a := 5) c (by omega)) (OO.g (inbn (by omega) (by decide)) (kk _ (step 0 (by rw [if_neg (by omega)]))))
    · refine OO.e (nI_ge (a := j) (b := 5) (by omega) (by decide)) (OO.g (inbn (by omega) (by decide)) (OO.g (inbn (by omega) (by decide)) (kk _ (step _ (by rw [if_pos (by omega), i1 17 (by decide)])))))
  rintro f s ⟨i1, i2, i3⟩
  show OO (m_strip_21 _ (f + 1) s (nI 7)) _
  rw [m_strip_21]
  refine OO.t (nI_le (a := 7) (b := 7) (Nat.le_refl _) (by decide)) ?_
  refine OO.bd (om_copies (p := 18) (q := 2) (N := 10) rfl rfl (by decide) (by decide)) (fun s1 ⟨a1, b1⟩ => ?_)
  refine OO.bd (om_copies (p := 19) (q := 3) (N := 10) rfl rfl (by decide) (by decide)) (fun s2 ⟨a2, b2⟩ => ?_)
  refine OO.bd (om_copies (p := 19) (q := 15) (N := 10) rfl rfl (by decide) (by decide)) (fun s3 ⟨a3, b3⟩ => ?_)
  refine OO.bd (om_copies (p := 20) (q := 4) (N := 10) rfl rfl (by decide) (by decide)) (fun s4 ⟨a4, b4⟩ => ?_)
  refine OO.bd (om_copies (p := 21) (q := 5) (N := 100) rfl rfl (by decide) (by decide)) (fun s5 ⟨a5, b5⟩ => ?_)
  refine OO.bd (om_copies (p := 22) (q := 6) (N := 8) rfl rfl (by decide) (by decide)) (fun s6 ⟨a6, b6⟩ => ?_)
  refine OO.bd (om_copies (p := 23) (q := 7) (N := 8) rfl rfl (by decide) (by decide)) (fun s7 ⟨a7, b7⟩ => ?_)
  refine OO.bd (om_copies (p := 24) (q := 8) (N := 8) rfl rfl (by decide) (by decide)) (fun s8 ⟨a8, b8⟩ => ?_)
  refine OO.bd (om_copies (p := 25) (q := 10) (N := 8) rfl rfl (by decide) (by decide)) (fun s9 ⟨a9, b9⟩ => ?_)
  refine OO.bd (om_copies (p := 26) (q := 11) (N := 8) rfl rfl (by decide) (by decide)) (fun s10 ⟨a10, b10⟩ => ?_)
  have up : ∀ k, k ≠ 2 → k ≠ 3 → k ≠ 15 → k ≠ 4 → k ≠ 5 → k ≠ 6 → k ≠ 7 → k ≠ 8 → k ≠ 10 → k ≠ 11 → s10.1 k = s.1 k := fun k h1 h2 h3 h4 h5 h6 h7 h8 h9 h10 => by
    rw [a10 k h10, a9 k h9, a8 k h8, a7 k h7, a6 k h6, a5 k h5, a4 k h4, a3 k h3, a2 k h2, a1 k h1]
  have e17 : ∀ i, i < 5 → s10.1 1 i = b0.1 17 i := fun i hi => by
    rw [up 1 (by decide) (by decide) (by decide) (by decide) (by decide) (by decide) (by decide) (by decide) (by decide) (by decide), i2 i (by omega), if_pos hi]
  refine OO.loop (L := fun f s i => m_strip_178 _ f s i) (I := fun j b => (∀ k, k ≠ 9 → b.1 k = (si s10 16 0 (b0.1 17 4)).1 k) ∧ ∀ i, i < j → b.1 9 i = 0) (N := 8) ?_ ?_ 8 0 (by decide) FU (FU_gt (by decide)) _ ⟨fun k _ => by rw [show ix 0 = 0 from rfl, show ix 4 = 4 from rfl, e17 4 (by decide)], fun i hi => absurd hi (by omega)⟩
  · intro f j s hj ⟨j1, j2⟩ kk
    show OO (m_strip_178 _ (f + 1) s (nI j)) _
    rw [m_strip_178, nI_1, ixn (by omega)]
    refine OO.e (nI_ge (a := j) (b := 8) hj (by decide)) (OO.g (inbn hj (by decide)) (kk _ ⟨fun k hk => by rw [si_o hk]; exact j1 k hk, fun i hi => ?_⟩))
    by_cases e : i = j
    · subst e; exact si_a
    · rw [si_p e]; exact j2 i (by omega)
  rintro f t ⟨j1, j2⟩
  show OO (m_strip_178 _ (f + 1) t (nI 8)) _
  rw [m_strip_178]
  refine OO.t (nI_le (a := 8) (b := 8) (Nat.le_refl _) (by decide)) (OO.ret ?_)
  have t1 : t.1 1 = s.1 1 := by rw [j1 1 (by decide), si_o (by decide), up 1 (by decide) (by decide) (by decide) (by decide) (by decide) (by decide) (by decide) (by decide) (by decide) (by decide)]
  have tk : ∀ k, k ≠ 9 → k ≠ 16 → t.1 k = s10.1 k := fun k h1 h2 => by rw [j1 k h1, si_o h2]
  have o17 : ∀ k, 17 ≤ k → s.1 k = b0.1 k := fun k hk => i1 k (by omega)
  refine ⟨⟨fun k k1 k2 k3 k4 k5 k6 k7 k8 k9 k10 k11 k15 k16 k999 => ?_, fun i hi => ?_, si_a, ⟨fun i hi => ?_, ?_, ?_, fun i hi => ?_⟩, fun i hi => ⟨?_, ?_, ?_, ?_⟩, fun i hi => ?_, fun i hi => ⟨?_, ?_, ?_, ?_, ?_, ?_⟩, ?_⟩, ?_⟩
  · rw [si_o k999, tk k k9 k16, up k k2 k3 k15 k4 k5 k6 k7 k8 k10 k11, i1 k k1]
  · rw [si_p hi, tk 999 (by decide) (by decide), up 999 (by decide) (by decide) (by decide) (by decide) (by decide) (by decide) (by decide) (by decide) (by decide) (by decide), i1 999 (by decide)]
  · rw [si_o (by decide), t1, i2 i (by omega), if_pos hi]
  · rw [si_o (by decide), t1, i2 5 (by decide), if_neg (by decide)]
  · rw [si_o (by decide), t1, i2 6 (by decide), if_neg (by decide)]
  · rw [si_o (by decide), t1, i3 i hi]
  · rw [si_o (by decide), tk 2 (by decide) (by decide), a10 2 (by decide), a9 2 (by decide), a8 2 (by decide), a7 2 (by decide), a6 2 (by decide), a5 2 (by decide), a4 2 (by decide), a3 2 (by decide), a2 2 (by decide), b1 i hi, o17 18 (by decide)]
  · rw [si_o (by decide), tk 3 (by decide) (by decide), a10 3 (by decide), a9 3 (by decide), a8 3 (by decide), a7 3 (by decide), a6 3 (by decide), a5 3 (by decide), a4 3 (by decide), a3 3 (by decide), b2 i hi, a1 19 (by decide), o17 19 (by decide)]
  · rw [si_o (by decide), tk 15 (by decide) (by decide), a10 15 (by decide), a9 15 (by decide), a8 15 (by decide), a7 15 (by decide), a6 15 (by decide), a5 15 (by decide), a4 15 (by decide), b3 i hi, a2 19 (by decide), a1 19 (by decide), o17 19 (by decide)]
  · rw [si_o (by decide), tk 4 (by decide) (by decide), a10 4 (by decide), a9 4 (by decide), a8 4 (by decide), a7 4 (by decide), a6 4 (by decide), a5 4 (by decide), b4 i hi, a3 20 (by decide), a2 20 (by decide), a1 20 (by decide), o17 20 (by decide)]
  · rw [si_o (by decide), tk 5 (by decide) (by decide), a10 5 (by decide), a9 5 (by decide), a8 5 (by decide), a7 5 (by decide), a6 5 (by decide), b5 i hi, a4 21 (by decide), a3 21 (by decide), a2 21 (by decide), a1 21 (by decide), o17 21 (by decide)]
  · rw [si_o (by decide), tk 6 (by decide) (by decide), a10 6 (by decide), a9 6 (by decide), a8 6 (by decide), a7 6 (by decide), b6 i hi, a5 22 (by decide), a4 22 (by decide), a3 22 (by decide), a2 22 (by decide), a1 22 (by decide), o17 22 (by decide)]
  · rw [si_o (by decide), tk 7 (by decide) (by decide), a10 7 (by decide), a9 7 (by decide), a8 7 (by decide), b7 i hi, a6 23 (by decide), a5 23 (by decide), a4 23 (by decide), a3 23 (by decide), a2 23 (by decide), a1 23 (by decide), o17 23 (by decide)]
  · rw [si_o (by decide), tk 8 (by decide) (by decide), a10 8 (by decide), a9 8 (by decide), b8 i hi, a7 24 (by decide), a6 24 (by decide), a5 24 (by decide), a4 24 (by decide), a3 24 (by decide), a2 24 (by decide), a1 24 (by decide), o17 24 (by decide)]
  · rw [si_o (by decide), tk 10 (by decide) (by decide), a10 10 (by decide), b9 i hi, a8 25 (by decide), a7 25 (by decide), a6 25 (by decide), a5 25 (by decide), a4 25 (by decide), a3 25 (by decide), a2 25 (by decide), a1 25 (by decide), o17 25 (by decide)]
  · rw [si_o (by decide), tk 11 (by decide) (by decide), b10 i hi, a9 26 (by decide), a8 26 (by decide), a7 26 (by decide), a6 26 (by decide), a5 26 (by decide), a4 26 (by decide), a3 26 (by decide), a2 26 (by decide), a1 26 (by decide), o17 26 (by decide)]
  · rw [si_o (by decide), j2 i hi]
  · rw [si_o (by decide), j1 16 (by decide)]; exact si_a
  · dsimp only
    rw [si_o (by decide), t1, show ix 2 = 2 from rfl, i2 2 (by decide), if_pos (by decide)]
end SP
