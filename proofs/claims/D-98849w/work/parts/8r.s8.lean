/-! PURE LAW: a strip is read -/
set_option maxRecDepth 100000
def PRd (σx σm : cS) (a : cS × Option Unit) (b : cS) : Prop := ∃ b0, b = si b0 999 27 0 ∧ ((a.2 = none ∧ Le σx σm a.1 b0) ∨ (a.2 = some () ∧ ∃ a0 mm vv ww, 2 ≤ mm ∧ b0.1 999 29 = 0 ∧ Sx σx a0 ∧ Sm σm b0 ∧ RX mm vv ww a0 b0 ∧ a.1 = sA (si a0 8999 6 (a0.1 8999 7)) 8009 (va_cpy ((si a0 8999 6 (a0.1 8999 7)).1 8017) ((si a0 8999 6 (a0.1 8999 7)).1 8009) (ix 0) (ix 0) (ix 10))))
section SR
variable {B : Nat → Int32} {tp p q w c k mm vv ww : Nat} {σ β σ' β' σx σm a b a' b' : cS} {rs : List RS} {im : IM}
/-- the model's beginning -/
theorem om_begin {P : cS → Prop} {K : cS → Option cS} (hK : ∀ b, Sm σm b → b.1 999 28 = nI 0 → b.1 999 29 = 0 → (∀ i, i < 5 → b.1 17 i = 0) → (∀ i, i < 10 → b.1 18 i = 0 ∧ b.1 19 i = 10 ∧ b.1 20 i = 0) → (∀ i, i < 100 → b.1 21 i = 0) → OO (K b) P) : OO ((m_starts σm).bind fun σ_2 => m_readsAll_6 (fun σ_5 => (m_readsAll_26 (fun σ_12 => (m_readsAll_62 K FU σ_12 0)) FU σ_5 0)) FU σ_2 0) P := by
  unfold m_starts
  generalize hb : si (si (si (si (si σm 999 28 0) 999 29 0) 999 32 0) 999 33 0) 999 34 0 = b1
  have hS1 : Sm σm b1 := by rw [← hb]; exact ((((Sm.st ⟨fun _ _ _ => rfl, fun _ _ _ _ _ _ => rfl⟩ (by omega)).st (by omega)).st (by omega)).st (by omega)).st (by omega)
  have h28 : b1.1 999 28 = nI 0 := by rw [← hb, si_p (by decide), si_p (by decide), si_p (by decide), si_p (by decide)]; exact si_a
  have h29 : b1.1 999 29 = 0 := by rw [← hb, si_p (by decide), si_p (by decide), si_p (by decide)]; exact si_a
  have eb : (some (si (si (si (si (si σm 999 28 0) 999 29 0) 999 32 0) 999 33 0) 999 34 0) : Option cS) = some b1 := by rw [hb]
  refine OO.b (a := b1) eb ?_
  refine OO.loop (L := fun f s i => m_readsAll_6 _ f s i) (I := fun j b => (Sm σm b ∧ b.1 999 28 = nI 0 ∧ b.1 999 29 = 0) ∧ ∀ i, i < j → b.1 17 i = 0) (N := 5) ?_ ?_ 5 0 (by decide) FU (FU_gt (by decide)) b1 ⟨⟨hS1, h28, h29⟩, fun i hi => absurd hi (by omega)⟩
  · intro f j s hj ⟨⟨i1, i2, i3⟩, i4⟩ kk
    show OO (m_readsAll_6 _ (f + 1) s (nI j)) _
    rw [m_readsAll_6, nI_1, ixn (by omega)]
    refine OO.e (nI_ge (a := j) (b := 5) hj (by decide)) (OO.g (inbn hj (by decide)) (kk _ ⟨⟨i1.st (by omega), by rw [si_o (by decide)]; exact i2, by rw [si_o (by decide)]; exact i3⟩, fun i hi => ?_⟩))
    by_cases e : i = j
    · subst e; exact si_a
    · rw [si_p e]; exact i4 i (by omega)
  intro f s ⟨⟨i1, i2, i3⟩, i4⟩
  show OO (m_readsAll_6 _ (f + 1) s (nI 5)) _
  rw [m_readsAll_6]
  refine OO.t (nI_le (a := 5) (b := 5) (Nat.le_refl _) (by decide)) ?_
  refine OO.loop (L := fun f s i => m_readsAll_26 _ f s i) (I := fun j b => (Sm σm b ∧ b.1 999 28 = nI 0 ∧ b.1 999 29 = 0) ∧ (∀ i, i < 5 → b.1 17 i = 0) ∧ ∀ i, i < j → b.1 18 i = 0 ∧ b.1 19 i = 10 ∧ b.1 20 i = 0) (N := 10) ?_ ?_ 10 0 (by decide) FU (FU_gt (by decide)) s ⟨⟨i1, i2, i3⟩, i4, fun i hi => absurd hi (by omega)⟩
  · intro f j s hj ⟨⟨i1, i2, i3⟩, i4, i5⟩ kk
    show OO (m_readsAll_26 _ (f + 1) s (nI j)) _
    rw [m_readsAll_26, nI_1, ixn (by omega)]
    refine OO.e (nI_ge (a := j) (b := 10) hj (by decide)) (OO.g (inbn hj (by decide)) (OO.n (OO.n (kk _ ⟨⟨((i1.st (by omega)).st (by omega)).st (by omega), ?_, ?_⟩, fun i hi => ?_, fun i hi => ?_⟩))))
    · rw [si_o (by decide), si_o (by decide), si_o (by decide)]; exact i2
    · rw [si_o (by decide), si_o (by decide), si_o (by decide)]; exact i3
    · rw [si_o (by decide), si_o (by decide), si_o (by decide)]; exact i4 i hi
    · by_cases e : i = j
      · subst e
        exact ⟨by rw [si_o (by decide), si_o (by decide)]; exact si_a, by rw [si_o (by decide)]; exact si_a, si_a⟩
      · rw [si_o (by decide : 18 ≠ 20), si_o (by decide : 18 ≠ 19), si_p e, si_o (by decide : 19 ≠ 20), si_p e, si_o (by decide : 19 ≠ 18), si_p e, si_o (by decide : 20 ≠ 19), si_o (by decide : 20 ≠ 18)]
        exact i5 i (by omega)
  intro f s ⟨⟨i1, i2, i3⟩, i4, i5⟩
  show OO (m_readsAll_26 _ (f + 1) s (nI 10)) _
  rw [m_readsAll_26]
  refine OO.t (nI_le (a := 10) (b := 10) (Nat.le_refl _) (by decide)) ?_
  refine OO.loop (L := fun f s i => m_readsAll_62 _ f s i) (I := fun j b => (Sm σm b ∧ b.1 999 28 = nI 0 ∧ b.1 999 29 = 0) ∧ ((∀ i, i < 5 → b.1 17 i = 0) ∧ ∀ i, i < 10 → b.1 18 i = 0 ∧ b.1 19 i = 10 ∧ b.1 20 i = 0) ∧ ∀ i, i < j → b.1 21 i = 0) (N := 100) ?_ ?_ 100 0 (by decide) FU (FU_gt (by decide)) s ⟨⟨i1, i2, i3⟩, ⟨i4, i5⟩, fun i hi => absurd hi (by omega)⟩
  · intro f j s hj ⟨⟨i1, i2, i3⟩, ⟨i4, i5⟩, i6⟩ kk
    show OO (m_readsAll_62 _ (f + 1) s (nI j)) _
    rw [m_readsAll_62, nI_1, ixn (by omega)]
    refine OO.e (nI_ge (a := j) (b := 100) hj (by decide)) (OO.g (inbn hj (by decide)) (kk _ ⟨⟨i1.st (by omega), by rw [si_o (by decide)]; exact i2, by rw [si_o (by decide)]; exact i3⟩, ⟨fun i hi => by rw [si_o (by decide)]; exact i4 i hi, fun i hi => by rw [si_o (by decide), si_o (by decide), si_o (by decide)]; exact i5 i hi⟩, fun i hi => ?_⟩))
    by_cases e : i = j
    · subst e; exact si_a
    · rw [si_p e]; exact i6 i (by omega)
  intro f s ⟨⟨i1, i2, i3⟩, ⟨i4, i5⟩, i6⟩
  show OO (m_readsAll_62 _ (f + 1) s (nI 100)) _
  rw [m_readsAll_62]
  exact OO.t (nI_le (a := 100) (b := 100) (Nat.le_refl _) (by decide)) (hK s i1 i2 i3 i4 i5 i6)
theorem JJ.mo {α β : Type} {o1 : Option α} {o2 : Option β} {P : α → β → Prop} (h : OO o2 (fun b => OO o1 (fun a => P a b))) : JJ o1 o2 P := by
  obtain ⟨b, h2, a, h1, h⟩ := h
  exact ⟨a, b, h1, h2, h⟩
theorem JJ.om {α β : Type} {o1 : Option α} {o2 : Option β} {P : α → β → Prop} (h : JJ o1 o2 P) : OO o2 (fun b => OO o1 (fun a => P a b)) := by
  obtain ⟨a, b, h1, h2, h⟩ := h
  exact ⟨b, h2, a, h1, h⟩
theorem j_read (h : PL σx rs im σm) : JJ (t_stripTold (clT σx)) (m_readsAll σm) (PRd σx σm) := by
  obtain ⟨⟨tp, t1, t2, t3, t4⟩, -, ⟨-, -, -, g4⟩, -⟩ := h
  have hB : TB (σm.1 37) tp := ⟨t1, fun i hi => (t4 i hi).2⟩
  have hC : TC (σm.1 37) tp σx := ⟨t2, fun i hi => (t4 i hi).1⟩
  have hM : TM (σm.1 37) tp σm := ⟨t3, fun i hi => rfl⟩
  unfold t_stripTold m_readsAll
  refine JJ.ol (ox_copies (clT σx) (b := 8000) (c := 9000) (by omega)) (fun z ⟨c1, c2, c3⟩ => ?_)
  generalize pb2 (clT σx) 8000 9000 z = a0 at *
  refine JJ.mo (om_begin (fun b0 s1 s2 s3 s4 s5 s6 => JJ.om ?_))
  have z9 : ∀ k i, 9000 ≤ k → k < 10000 → (clT σx).1 k i = 0 := fun k i k1 k2 => by
    unfold clT
    rw [sA_o (by omega)]
    exact g4 k k1 k2 i
  have n9 : ∀ i, i < 9 → a0.1 8999 i = 0 := fun i hi => (c2 i hi).trans (z9 9999 i (by decide) (by decide))
  have nk : ∀ k, 9 ≤ k → k ≤ 20 → ∀ i, i < zD.getD k 0 → a0.1 (8000 + k) i = 0 := fun k k1 k2 i hi => (c3 k k1 k2 i hi).trans (z9 (9000 + k) i (by omega) (by omega))
  have hX0 : Sx σx a0 := fun k k1 k2 k3 => by
    rw [c1 k (by omega)]
    unfold clT
    rw [sA_o k1]
  have h997 : ∀ i, a0.1 997 i = 0 := fun i => by
    rw [c1 997 (by omega)]
    unfold clT
    rw [sA_s]
  have hR0 : RX 0 0 0 a0 b0 := by
    refine ⟨⟨⟨n9 0 (by decide), s4 0 (by decide)⟩, (n9 1 (by decide)).trans (s4 1 (by decide)).symm, ⟨n9 2 (by decide), s4 2 (by decide)⟩, ⟨n9 3 (by decide), s4 3 (by decide)⟩, (n9 7 (by decide)).trans (s4 4 (by decide)).symm, n9 4 (by decide), n9 5 (by decide), n9 8 (by decide)⟩, fun i hi => ?_, fun i hi => ?_, ⟨fun v hv => absurd hv (Nat.not_lt_zero v), fun v hv => nk 19 (by decide) (by decide) v hv⟩, fun w hw => absurd hw (Nat.not_lt_zero w), fun _ => ⟨rfl, rfl⟩, by decide, Or.inl rfl, by decide, by decide⟩
    · obtain ⟨x1, x2, x3⟩ := s5 i hi
      rw [x1, x2, x3]
      exact ⟨⟨nk 16 (by decide) (by decide) i hi, by unfold lk; decide⟩, ⟨fun _ => rfl, fun x => absurd rfl x, 10, by decide, rfl⟩, nk 18 (by decide) (by decide) i hi, 0, by decide, rfl⟩
    · rw [s6 i hi]
      exact ⟨nk 10 (by decide) (by decide) i hi, 0, by decide, rfl⟩
  refine j_loop (P := PRd σx σm) (Kx := fun s => some (sA (si s 8999 6 (s.1 8999 7)) 8009 (va_cpy ((si s 8999 6 (s.1 8999 7)).1 8017) ((si s 8999 6 (s.1 8999 7)).1 8009) (ix 0) (ix 0) (ix 10)), some ())) (K' := fun s => some (si s 999 27 0)) hB hC hM (fun a b mm vv ww h1 h2 h3 h4 h5 => JJ.ret ⟨b, rfl, Or.inr ⟨rfl, a, mm, vv, ww, h1, h2, h3, h4, h5, rfl⟩⟩) (fun a b hL => JJ.ret ⟨b, rfl, Or.inl ⟨rfl, hL⟩⟩) 40 0 (by decide) FU FU (FU_gt (by decide)) (FU_gt (by decide)) a0 b0 0 0 0 ⟨fun _ => rfl, fun _ => rfl⟩ ⟨⟨0, Nat.zero_le _, h997 2, s2⟩, ⟨s3, h997 5⟩, hX0, s1, hR0⟩
end SR
