/-! PURE LAW: trials of pushes: a step on both sides, wants, copies for each night -/
set_option maxRecDepth 100000
section PU
variable {σx σm σx' σm' : cS} {rs : List RS} {im : IM} {cz mm vv ww t u lg un un' : Nat} {δ σ δ' σ' z w a b c β : cS} {R : Option RS}
theorem Rm.c0 (h : Rm cz mm vv ww t u δ σ) (hk : ∀ k, k ≠ 19 → δ'.1 k = δ.1 k) : Rm 0 mm vv ww t u δ' σ := by
  obtain ⟨h1, h2, ⟨h3, -⟩, h4, h5, h6⟩ := h
  have e : ∀ k, k ≠ 19 → δ'.1 k = δ.1 k := hk
  unfold Rm Rs Rl Rv Rw Rt Rb at *
  rw [e 999 (by decide), e 16 (by decide), e 17 (by decide), e 18 (by decide), e 11 (by decide), e 12 (by decide), e 13 (by decide), e 14 (by decide), e 10 (by decide)]
  exact ⟨h1, h2, ⟨h3, fun v hv => absurd hv (Nat.not_lt_zero v)⟩, h4, h5, h6.1, h6.2.1, h6.2.2.1, h6.2.2.2.1, h6.2.2.2.2.1, h6.2.2.2.2.2.1, Nat.zero_le _⟩
theorem Rm.z0 (h : Rm cz mm vv ww t u δ σ) : Rm 0 mm vv ww t u δ σ := h.c0 (fun _ _ => rfl)
theorem ox_remembers (h : Rm cz mm vv ww t u δ σ) : OO (d_remembers δ) (fun a => ∀ k, k ≠ 22 → a.1 k = δ.1 k) := by
  have h8 := h.v8
  unfold d_remembers
  refine OO.loop (L := fun n s i => d_remembers_2 (fun s => some s) n s i) (I := fun _ a => ∀ k, k ≠ 22 → a.1 k = δ.1 k) (N := vv) ?_ ?_ vv 0 (by omega) FU (FU_gt (by omega)) δ (fun _ _ => rfl)
  · intro n j a hj hI kk
    show OO (d_remembers_2 _ (n + 1) a (nI j)) _
    have hR : Rm cz mm vv ww t u a σ := h.cx (hI 999 (by decide)) (fun k _ _ _ => hI k (by omega))
    rw [d_remembers_2, nI_1]
    obtain ⟨s, e1, -⟩ := hR.side hj
    refine OO.e (by rw [hR.dv]; exact nI_ge hj (by omega)) (OO.b e1 (OO.g (inbn (by omega) (by decide)) (kk _ (fun k hk => by rw [si_o hk]; exact hI k hk))))
  · intro n a hI
    show OO (d_remembers_2 _ (n + 1) a (nI vv)) _
    rw [d_remembers_2]
    exact OO.t (by rw [hI 999 (by decide), h.dv]; exact nI_le (Nat.le_refl _) (by omega)) (OO.ret hI)
theorem ox_counts (h : Rm cz mm vv ww t u δ σ) : OO (d_countsCrossed δ) (fun p => ∀ k, k ≠ 19 → p.1.1 k = δ.1 k) := by
  have h8 := h.v8
  unfold d_countsCrossed
  refine OO.loop (S := cS × Int32) (L := fun n s i => d_countsCrossed_4 (fun s v => some (s, v)) n s.1 s.2 i) (I := fun _ p => ∀ k, k ≠ 19 → p.1.1 k = δ.1 k) (N := vv) ?_ ?_ vv 0 (by omega) FU (FU_gt (by omega)) (δ, 0) (fun _ _ => rfl)
  · rintro n j ⟨a, c⟩ hj hI kk
    show OO (d_countsCrossed_4 _ (n + 1) a c (nI j)) _
    dsimp only at hI
    have hR : Rm 0 mm vv ww t u a σ := h.c0 hI
    rw [d_countsCrossed_4, nI_1]
    obtain ⟨s, e1, -⟩ := hR.side hj
    refine OO.e (by rw [hR.dv]; exact nI_ge hj (by omega)) (OO.b e1 (OO.g (inbn (by omega) (by decide)) (OO.ii (fun _ => kk (a, c) hI) (fun _ => kk (_, _) (fun k hk => (si_o (σ := a) (k := 19) hk).trans (hI k hk))))))
  · rintro n ⟨a, c⟩ hI
    show OO (d_countsCrossed_4 _ (n + 1) a c (nI vv)) _
    dsimp only at hI
    rw [d_countsCrossed_4]
    exact OO.t (by rw [hI 999 (by decide), h.dv]; exact nI_le (Nat.le_refl _) (by omega)) (OO.ret hI)
/-- a push on both sides, crossings not counted in the model -/
theorem jn_push0 (h : Rm 0 mm vv ww t u δ σ) {m : Nat} (hm : m < mm) (f : Int32) : JJ (d_pushes δ (nI m) f) (m_pushes σ (nI m) f) (fun a b => Rm 0 mm vv ww t u a b ∧ Fm σ b ∧ Fx δ a) := by
  have h10 := h.m10
  unfold d_pushes
  refine JJ.ol (ox_remembers h) (fun a1 q1 => ?_)
  have r1 : Rm 0 mm vv ww t u a1 σ := h.cx (q1 999 (by decide)) (fun k _ _ _ => q1 k (by omega))
  refine JJ.gl (inbn (by omega) (by decide)) ?_
  rw [ixn (by omega), r1.ln (by omega)]
  refine JJ.bl (x_held_eq _ _) ?_
  have r2 := r1.line (i := m) (hd_lk (σ.1 2 m + f))
  obtain ⟨⟨a3, x⟩, e3, q3⟩ := ox_counts r2
  dsimp only at q3
  refine ⟨a3, si σ 2 m (hd (σ.1 2 m + f) 20), by rw [e3]; rfl, ?_, r2.c0 q3, Fm.ss (by omega), ?_⟩
  · unfold m_pushes
    rw [inbn (by omega) (by decide), ixn (by omega), m_held20]
    rfl
  · refine ⟨fun k h1 h2 h3 h4 h5 h6 => ?_, fun i hi => ?_⟩
    · rw [q3 k h4, si_o h2, q1 k h6]
    · rw [q3 999 (by decide), si_o (by decide), q1 999 (by decide)]
theorem jn_wants (h : Rm cz mm vv ww t u δ σ) : ∃ r : Int32, (r = 0 ∨ r = 1) ∧ d_areWants δ = some r ∧ m_areWantsSo σ = some r := by
  have h8 := h.v8
  have w8 := h.w8
  have key : JJ (d_areWants δ) (m_areWantsSo σ) (fun a b => a = b ∧ (a = 0 ∨ a = 1)) := by
    unfold d_areWants m_areWantsSo
    refine JJ.loop (S := Unit) (T := Unit) (Lx := fun n _ i => d_areWants_2 δ (some 1) n (2 * i)) (Lm := fun n _ i => m_areWantsSo_2 σ (some 1) n i) (I := fun _ _ _ => True) (N := ww) ?_ ?_ ww 0 (by omega) FU FU (FU_gt (by omega)) (FU_gt (by omega)) () () trivial
    · intro n n' j _ _ hj _ kk
      show JJ (d_areWants_2 δ _ (n + 1) (2 * nI j)) (m_areWantsSo_2 σ _ (n' + 1) (nI j)) _
      have e2 : (2 : Int32) * nI j = nI (2 * j) := by rw [show (2 : Int32) = nI 2 from rfl, pk_mul]
      obtain ⟨⟨v, hv, e3, e4⟩, e5⟩ := h.2.2.2.1 j hj
      obtain ⟨s, f1, f2⟩ := h.side hv
      rw [d_areWants_2, m_areWantsSo_2, e2, nI_1]
      refine JJ.el (by rw [h.dw, show (2 : Int32) = nI 2 from rfl, pk_mul]; exact nI_ge (by omega) (by omega)) (JJ.er (by rw [h.mw']; exact nI_ge hj (by omega)) (JJ.gl (inbn (by omega) (by decide)) (JJ.gr (inbn (by omega) (by decide)) ?_)))
      rw [ixn (show j < 2 ^ 31 by omega), ixn (show 2 * j < 2 ^ 31 by omega), e3, e4]
      refine JJ.bl f1 (JJ.br f2 ?_)
      rw [nI_1]
      refine JJ.gl (inbn (by omega) (by decide)) ?_
      rw [ixn (by omega), e5]
      refine JJ.ii Iff.rfl (fun _ _ => ?_) (fun _ _ => JJ.ret ⟨rfl, Or.inl rfl⟩)
      have := kk () () trivial
      rw [show nI (2 * j) + 2 = 2 * nI (j + 1) by rw [show (2 : Int32) = nI 2 from rfl, pk_mul, nI_add, show 2 * (j + 1) = 2 * j + 2 by omega]]
      exact this
    · intro n n' _ _ _
      show JJ (d_areWants_2 δ _ (n + 1) (2 * nI ww)) (m_areWantsSo_2 σ _ (n' + 1) (nI ww)) _
      rw [d_areWants_2, m_areWantsSo_2]
      exact JJ.tl (by rw [h.dw]; exact (i_le _ _).mpr (Int.le_refl _)) (JJ.tr (by rw [h.mw']; exact nI_le (Nat.le_refl _) (by omega)) (JJ.ret ⟨rfl, Or.inr rfl⟩))
  obtain ⟨a, b, h1, h2, rfl, h3⟩ := key
  exact ⟨a, h3, h1, h2⟩
/-! a step of a trial -/
noncomputable def stp (b : cS) (f : Option (Nat × Int32)) : Option cS := (match f with
  | none => some b
  | some (m, v) => m_pushes b (nI m) v).bind fun b1 => (m_goesNight b1).bind fun p => some p.1
theorem jn_goes0 (h : Rm 0 mm vv ww t t δ b) (hL : LawR R b) (ht : t + 1 < 1000000) : JJ (d_goes δ R) (m_goesNight b) (fun p q => Rm 0 mm vv ww (t + 1) (t + 1) p.1 q.1 ∧ Fm b q.1 ∧ Fx δ p.1) := JJ.mono (jn_goes h ht hL) (fun _ _ q => ⟨q.2.1, q.2.2.1, q.2.2.2⟩)
/-- from one chunk two states of the model go to states of one chunk -/
theorem stp_two {f : Option (Nat × Int32)} (hf : ∀ m v, f = some (m, v) → m < mm) (h1 : Rm 0 mm vv ww t t δ b) (h2 : Rm 0 mm vv ww t t δ β) (l1 : LawR R b) (l2 : LawR R β) (ht : t + 1 < 1000000) : ∃ δ' b' β', stp b f = some b' ∧ stp β f = some β' ∧ Rm 0 mm vv ww (t + 1) (t + 1) δ' b' ∧ Rm 0 mm vv ww (t + 1) (t + 1) δ' β' ∧ Fm b b' ∧ Fm β β' := by
  have goes : ∀ δ1 b1 β1, Rm 0 mm vv ww t t δ1 b1 → Rm 0 mm vv ww t t δ1 β1 → Fm b b1 → Fm β β1 → ∃ δ' b' β', ((m_goesNight b1).bind fun p => some p.1) = some b' ∧ ((m_goesNight β1).bind fun p => some p.1) = some β' ∧ Rm 0 mm vv ww (t + 1) (t + 1) δ' b' ∧ Rm 0 mm vv ww (t + 1) (t + 1) δ' β' ∧ Fm b b' ∧ Fm β β' := by
    intro δ1 b1 β1 r1 r2 f1 f2
    obtain ⟨p, q, e1, e2, g1, g2, -⟩ := jn_goes0 r1 (l1.mv f1) ht
    obtain ⟨p', q', e3, e4, g3, g4, -⟩ := jn_goes0 r2 (l2.mv f2) ht
    rw [e1] at e3
    cases e3
    exact ⟨p.1, q.1, q'.1, by rw [e2]; rfl, by rw [e4]; rfl, g1, g3, f1.tr g2, f2.tr g4⟩
  unfold stp
  rcases f with _ | ⟨m, v⟩
  · exact goes δ b β h1 h2 Fm.rf Fm.rf
  · have hm := hf m v rfl
    obtain ⟨a1, b1, e1, e2, g1, g2, -⟩ := jn_push0 h1 hm v
    obtain ⟨a2, β1, e3, e4, g3, g4, -⟩ := jn_push0 h2 hm v
    rw [e1] at e3
    cases e3
    obtain ⟨δ', b', β', q1, q2, q3⟩ := goes a1 b1 β1 g1 g3 g2 g4
    refine ⟨δ', b', β', ?_, ?_, q3⟩
    · show (m_pushes b (nI m) v).bind _ = _
      rw [e2]; exact q1
    · show (m_pushes β (nI m) v).bind _ = _
      rw [e4]; exact q2
/-! copies for each night -/
def Qd (σx a : cS) : Prop := (∀ k, ¬ (3000 ≤ k ∧ k < 8000) → k ≠ 999 → k ≠ 16 → k ≠ 17 → a.1 k = σx.1 k) ∧ ∀ i, i ≠ 18 → i ≠ 19 → a.1 999 i = σx.1 999 i
theorem Qd.rf : Qd σx σx := ⟨fun _ _ _ _ _ => rfl, fun _ _ _ => rfl⟩
theorem Qd.ch {c : Nat} (h : Qd σx a) (hc : 3000 ≤ c ∧ c ≤ 7000) (h2 : Ch c a b) : Qd σx b := ⟨fun k h1 h3 h4 h5 => (h2 k (by omega)).trans (h.1 k h1 h3 h4 h5), fun i hi hj => by rw [h2 999 (by omega)]; exact h.2 i hi hj⟩
theorem Qd.st {k i : Nat} {v : Int32} (h : Qd σx a) (hk : k = 16 ∨ k = 17 ∨ (k = 999 ∧ (i = 18 ∨ i = 19))) : Qd σx (si a k i v) := by
  refine ⟨fun j h1 h3 h4 h5 => ?_, fun j hj hj2 => ?_⟩
  · rw [si_o (by omega)]; exact h.1 j h1 h3 h4 h5
  · by_cases e : k = 999
    · subst e
      rw [si_p (by omega)]; exact h.2 j hj hj2
    · rw [si_o (by omega)]; exact h.2 j hj hj2
theorem Qd.ex (h : Qd σx a) : Ex σx a := ⟨fun k hk => h.1 k (by omega) (by omega) (by omega) (by omega), fun i hi => h.2 i (by omega) (by omega)⟩
theorem Qd.own (h : Qd σx a) : ∀ k, k < 1000 → (vw a 1000).1 k = (vw σx 1000).1 k := fun k hk => h.1 (1000 + k) (by omega) (by omega) (by omega) (by omega)
theorem Qd.law (h : Qd σx a) (hR : x_law σx rs = some R) : x_law a rs = some R := by
  rw [law_eq (a := σx) (h.2 7 (by decide) (by decide))]; exact hR
/-- the first n copies are made -/
def Cp1 (σx : cS) (n : Nat) (a : cS) : Prop := Qd σx a ∧ ∀ j, j < n → eqD (vw a (3000 + 1000 * j)) (vw σx 1000)
theorem Cp1.step {n : Nat} (h : Cp1 σx n a) (hn : n ≤ 4) : OO (d_copies (vw2 a (3000 + 1000 * n) 1000)) (fun z => Cp1 σx (n + 1) (pb2 a (3000 + 1000 * n) 1000 z)) := by
  refine OO.mono (ox_copies a (by omega)) (fun z ⟨z1, z2⟩ => ⟨h.1.ch (by omega) z1, fun j hj => ?_⟩)
  by_cases e : j = n
  · subst e
    exact z2.tr (eqD.of h.1.own)
  · exact eqD.tr (eqD.of (fun k hk => z1.vw (by omega) hk)) (h.2 j (by omega))
theorem ox_prepares (h1 : σx.1 999 0 = 1) {n : Nat} (hn : n ≤ 4) : OO (x_preparesDeep σx (nI n)) (Cp1 σx (n + 1)) := by
  have hz : ∀ a k, Cp1 σx k a → nz (a.1 999 0) = true := fun a k ha => by rw [ha.1.2 0 (by decide) (by decide), h1]; rfl
  have h0 : Cp1 σx 0 σx := ⟨Qd.rf, fun j hj => absurd hj (by omega)⟩
  have lt : ∀ k : Nat, k ≤ 4 → (nI n < nI k ↔ n < k) := fun k hk => nI_ltI (by omega) (by omega)
  unfold x_preparesDeep
  refine OO.e (nI_pos (by omega)) (OO.g (hz _ _ h0) (OO.bd (h0.step (by omega)) (fun z1 q1 => ?_)))
  refine OO.ii (fun c => OO.ret ?_) (fun c => ?_)
  · have := (lt 1 (by decide)).mp c
    rw [show n + 1 = 1 by omega]; exact q1
  have c1 : ¬ n < 1 := fun q => c ((lt 1 (by decide)).mpr q)
  refine OO.g (hz _ _ q1) (OO.bd (q1.step (by omega)) (fun z2 q2 => ?_))
  refine OO.ii (fun c => OO.ret ?_) (fun c => ?_)
  · have := (lt 2 (by decide)).mp c
    rw [show n + 1 = 2 by omega]; exact q2
  have c2 : ¬ n < 2 := fun q => c ((lt 2 (by decide)).mpr q)
  refine OO.g (hz _ _ q2) (OO.bd (q2.step (by omega)) (fun z3 q3 => ?_))
  refine OO.ii (fun c => OO.ret ?_) (fun c => ?_)
  · have := (lt 3 (by decide)).mp c
    rw [show n + 1 = 3 by omega]; exact q3
  have c3 : ¬ n < 3 := fun q => c ((lt 3 (by decide)).mpr q)
  refine OO.g (hz _ _ q3) (OO.bd (q3.step (by omega)) (fun z4 q4 => ?_))
  refine OO.ii (fun c => OO.ret ?_) (fun c => ?_)
  · have := (lt 4 (by decide)).mp c
    rw [show n + 1 = 4 by omega]; exact q4
  have c4 : ¬ n < 4 := fun q => c ((lt 4 (by decide)).mpr q)
  refine OO.g (hz _ _ q4) (OO.bd (q4.step (by omega)) (fun z5 q5 => ?_))
  refine OO.t (nI_lt (b := 5) (by omega) (by decide)) (OO.ret ?_)
  rw [show n + 1 = 5 by omega]; exact q5
end PU
