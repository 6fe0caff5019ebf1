/-! PURE LAW: a whole night -/
set_option maxRecDepth 100000
theorem jmin99 (x : Int32) : jmin 99 x = if x ≤ 99 then x else 99 := by
  unfold jmin
  by_cases h : x < 99
  · rw [if_pos h, if_pos ((i_le _ _).mpr (by have := (i_lt _ _).mp h; omega))]
  · rw [if_neg h]
    by_cases h2 : x ≤ 99
    · rw [if_pos h2]
      rw [i_lt] at h
      rw [i_le] at h2
      exact (i_eq _ _).mpr (by omega)
    · rw [if_neg h2]
section NI
variable {cz mm vv ww t u : Nat} {δ σ δ' σ' : cS} {ρ τ : Type} {P : ρ → τ → Prop}
/-- inside a night, begun in the model at σ0 -/
def In (cz mm vv ww t u : Nat) (δ0 σ0 : cS) (a b : cS) : Prop := Rm cz mm vv ww t u a b ∧ FF δ0 σ0 a b ∧ Ly vv a b
theorem jl_dough {δ0 σ0 : cS} {w : Int32} {R : Option RS} {Kx : cS → Option ρ} {Km : cS → Option τ} (h : In cz mm vv ww t u δ0 σ0 δ σ) (hK : ∀ a b, In cz mm vv ww t u δ0 σ0 a b → JJ (Kx a) (Km b) P) : JJ (d_passes_6 w R Kx FU δ 0) (m_nightOf_6 w Km FU σ 0) P := by
  have h10 := h.1.m10
  refine JJ.loop (Lx := fun n s i => d_passes_6 w R Kx n s i) (Lm := fun n s i => m_nightOf_6 w Km n s i) (I := fun _ a b => In cz mm vv ww t u δ0 σ0 a b) (N := mm) ?_ ?_ mm 0 (by omega) FU FU (FU_gt (by omega)) (FU_gt (by omega)) δ σ h
  · intro n n' j a b hj ⟨hR, hF, hL⟩ k
    show JJ (d_passes_6 _ _ _ (n + 1) a (nI j)) (m_nightOf_6 _ _ (n' + 1) b (nI j)) _
    rw [d_passes_6, m_nightOf_6]
    refine JJ.el (by rw [hR.dm]; exact nI_ge hj (by omega)) (JJ.er (by rw [hR.m']; exact nI_ge hj (by omega)) ?_)
    refine JJ.bl (d_isBaked_eq _ _) (JJ.br (m_isBaked_eq _ _) ?_)
    rw [hR.bd, nI_1]
    refine JJ.ii Iff.rfl (fun _ _ => JJ.gl (inbn (by omega) (by decide)) (JJ.gr (inbn (by omega) (by decide)) ?_)) (fun _ _ => k _ _ ⟨hR, hF, hL⟩)
    rw [ixn (by omega), hR.dg (by omega), jmin99]
    by_cases hq : b.1 3 j + w ≤ 99
    · rw [if_pos hq]
      exact JJ.tr hq (k _ _ ⟨hR.dough, hF.st (by omega) (by omega), fun v hv => by rw [si_o (by decide), si_o (by decide)]; exact hL v hv⟩)
    · rw [if_neg hq]
      exact JJ.er hq (k _ _ ⟨hR.dough, hF.st (by omega) (by omega), fun v hv => by rw [si_o (by decide), si_o (by decide)]; exact hL v hv⟩)
  · intro n n' a b h
    show JJ (d_passes_6 _ _ _ (n + 1) a (nI mm)) (m_nightOf_6 _ _ (n' + 1) b (nI mm)) _
    rw [d_passes_6, m_nightOf_6]
    exact JJ.tl (by rw [h.1.dm]; exact nI_le (Nat.le_refl _) (by omega)) (JJ.tr (by rw [h.1.m']; exact nI_le (Nat.le_refl _) (by omega)) (hK a b h))
/-- the creeps of the first j miles stand -/
def Cp (j : Nat) (a b : cS) : Prop := ∀ i, i < j → a.1 21 i = b.1 47 i
theorem jl_creep {δ0 σ0 : cS} {w : Int32} {R : Option RS} {Kx : cS → Option ρ} {Km : cS → Option τ} (h : In cz mm vv ww t t δ0 σ0 δ σ) (hR0 : LawR R σ0) (hK : ∀ a b, In cz mm vv ww t t δ0 σ0 a b → Cp mm a b → JJ (Kx a) (Km b) P) : JJ (d_passes_49 w R Kx FU δ 0) (m_nightOf_64 w Km FU σ 0) P := by
  have h10 := h.1.m10
  refine JJ.loop (Lx := fun n s i => d_passes_49 w R Kx n s i) (Lm := fun n s i => m_nightOf_64 w Km n s i) (I := fun j a b => In cz mm vv ww t t δ0 σ0 a b ∧ Cp j a b) (N := mm) ?_ ?_ mm 0 (by omega) FU FU (FU_gt (by omega)) (FU_gt (by omega)) δ σ ⟨h, fun i hi => absurd hi (by omega)⟩
  · intro n n' j a b hj ⟨⟨hR, hF, hL⟩, hC⟩ k
    show JJ (d_passes_49 _ _ _ (n + 1) a (nI j)) (m_nightOf_64 _ _ (n' + 1) b (nI j)) _
    rw [d_passes_49, m_nightOf_64]
    refine JJ.el (by rw [hR.dm]; exact nI_ge hj (by omega)) (JJ.er (by rw [hR.m']; exact nI_ge hj (by omega)) ?_)
    refine JJ.bl (d_isBaked_eq _ _) (JJ.br (m_isBaked_eq _ _) ?_)
    rw [hR.bd, nI_1]
    have fin : ∀ (a' b' : cS) (x : Int32), a'.1 = a.1 → b'.1 = b.1 → JJ (d_passes_49 w R Kx n (si a' 21 j x) (nI (j + 1))) (m_nightOf_64 w Km n' (si b' 47 j x) (nI (j + 1))) P := by
      intro a' b' x ea eb
      refine k _ _ ⟨⟨((hR.cx (by rw [ea]) (fun _ _ _ _ => by rw [ea])).cm (fun _ _ _ => by rw [eb]) |>.sx (by omega)).sm (by omega), FF.st (hF.tr ⟨Fm.e1 eb, Fx.e1 ea⟩) (by omega) (by omega), fun v hv => ?_⟩, fun i hi => ?_⟩
      · rw [si_o (by decide), si_o (by decide), ea, eb]; exact hL v hv
      · rw [si_s, si_s, ea, eb]
        by_cases e : i = j
        · subst e; rw [upd_a, upd_a]
        · exact upd_c (hC i (by omega))
    refine JJ.ii Iff.rfl (fun _ _ => ?_) (fun _ _ => JJ.gl (inbn (by omega) (by decide)) (JJ.gr (inbn (by omega) (by decide)) ?_))
    · refine JJ.bd (jn_creepOf hR hj w (hR0.mv hF.1)) ?_
      rintro ⟨a', x⟩ ⟨b', y⟩ ⟨exy, ea, eb⟩
      dsimp only at exy ea eb
      subst exy
      refine JJ.gl (inbn (by omega) (by decide)) (JJ.gr (inbn (by omega) (by decide)) ?_)
      rw [ixn (by omega)]
      exact fin a' b' x ea eb
    · rw [ixn (by omega)]
      exact fin a b 0 rfl rfl
  · intro n n' a b ⟨h, hC⟩
    show JJ (d_passes_49 _ _ _ (n + 1) a (nI mm)) (m_nightOf_64 _ _ (n' + 1) b (nI mm)) _
    rw [d_passes_49, m_nightOf_64]
    exact JJ.tl (by rw [h.1.dm]; exact nI_le (Nat.le_refl _) (by omega)) (JJ.tr (by rw [h.1.m']; exact nI_le (Nat.le_refl _) (by omega)) (hK a b h hC))
theorem jl_move {δ0 σ0 : cS} {Kx : cS → Option ρ} {Km : cS → Option τ} (h : In cz mm vv ww t u δ0 σ0 δ σ) (hC : Cp mm δ σ) (hK : ∀ a b, In cz mm vv ww t u δ0 σ0 a b → JJ (Kx a) (Km b) P) : JJ (d_passes_90 Kx FU δ 0) (m_nightOf_106 Km FU σ 0) P := by
  have h10 := h.1.m10
  refine JJ.loop (Lx := fun n s i => d_passes_90 Kx n s i) (Lm := fun n s i => m_nightOf_106 Km n s i) (I := fun _ a b => In cz mm vv ww t u δ0 σ0 a b ∧ Cp mm a b) (N := mm) ?_ ?_ mm 0 (by omega) FU FU (FU_gt (by omega)) (FU_gt (by omega)) δ σ ⟨h, hC⟩
  · intro n n' j a b hj ⟨⟨hR, hF, hL⟩, hC⟩ k
    show JJ (d_passes_90 _ (n + 1) a (nI j)) (m_nightOf_106 _ (n' + 1) b (nI j)) _
    rw [d_passes_90, m_nightOf_106]
    refine JJ.el (by rw [hR.dm]; exact nI_ge hj (by omega)) (JJ.er (by rw [hR.m']; exact nI_ge hj (by omega)) ?_)
    refine JJ.gl (inbn (by omega) (by decide)) (JJ.gr (inbn (by omega) (by decide)) ?_)
    rw [ixn (by omega), hR.ln (by omega), hC j hj, nI_1]
    refine JJ.bl (x_held_eq _ _) (JJ.br (m_held20 _) ?_)
    exact k _ _ ⟨⟨hR.line (hd_lk _), hF.st (by omega) (by omega), fun v hv => by rw [si_o (by decide), si_o (by decide)]; exact hL v hv⟩, fun i hi => by rw [si_o (by decide), si_o (by decide)]; exact hC i hi⟩
  · intro n n' a b ⟨h, hC⟩
    show JJ (d_passes_90 _ (n + 1) a (nI mm)) (m_nightOf_106 _ (n' + 1) b (nI mm)) _
    rw [d_passes_90, m_nightOf_106]
    exact JJ.tl (by rw [h.1.dm]; exact nI_le (Nat.le_refl _) (by omega)) (JJ.tr (by rw [h.1.m']; exact nI_le (Nat.le_refl _) (by omega)) (hK a b h))
theorem jl_sag {δ0 σ0 : cS} {Kx : cS → Option ρ} {Km : cS → Option τ} (h : In cz mm vv ww t u δ0 σ0 δ σ) (hK : ∀ a b, In cz mm vv ww t u δ0 σ0 a b → JJ (Kx a) (Km b) P) : JJ (d_passes_130 Kx FU δ 0) (m_nightOf_149 Km FU σ 0) P := by
  have h10 := h.1.m10
  have h2 : 2 ≤ mm := h.1.2.2.2.2.2.1
  refine JJ.loop (Lx := fun n s i => d_passes_130 Kx n s i) (Lm := fun n s i => m_nightOf_149 Km n s i) (I := fun _ a b => In cz mm vv ww t u δ0 σ0 a b) (N := mm - 1) ?_ ?_ (mm - 1) 0 (by omega) FU FU (FU_gt (by omega)) (FU_gt (by omega)) δ σ h
  · intro n n' j a b hj ⟨hR, hF, hL⟩ k
    show JJ (d_passes_130 _ (n + 1) a (nI j)) (m_nightOf_149 _ (n' + 1) b (nI j)) _
    rw [d_passes_130, m_nightOf_149, nI_1]
    refine JJ.el (by rw [hR.dm]; exact nI_ge (by omega) (by omega)) (JJ.er (by rw [hR.m']; exact nI_ge (by omega) (by omega)) ?_)
    refine JJ.bd (jn_sags hR (by omega)) ?_
    intro a' b' ⟨q1, q2, q3, q4⟩
    exact k _ _ ⟨q1, hF.tr q2, fun v hv => by rw [q3, q4]; exact hL v hv⟩
  · intro n n' a b h
    show JJ (d_passes_130 _ (n + 1) a (nI (mm - 1))) (m_nightOf_149 _ (n' + 1) b (nI (mm - 1))) _
    rw [d_passes_130, m_nightOf_149, nI_1]
    exact JJ.tl (by rw [h.1.dm]; exact nI_le (by omega) (by omega)) (JJ.tr (by rw [h.1.m']; exact nI_le (by omega) (by omega)) (hK a b h))
/-- a night of a warmth -/
theorem jn_passes (h : Rm cz mm vv ww t t δ σ) (ht : t + 1 < 1000000) (w : Int32) {R : Option RS} (hR : LawR R σ) : JJ (d_passes δ w R) (m_nightOf σ w) (fun a b => (a.2 = b.2 ∧ ∃ c, c ≤ 8 ∧ a.2 = nI c) ∧ Rm cz mm vv ww (t + 1) (t + 1) a.1 b.1 ∧ FF δ σ a.1 b.1) := by
  unfold d_passes m_nightOf
  refine JJ.bd (jn_remembers h) ?_
  intro a1 b1 ⟨r1, f1, l1⟩
  refine jl_dough ⟨r1, f1, l1⟩ (fun a2 b2 h2 => ?_)
  refine jl_creep h2 hR (fun a3 b3 h3 c3 => ?_)
  refine jl_move h3 c3 (fun a4 b4 h4 => ?_)
  refine jl_sag h4 (fun a5 b5 h5 => ?_)
  have hx : Rm cz mm vv ww (t + 1) t (si a5 999 8 (a5.1 999 8 + 1)) b5 := by
    rw [h5.1.dt, nI_1]
    exact h5.1.nowx ht
  refine JJ.bd (jn_counts hx (fun v hv => by rw [si_o (by decide)]; exact h5.2.2 v hv)) ?_
  rintro ⟨a6, x⟩ ⟨b6, y⟩ ⟨q1, q2, q3⟩
  refine JJ.ret ⟨q1, ?_, h5.2.1.tr (FF.tr ⟨Fm.rf, Fx.s8⟩ (q3.tr ⟨Fm.s5, Fx.rf⟩))⟩
  show Rm cz mm vv ww (t + 1) (t + 1) a6 (si b6 1 (ix 5) (b6.1 1 (ix 5) + 1))
  rw [show ix 5 = 5 from rfl, q2.mt, nI_1]
  exact q2.nowm ht
theorem jn_warm (h : Rm cz mm vv ww t u δ σ) {n : Nat} (hn : n < 1000000) : ∃ w, d_warmOn δ (nI n) = some w ∧ m_warmthOf σ (nI n) = some w := by
  unfold d_warmOn m_warmthOf
  by_cases e : 100 ≤ n
  · exact ⟨0, if_pos (nI_le e (by omega)), if_pos (nI_le e (by omega))⟩
  · refine ⟨σ.1 5 n, ?_, ?_⟩
    · rw [if_neg (show ¬ (100 : Int32) ≤ nI n from nI_ge (a := n) (b := 100) (by omega) (by decide)), inbn (by omega) (by decide), ixn (by omega), h.2.2.2.2.1 n (by omega)]; rfl
    · rw [if_neg (show ¬ (100 : Int32) ≤ nI n from nI_ge (a := n) (b := 100) (by omega) (by decide)), inbn (by omega) (by decide), ixn (by omega)]; rfl
theorem jn_goes (h : Rm cz mm vv ww t t δ σ) (ht : t + 1 < 1000000) {R : Option RS} (hR : LawR R σ) : JJ (d_goes δ R) (m_goesNight σ) (fun a b => (a.2 = b.2 ∧ ∃ c, c ≤ 8 ∧ a.2 = nI c) ∧ Rm cz mm vv ww (t + 1) (t + 1) a.1 b.1 ∧ FF δ σ a.1 b.1) := by
  unfold d_goes m_goesNight
  rw [h.dt, show ix 5 = 5 from rfl, h.mt]
  obtain ⟨w, e1, e2⟩ := jn_warm h (n := t) (by omega)
  refine JJ.bl e1 (JJ.br e2 (JJ.bd (jn_passes h ht w hR) ?_))
  rintro ⟨a, x⟩ ⟨b, y⟩ q
  exact JJ.ret q
/-- a push -/
theorem jn_pushes (h : Rm cz mm vv ww t u δ σ) {m : Nat} (hm : m < mm) (f : Int32) : JJ (d_pushes δ (nI m) f) ((m_notesSides σ).bind fun σ1 => (m_pushes σ1 (nI m) f).bind fun σ2 => m_crossing σ2) (fun a b => Rm cz mm vv ww t u a b.1 ∧ FF δ σ a b.1) := by
  have h10 := h.m10
  unfold d_pushes
  refine JJ.bd (jn_remembers h) ?_
  intro a1 b1 ⟨r1, f1, l1⟩
  unfold m_pushes
  refine JJ.gl (inbn (by omega) (by decide)) ?_
  refine JJ.br (a := si b1 2 m (hd (b1.1 2 m + f) 20)) (by rw [inbn (by omega) (by decide), ixn (by omega), m_held20]; rfl) ?_
  rw [ixn (by omega), r1.ln (by omega)]
  refine JJ.bl (x_held_eq _ _) ?_
  have hc := jn_counts (r1.line (i := m) (hd_lk (b1.1 2 m + f))) (fun v hv => by rw [si_o (by decide), si_o (by decide)]; exact l1 v hv)
  obtain ⟨⟨a, x⟩, ⟨b, y⟩, ha, hb, q1, q2, q3⟩ := hc
  refine ⟨a, (b, y), ?_, hb, q2, f1.tr ((FF.rf.st (by omega) (by omega)).tr q3)⟩
  rw [ha]
  rfl
end NI
