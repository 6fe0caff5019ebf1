/-! PURE LAW: acts -/
set_option maxRecDepth 100000
def Xs (σ σ' : cS) : Prop := (∀ k, 9000 ≤ k ∨ k = 9 ∨ (990 ≤ k ∧ k ≤ 993) → σ'.1 k = σ.1 k) ∧ ∀ i, i = 6 ∨ i = 7 ∨ i = 10 ∨ i = 15 → σ'.1 999 i = σ.1 999 i
def Ms (σ σ' : cS) : Prop := (∀ i, i = 7 ∨ i = 8 → σ'.1 1 i = σ.1 1 i) ∧ (∀ i, i = 27 ∨ i = 31 ∨ i = 36 → σ'.1 999 i = σ.1 999 i) ∧ (∀ b, (37 ≤ b ∧ b ≤ 43) ∨ b = 65 → σ'.1 b = σ.1 b) ∧ ∀ i, i < 4400 → σ'.1 64 i = σ.1 64 i
theorem Xs.rf {σ : cS} : Xs σ σ := ⟨fun _ _ => rfl, fun _ _ => rfl⟩
theorem Xs.tr {a b c : cS} (h : Xs a b) (h2 : Xs b c) : Xs a c := ⟨fun k hk => (h2.1 k hk).trans (h.1 k hk), fun i hi => (h2.2 i hi).trans (h.2 i hi)⟩
theorem Xs.ch {σ σ' : cS} {b : Nat} (h : Ch b σ σ') (hb : 1000 ≤ b ∧ b ≤ 8000) : Xs σ σ' := ⟨fun k hk => h k (by omega), fun i _ => by rw [h 999 (by omega)]⟩
theorem Xs.st {σ : cS} {k i : Nat} {v : Int32} (hk : 1000 ≤ k ∧ k < 9000) : Xs σ (si σ k i v) := ⟨fun j hj => si_o (by omega), fun j hj => by rw [si_o (by omega)]⟩
theorem Ms.rf {σ : cS} : Ms σ σ := ⟨fun _ _ => rfl, fun _ _ => rfl, fun _ _ => rfl, fun _ _ => rfl⟩
theorem Ms.tr {a b c : cS} (h : Ms a b) (h2 : Ms b c) : Ms a c := ⟨fun i hi => (h2.1 i hi).trans (h.1 i hi), fun i hi => (h2.2.1 i hi).trans (h.2.1 i hi), fun k hk => (h2.2.2.1 k hk).trans (h.2.2.1 k hk), fun i hi => (h2.2.2.2 i hi).trans (h.2.2.2 i hi)⟩
theorem Ms.fm {σ σ' : cS} (h : Fm σ σ') : Ms σ σ' := ⟨fun i hi => h.2 i (by omega), fun i _ => by rw [h.1 999 (by decide) (by decide) (by decide) (by decide) (by decide) (by decide)], fun b hb => h.1 b (by omega) (by omega) (by omega) (by omega) (by omega) (by omega), fun i _ => by rw [h.1 64 (by decide) (by decide) (by decide) (by decide) (by decide) (by decide)]⟩
theorem Ms.st {σ : cS} {k i : Nat} {v : Int32} (hk : (k = 1 ∧ i ≠ 7 ∧ i ≠ 8) ∨ (k ≠ 1 ∧ k ≠ 999 ∧ ¬ (37 ≤ k ∧ k ≤ 43) ∧ k ≠ 64 ∧ k ≠ 65) ∨ (k = 999 ∧ i ≠ 27 ∧ i ≠ 31 ∧ i ≠ 36)) : Ms σ (si σ k i v) := by
  refine ⟨fun j hj => ?_, fun j hj => ?_, fun b hb => si_o (by omega), fun j hj => by rw [si_o (by omega)]⟩
  · by_cases e : k = 1
    · subst e; exact si_p (by omega)
    · rw [si_o (by omega)]
  · by_cases e : k = 999
    · subst e; exact si_p (by omega)
    · rw [si_o (by omega)]
section PO
variable {σx σm σx' σm' : cS} {rs : List RS} {im : IM} {mm vv ww t u lg un : Nat} {δ σ δ' σ' : cS}
theorem PL.strip (h : PL σx rs im σm) (hx : Xs σx σx') (hm : Ms σm σm') (hs : Ps σx' σm') : PL σx' rs im σm' := by
  obtain ⟨⟨tp, t1, t2, t3, t4⟩, ⟨r1, r2, r3, r4⟩, ⟨g1, g2, g3, g4⟩, -, hi⟩ := h
  obtain ⟨x1, x2⟩ := hx
  obtain ⟨m1, m2, m3, m4⟩ := hm
  refine ⟨⟨tp, t1, (x2 10 (by omega)).trans t2, (m2 27 (by omega)).trans t3, fun i hi => ?_⟩, ⟨r1, (x2 15 (by omega)).trans r2, (m2 31 (by omega)).trans r3, fun r hr => (r4 r hr).mv (Sl.of (fun k h1 h2 => m3 k (by omega)))⟩, ⟨?_, ?_, (m2 36 (by omega)).trans g3, fun k h1 h2 i => by rw [x1 k (by omega)]; exact g4 k h1 h2 i⟩, hs, ⟨fun k hk => ?_, fun k hk => (x1 k (by omega)).trans (hi.2 k hk)⟩⟩
  · rw [x1 9 (by omega), m3 37 (by omega)]; exact t4 i hi
  · rw [x2 6 (by omega), m1 7 (by omega)]; exact g1
  · rw [x2 7 (by omega), m1 8 (by omega)]; exact g2
  · rcases hi.1 k hk with ⟨a, b⟩ | ⟨a, b, c1, c2, c3⟩
    · exact Or.inl ⟨a, by rw [m3 65 (by omega)]; exact b⟩
    · refine Or.inr ⟨a, by rw [m3 65 (by omega)]; exact b, ?_, ?_, ?_⟩
      · rw [x1 (990 + k) (by omega), m4 _ (by omega)]; exact c1
      · rw [x1 (990 + k) (by omega), m4 _ (by omega)]; exact c2
      · have eu := unp_em hk (fun i hi => m4 (1100 * k + i) (by omega))
        rw [x1 (990 + k) (by omega)]
        rcases c3 with ⟨p, q⟩ | ⟨p, q⟩
        · exact Or.inl ⟨p, q.em eu⟩
        · exact Or.inr ⟨p, (q.em eu).ex (eqD.of (fun j hj => x1 (10000 + 1000 * k + j) (by omega)))⟩
theorem PL.ps (h : PL σx rs im σm) : (σx.1 999 0 = 0 ∧ V0 σm) ∨ (σx.1 999 0 = 1 ∧ ∃ mm vv ww t lg un, VfN mm vv ww t lg un (vw σx 1000) σm) := h.2.2.2.1
/-- the law in force on both sides -/
theorem PL.law (h : PL σx rs im σm) : ∃ R, x_law σx rs = some R ∧ LawR R σm := by
  obtain ⟨-, ⟨r1, r2, r3, r4⟩, ⟨-, ⟨e, hf⟩, -, -⟩, -, -⟩ := h
  rcases hf with hf | ⟨r, hr, hf⟩
  · exact ⟨none, if_pos hf, Or.inl ⟨rfl, by rw [← e]; exact hf⟩⟩
  · refine ⟨some (rs.getD r []), ?_, Or.inr ⟨r, _, rfl, by omega, by rw [← e]; exact hf, r4 r hr⟩⟩
    unfold x_law
    rw [if_neg (by rw [hf]; intro q; have := congrArg Int32.toInt q; rw [nI_toInt (by omega)] at this; revert this; rw [show (-1 : Int32).toInt = -1 by decide]; omega), hf, inbn hr (by omega), ixn (by omega)]
    rfl
theorem law_eq {a b : cS} (h : b.1 999 7 = a.1 999 7) : x_law b rs = x_law a rs := by
  unfold x_law
  simp only [h]
theorem q_isMile (h : PL σx rs im σm) (v : Int32) : ∃ r, x_isMile σx v = some r ∧ m_isMile σm v = some r ∧ (r = 0 ∨ (r = 1 ∧ σx.1 999 0 = 1 ∧ ∃ mm vv ww t lg un j, VfN mm vv ww t lg un (vw σx 1000) σm ∧ j < mm ∧ v = nI j)) := by
  have hm : ∀ c : Int32, σm.1 1 (ix 0) - 1 = c → m_isMile σm v = some (ib v 0 c) := by
    intro c hc
    unfold m_isMile
    rw [hc]
    refine (congrArg (fun z => Option.bind z _) (m_in_eq v 0 c)).trans ?_
    show gd (zb (ib v 0 c)) _ = _
    rcases ib_e (v := v) (a := 0) (b := c) with e | ⟨e, -⟩ <;> rw [e] <;> rfl
  rcases h.ps with ⟨h0, hv⟩ | ⟨h1, mm, vv, ww, t, lg, un, hV⟩
  · refine ⟨0, if_pos h0, ?_, Or.inl rfl⟩
    rw [hm (-1) (by rw [show ix 0 = 0 from rfl, hv.1 0 (by decide)]; rfl), ib_0]
    rintro ⟨a, b⟩
    rw [i_le] at a b
    rw [show (0 : Int32).toInt = 0 by decide] at a
    rw [show (-1 : Int32).toInt = -1 by decide] at b
    omega
  · have hn := hV.1
    have h10 := hn.m10
    have h2 : 2 ≤ mm := hn.2.2.2.2.2.1
    have hM := hm (nI (mm - 1)) (by rw [hn.m', nI_m1 (by omega)])
    have e0 : σx.1 1999 0 = nI mm := hn.dm
    have hx : x_isMile σx v = if v < 0 then some 0 else if nI mm ≤ v then some 0 else some 1 := by
      unfold x_isMile
      rw [if_neg (by rw [h1]; decide), e0]
    rcases pk_ix v (n := mm) (by omega) with c | c | ⟨j, hj, rfl⟩
    · refine ⟨0, by rw [hx, if_pos c], ?_, Or.inl rfl⟩
      rw [hM, ib_0]
      rintro ⟨a, -⟩
      exact (n_le _ _).mpr a c
    · refine ⟨0, ?_, ?_, Or.inl rfl⟩
      · rw [hx]
        split
        · rfl
        · first | rfl | rw [if_pos c]
      · rw [hM, ib_0]
        rintro ⟨-, b⟩
        rw [i_le] at b c
        rw [nI_toInt (by omega)] at b c
        omega
    · refine ⟨1, by rw [hx, if_neg (nI_pos (by omega)), if_neg (nI_ge hj (by omega))], ?_, Or.inr ⟨rfl, h1, mm, vv, ww, t, lg, un, j, hV, hj, rfl⟩⟩
      rw [hM, ib_1 ⟨nI_pos' (by omega), nI_le (by omega) (by omega)⟩]
theorem q_isVillage (h : PL σx rs im σm) (v : Int32) : ∃ r, x_isVillage σx v = some r ∧ m_isVillage σm v = some r ∧ (r = 0 ∨ (r = 1 ∧ σx.1 999 0 = 1 ∧ ∃ mm vv ww t lg un j, VfN mm vv ww t lg un (vw σx 1000) σm ∧ j < vv ∧ v = nI j)) := by
  have hm : ∀ c : Int32, σm.1 1 (ix 2) - 1 = c → m_isVillage σm v = some (ib v 0 c) := by
    intro c hc
    unfold m_isVillage
    rw [hc]
    refine (congrArg (fun z => Option.bind z _) (m_in_eq v 0 c)).trans ?_
    show gd (zb (ib v 0 c)) _ = _
    rcases ib_e (v := v) (a := 0) (b := c) with e | ⟨e, -⟩ <;> rw [e] <;> rfl
  have no : ib v 0 (-1) = 0 := by
    rw [ib_0]
    rintro ⟨a, b⟩
    rw [i_le] at a b
    rw [show (0 : Int32).toInt = 0 by decide] at a
    rw [show (-1 : Int32).toInt = -1 by decide] at b
    omega
  rcases h.ps with ⟨h0, hv⟩ | ⟨h1, mm, vv, ww, t, lg, un, hV⟩
  · refine ⟨0, if_pos h0, ?_, Or.inl rfl⟩
    rw [hm (-1) (by rw [show ix 2 = 2 from rfl, hv.1 2 (by decide)]; rfl), no]
  · have hn := hV.1
    have h8 := hn.v8
    have e0 : σx.1 1999 2 = nI vv := hn.dv
    have hx : x_isVillage σx v = if v < 0 then some 0 else if nI vv ≤ v then some 0 else some 1 := by
      unfold x_isVillage
      rw [if_neg (by rw [h1]; decide), e0]
    by_cases hz : vv = 0
    · subst hz
      refine ⟨0, ?_, ?_, Or.inl rfl⟩
      · rw [hx]
        split
        · rfl
        · rename_i q
          exact if_pos ((n_le _ _).mp q)
      · rw [hm (-1) (by rw [hn.mv']; rfl), no]
    have hM := hm (nI (vv - 1)) (by rw [hn.mv', nI_m1 (by omega)])
    rcases pk_ix v (n := vv) (by omega) with c | c | ⟨j, hj, rfl⟩
    · refine ⟨0, by rw [hx, if_pos c], ?_, Or.inl rfl⟩
      rw [hM, ib_0]
      rintro ⟨a, -⟩
      exact (n_le _ _).mpr a c
    · refine ⟨0, ?_, ?_, Or.inl rfl⟩
      · rw [hx]
        split
        · rfl
        · first | rfl | rw [if_pos c]
      · rw [hM, ib_0]
        rintro ⟨-, b⟩
        rw [i_le] at b c
        rw [nI_toInt (by omega)] at b c
        omega
    · refine ⟨1, by rw [hx, if_neg (nI_pos (by omega)), if_neg (nI_ge hj (by omega))], ?_, Or.inr ⟨rfl, h1, mm, vv, ww, t, lg, un, j, hV, hj, rfl⟩⟩
      rw [hM, ib_1 ⟨nI_pos' (by omega), nI_le (by omega) (by omega)⟩]
theorem q_isSoft (h : PL σx rs im σm) (v : Int32) : ∃ r, x_isSoft σx v = some r ∧ m_isSoft σm v = some r ∧ (r = 0 ∨ (r = 1 ∧ σx.1 999 0 = 1 ∧ ∃ mm vv ww t lg un j, VfN mm vv ww t lg un (vw σx 1000) σm ∧ j < mm ∧ v = nI j)) := by
  obtain ⟨r, e1, e2, hr⟩ := q_isMile h v
  unfold x_isSoft m_isSoft
  rw [e1, e2]
  rcases hr with rfl | ⟨rfl, h1, mm, vv, ww, t, lg, un, j, hV, hj, rfl⟩
  · exact ⟨0, rfl, rfl, Or.inl rfl⟩
  · rw [d_isBaked_eq, m_isBaked_eq, hV.1.bd, h1]
    rcases bk_c (σm.1 1 4) (nI j) with q | q <;> rw [q]
    · exact ⟨1, rfl, rfl, Or.inr ⟨rfl, rfl, mm, vv, ww, t, lg, un, j, hV, hj, rfl⟩⟩
    · exact ⟨0, rfl, rfl, Or.inl rfl⟩
theorem q_isStrip (h : PL σx rs im σm) : (σx.1 999 0 = 0 ∧ m_isStrip σm = some 0) ∨ (σx.1 999 0 = 1 ∧ m_isStrip σm = some 1 ∧ ∃ mm vv ww t lg un, VfN mm vv ww t lg un (vw σx 1000) σm) := by
  unfold m_isStrip
  rcases h.ps with ⟨h0, hv⟩ | ⟨h1, mm, vv, ww, t, lg, un, hV⟩
  · exact Or.inl ⟨h0, if_pos (by rw [show ix 0 = 0 from rfl, hv.1 0 (by decide)]; decide)⟩
  · have h2 : 2 ≤ mm := hV.1.2.2.2.2.2.1
    have h10 := hV.1.m10
    exact Or.inr ⟨h1, if_neg (by rw [hV.1.m']; exact nI_nle (by omega) (by omega)), mm, vv, ww, t, lg, un, hV⟩
end PO
