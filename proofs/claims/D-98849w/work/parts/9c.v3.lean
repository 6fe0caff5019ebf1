/-! PURE LAW: op_image, op_back -/
set_option maxRecDepth 100000
section PV
variable {σx σx' σm σm' σ : cS} {rs : List RS} {im : IM} {k : Nat}
theorem imA_n : ∀ b ∈ imA, b ≠ 64 ∧ b ≠ 65 ∧ b ≠ 999 := by decide
theorem PL.img (h : PL σx rs im σm) (hk : k < 4) (x1 : ∀ j, j ≠ 990 + k → ¬ (10000 + 1000 * k ≤ j ∧ j < 10000 + 1000 * k + 1000) → σx'.1 j = σx.1 j) (m1 : ∀ b, b ≠ 64 → b ≠ 65 → b ≠ 50 → b ≠ 999 → σm'.1 b = σm.1 b) (m2 : ∀ i, i ≠ 66 → i ≠ 67 → σm'.1 999 i = σm.1 999 i) (m3 : ∀ i, ¬ (1100 * k ≤ i ∧ i < 1100 * k + 1029) → σm'.1 64 i = σm.1 64 i) (m4 : ∀ j, j ≠ k → σm'.1 65 j = σm.1 65 j) (m5 : σm'.1 65 k = 1) (hn : Pik rs.length σx' σm' k) : PL σx' rs ((fun j => if j = k then true else im.1 j, σx'.1) : IM) σm' := by
  obtain ⟨⟨tp, t1, t2, t3, t4⟩, ⟨r1, r2, r3, r4⟩, ⟨g1, g2, g3, g4⟩, hs, hi⟩ := h
  have e9 : σx'.1 999 = σx.1 999 := x1 999 (by omega) (by omega)
  have eV : EmV σm σm' := ⟨fun b hb h50 i _ => by rw [m1 b (imA_n b hb).1 (imA_n b hb).2.1 h50 (imA_n b hb).2.2], m2 51 (by decide) (by decide)⟩
  refine ⟨⟨tp, t1, by rw [e9]; exact t2, (m2 27 (by decide) (by decide)).trans t3, fun i hi => ?_⟩, ⟨r1, by rw [e9]; exact r2, (m2 31 (by decide) (by decide)).trans r3, fun r hr => (r4 r hr).mv (Sl.of (fun j h1 h2 => m1 j (by omega) (by omega) (by omega) (by omega)))⟩, ⟨?_, ?_, (m2 36 (by decide) (by decide)).trans g3, fun j h1 h2 i => by rw [x1 j (by omega) (by omega)]; exact g4 j h1 h2 i⟩, ?_, ⟨fun j hj => ?_, fun _ _ => rfl⟩⟩
  · rw [x1 9 (by omega) (by omega), m1 37 (by decide) (by decide) (by decide) (by decide)]; exact t4 i hi
  · rw [e9, m1 1 (by decide) (by decide) (by decide) (by decide)]; exact g1
  · rw [e9, m1 1 (by decide) (by decide) (by decide) (by decide)]; exact g2
  · rcases hs with ⟨a, b⟩ | ⟨a, b⟩
    · exact Or.inl ⟨by rw [e9]; exact a, b.em eV⟩
    · exact Or.inr ⟨by rw [e9]; exact a, (b.em eV).ex (eqD.of (fun j hj => x1 (1000 + j) (by omega) (by omega)))⟩
  · by_cases ej : j = k
    · subst ej
      exact Or.inr ⟨if_pos rfl, m5, hn⟩
    · rcases hi.1 j hj with ⟨a, b⟩ | ⟨a, b, c1, c2, c3⟩
      · exact Or.inl ⟨(if_neg ej).trans a, by rw [m4 j ej]; exact b⟩
      · have eu := unp_em (σ := σm) (σ' := σm') hj (fun i hi => m3 _ (by omega))
        refine Or.inr ⟨(if_neg ej).trans a, by rw [m4 j ej]; exact b, ?_, ?_, ?_⟩
        · rw [x1 (990 + j) (by omega) (by omega), m3 _ (by omega)]; exact c1
        · rw [x1 (990 + j) (by omega) (by omega), m3 _ (by omega)]; exact c2
        · rw [x1 (990 + j) (by omega) (by omega)]
          rcases c3 with ⟨p, q⟩ | ⟨p, q⟩
          · exact Or.inl ⟨p, q.em eu⟩
          · exact Or.inr ⟨p, (q.em eu).ex (eqD.of (fun i hi => x1 (10000 + 1000 * j + i) (by omega) (by omega)))⟩
theorem off_e : offI 1 = 0 ∧ offI 50 = 47 ∧ (mK 1).2 = 9 ∧ (mK 50).2 = 1 := by decide
theorem now_e {mm vv ww t lg un : Nat} {δ : cS} (h : VfN mm vv ww t lg un δ σm) : δ.1 999 8 = σm.1 1 5 := by
  obtain ⟨⟨⟨-, -, -, -, -, h9, h10⟩, -⟩, -⟩ := h
  exact h9.trans h10.symm
/-- image: of a place that has one, or whose new one is all zero -/
theorem op_imageB (h : PL σx rs im σm) (hk : k < 4) (hσ : ∀ j, j ≠ 990 + k → ¬ (10000 + 1000 * k ≤ j ∧ j < 10000 + 1000 * k + 1000) → σ.1 j = σx.1 j) : JJ (x_imB σ k) (m_image σm (nI k)) (fun a b => a.2 = b.2 ∧ PL a.1 rs ((fun j => if j = k then true else im.1 j, a.1.1) : IM) b.1 ∧ ∀ j, j ≠ 990 + k → ¬ (10000 + 1000 * k ≤ j ∧ j < 10000 + 1000 * k + 1000) → a.1.1 j = σx.1 j) := by
  have hin : m_in (nI k).toInt64 0 3 = some 1 := (m_in_eq (nI k) 0 3).trans (congrArg some (ib_1 ⟨nI_pos' (by omega), nI_le (b := 3) (by omega) (by decide)⟩))
  unfold x_imB m_image
  rw [hin]
  show JJ _ (gd (inb (nI k) 4) ((m_carriesAll (si σm 65 (ix (nI k)) 1) (nI k) 0).bind _)) _
  rw [inbn hk (by decide), ixn (by omega)]
  refine JJ.nl ?_
  have e9 : σ.1 999 = σx.1 999 := hσ 999 (by omega) (by omega)
  obtain ⟨σ3, hσ3⟩ : ∃ s, s = si (si (si σ (990 + k) 1 (if σ.1 999 0 = 0 then 0 else 1)) (990 + k) 2 (σ.1 999 6)) (990 + k) 3 (σ.1 999 7) := ⟨_, rfl⟩
  rw [← hσ3]
  have s1 : σ3.1 (990 + k) 1 = if σx.1 999 0 = 0 then 0 else 1 := by rw [hσ3, si_p (by decide), si_p (by decide), si_a, e9]
  have s2 : σ3.1 (990 + k) 2 = σx.1 999 6 := by rw [hσ3, si_p (by decide), si_a, e9]
  have s3 : σ3.1 (990 + k) 3 = σx.1 999 7 := by rw [hσ3, si_a, e9]
  have so : ∀ j, j ≠ 990 + k → ¬ (10000 + 1000 * k ≤ j ∧ j < 10000 + 1000 * k + 1000) → σ3.1 j = σx.1 j := fun j h1 h2 => by rw [hσ3, si_o h1, si_o h1, si_o h1]; exact hσ j h1 h2
  rw [e9]
  refine JJ.or (om_image (si σm 65 k 1) hk) (fun z ⟨_, _, q3, q4, q5, q6⟩ => ?_)
  obtain ⟨-, -, ⟨g1, g2, -, -⟩, -, -⟩ := id h
  have z7 : ∀ i, i < 9 → z.1 64 (1100 * k + i) = σm.1 1 i := fun i hi => by
    have := q5 1 (by decide) i (by rw [off_e.2.2.1]; exact hi)
    rw [off_e.1, Nat.add_zero] at this
    rw [this]
    show (si σm 65 k 1).1 1 i = _
    rw [si_o (by decide)]
  have z51 : z.1 64 (1100 * k + 47) = σm.1 999 51 := by
    have := q5 50 (by decide) 0 (by rw [off_e.2.2.2]; decide)
    rw [off_e.2.1, Nat.add_zero] at this
    rw [this]
    show (si σm 65 k 1).1 999 51 = _
    rw [si_o (by decide)]
  have zb : ∀ b ∈ imA, b ≠ 50 → ∀ i, i < (mK b).2 → z.1 64 (1100 * k + offI b + i) = σm.1 b i := fun b hb h50 i hi => by
    rw [q5 b hb i hi]
    unfold rdI
    rw [if_neg h50, si_o (imA_n b hb).2.1]
  have eU : EmV σm (unp z (1100 * k)) := ⟨fun b hb h50 i hi => by rw [unp_b hb]; exact zb b hb h50 i (Nat.lt_of_lt_of_le hi (szV_le b)), by rw [unp_u]; exact z51⟩
  have fin : ∀ σ', (∀ j, j ≠ 990 + k → ¬ (10000 + 1000 * k ≤ j ∧ j < 10000 + 1000 * k + 1000) → σ'.1 j = σx.1 j) → σ'.1 (990 + k) = σ3.1 (990 + k) → ((σ'.1 (990 + k) 1 = 0 ∧ V0 (unp z (1100 * k))) ∨ (σ'.1 (990 + k) 1 = 1 ∧ Vf (vw σ' (10000 + 1000 * k)) (unp z (1100 * k)))) → PL σ' rs ((fun j => if j = k then true else im.1 j, σ'.1) : IM) z := by
    intro σ' h1 h2 h3
    refine h.img hk h1 (fun b b1 b2 b3 b4 => by rw [q4 b b1 b4 b3, si_o b2]) (fun i i1 i2 => by rw [q3 i i1 i2, si_o (by decide)]) (fun i hi => by rw [q6 i hi, si_o (by decide)]) (fun j hj => by rw [q4 65 (by decide) (by decide) (by decide), si_p hj]) (by rw [q4 65 (by decide) (by decide) (by decide)]; exact si_a) ⟨?_, ?_, h3⟩
    · rw [h2, s2, z7 7 (by decide)]; exact g1
    · rw [h2, s3, z7 8 (by decide)]; exact g2
  rcases h.ps with ⟨h0, hv⟩ | ⟨h1, mm, vv, ww, t, lg, un, hV⟩
  · rw [if_pos h0]
    refine JJ.ret ⟨?_, fin σ3 so rfl (Or.inl ⟨by rw [s1, if_pos h0], hv.em eU⟩), so⟩
    dsimp only
    rw [q4 1 (by decide) (by decide) (by decide), si_o (by decide)]
    exact (hv.1 5 (by decide)).symm
  · have h0 : ¬ σx.1 999 0 = 0 := by rw [h1]; decide
    rw [if_neg h0]
    refine JJ.ol (ox_copies σ3 (b := 10000 + 1000 * k) (c := 1000) (by omega)) (fun δ ⟨c1, c2⟩ => ?_)
    generalize pb2 σ3 (10000 + 1000 * k) 1000 δ = σ' at *
    have o' : ∀ j, j ≠ 990 + k → ¬ (10000 + 1000 * k ≤ j ∧ j < 10000 + 1000 * k + 1000) → σ'.1 j = σx.1 j := fun j j1 j2 => by rw [c1 j (by omega)]; exact so j j1 j2
    refine JJ.ret ⟨?_, fin σ' o' (c1 _ (by omega)) (Or.inr ⟨by rw [c1 _ (by omega), s1, if_neg h0], ?_⟩), o'⟩
    · dsimp only
      rw [o' 1999 (by omega) (by omega), q4 1 (by decide) (by decide) (by decide), si_o (by decide)]
      exact now_e hV
    · have hVf : Vf (vw σx 1000) σm := ⟨mm, vv, ww, t, lg, un, hV⟩
      refine (hVf.em eU).ex (c2.tr (eqD.of (fun j hj => ?_)))
      exact so (1000 + j) (by omega) (by omega)
/-- back, of a place that has an image -/
theorem op_backB (h : PL σx rs im σm) (hk : k < 4) (him : im.1 k = true) : JJ (x_backB σx k) (m_back σm (nI k)) (fun a b => a.2 = b.2 ∧ PL a.1 rs im b.1) := by
  have hin : m_in (nI k).toInt64 0 3 = some 1 := (m_in_eq (nI k) 0 3).trans (congrArg some (ib_1 ⟨nI_pos' (by omega), nI_le (b := 3) (by omega) (by decide)⟩))
  obtain ⟨⟨tp, t1, t2, t3, t4⟩, ⟨r1, r2, r3, r4⟩, ⟨g1, g2, g3, g4⟩, hs, hi⟩ := h
  obtain ⟨b65, c1, c2, c3⟩ : σm.1 65 k = 1 ∧ Pik rs.length σx σm k := by
    rcases hi.1 k hk with ⟨a, -⟩ | ⟨-, b, c⟩
    · rw [him] at a; cases a
    · exact ⟨b, c⟩
  unfold x_backB m_back
  rw [hin]
  show JJ _ (gd (inb (nI k) 4) (if σm.1 65 (ix (nI k)) = 0 then _ else (m_carriesAll σm (nI k) 1).bind _)) _
  rw [inbn hk (by decide), ixn (by omega), if_neg (show ¬ σm.1 65 k = 0 by rw [b65]; decide)]
  refine JJ.or (om_back σm hk) (fun z ⟨_, _, q3, _, q5, q6⟩ => ?_)
  have z7 : ∀ i, i < 9 → z.1 1 i = σm.1 64 (1100 * k + i) := fun i hi => by
    have := q6 1 (by decide) i (by rw [off_e.2.2.1]; exact hi)
    rw [off_e.1, Nat.add_zero] at this
    exact this
  have z51 : z.1 999 51 = σm.1 64 (1100 * k + 47) := by
    have := q6 50 (by decide) 0 (by rw [off_e.2.2.2]; decide)
    rw [off_e.2.1, Nat.add_zero] at this
    exact this
  have eU : EmV (unp σm (1100 * k)) z := ⟨fun b hb h50 i hi => by
    rw [unp_b hb, ← q6 b hb i (Nat.lt_of_lt_of_le hi (szV_le b))]
    exact (if_neg h50).symm, by rw [unp_u]; exact z51⟩
  have zo : ∀ b, b ∉ imA → b ≠ 999 → z.1 b = σm.1 b := fun b h1 h2 => q5 b h1 (fun e => h1 (by rw [e]; decide)) h2
  -- all but the strip
  have fin : ∀ σ' : cS, (∀ j, ¬ (1000 ≤ j ∧ j < 2000) → j ≠ 999 → σ'.1 j = σx.1 j) → (∀ i, i ≠ 0 → i ≠ 6 → i ≠ 7 → σ'.1 999 i = σx.1 999 i) → σ'.1 999 6 = σx.1 (990 + k) 2 → σ'.1 999 7 = σx.1 (990 + k) 3 → Ps σ' z → PL σ' rs im z := by
    intro σ' x1 x2 x6 x7 hps
    refine ⟨⟨tp, t1, (x2 10 (by decide) (by decide) (by decide)).trans t2, (q3 27 (by decide) (by decide) (by decide)).trans t3, fun i hi => ?_⟩, ⟨r1, (x2 15 (by decide) (by decide) (by decide)).trans r2, (q3 31 (by decide) (by decide) (by decide)).trans r3, fun r hr => (r4 r hr).mv (Sl.of (fun j h1 h2 => ?_))⟩, ⟨?_, ?_, (q3 36 (by decide) (by decide) (by decide)).trans g3, fun j h1 h2 i => by rw [x1 j (by omega) (by omega)]; exact g4 j h1 h2 i⟩, hps, ⟨fun j hj => ?_, fun j hj => (x1 j (by omega) (by omega)).trans (hi.2 j hj)⟩⟩
    · rw [x1 9 (by decide) (by decide), zo 37 (by decide) (by decide)]; exact t4 i hi
    · have h6 : j = 38 ∨ j = 39 ∨ j = 40 ∨ j = 41 ∨ j = 42 ∨ j = 43 := by omega
      rcases h6 with rfl | rfl | rfl | rfl | rfl | rfl
      · exact zo 38 (by decide) (by decide)
      · exact zo 39 (by decide) (by decide)
      · exact zo 40 (by decide) (by decide)
      · exact zo 41 (by decide) (by decide)
      · exact zo 42 (by decide) (by decide)
      · exact zo 43 (by decide) (by decide)
    · rw [x6, z7 7 (by decide)]; exact c1
    · rw [x7, z7 8 (by decide)]; exact c2
    · have e65 := zo 65 (by decide) (by decide)
      have e64 := zo 64 (by decide) (by decide)
      rcases hi.1 j hj with ⟨a, b⟩ | ⟨a, b, d1, d2, d3⟩
      · exact Or.inl ⟨a, by rw [e65]; exact b⟩
      · have eu := unp_em (σ := σm) (σ' := z) hj (fun i hi => by rw [e64])
        refine Or.inr ⟨a, by rw [e65]; exact b, ?_, ?_, ?_⟩
        · rw [x1 (990 + j) (by omega) (by omega), e64]; exact d1
        · rw [x1 (990 + j) (by omega) (by omega), e64]; exact d2
        · rw [x1 (990 + j) (by omega) (by omega)]
          rcases d3 with ⟨p, q⟩ | ⟨p, q⟩
          · exact Or.inl ⟨p, q.em eu⟩
          · exact Or.inr ⟨p, (q.em eu).ex (eqD.of (fun i hi => x1 (10000 + 1000 * j + i) (by omega) (by omega)))⟩
  rcases c3 with ⟨p, q⟩ | ⟨p, q⟩
  · rw [if_pos p]
    refine JJ.bl rfl (JJ.ret ⟨?_, ?_⟩)
    · dsimp only
      rw [if_pos si_a, show ix 5 = 5 from rfl, z7 5 (by decide)]
      have := q.1 5 (by decide)
      rw [unp_b (by decide), off_e.1, Nat.add_zero] at this
      exact this.symm
    · refine fin _ (fun j j1 j2 => by rw [si_o j2, si_o j2, si_o j2]) (fun i i0 i6 i7 => by rw [si_p i7, si_p i6, si_p i0]) (by rw [si_p (by decide), si_a, si_o (by omega)]) (by rw [si_a, si_o (by omega)]) (Or.inl ⟨by rw [si_p (by decide), si_p (by decide), si_a], q.em eU⟩)
  · rw [if_neg (by rw [p]; decide)]
    rw [Option.bind_assoc]
    refine JJ.ol (ox_copies σx (b := 1000) (c := 10000 + 1000 * k) (by omega)) (fun δ ⟨e1, e2⟩ => ?_)
    generalize pb2 σx 1000 (10000 + 1000 * k) δ = σ' at *
    refine JJ.bl rfl (JJ.ret ⟨?_, ?_⟩)
    · dsimp only
      rw [si_a, if_neg (by decide), si_o (by decide)]
      have hq := q.em eU
      obtain ⟨mm, vv, ww, t, lg, un, hV⟩ := hq.ex e2
      exact now_e hV
    · refine fin _ (fun j j1 j2 => by rw [si_o j2, si_o j2, si_o j2, e1 j (by omega)]) (fun i i0 i6 i7 => by rw [si_p i7, si_p i6, si_p i0, e1 999 (by omega)]) (by rw [si_p (by decide), si_a, si_o (by omega), e1 _ (by omega)]) (by rw [si_a, si_o (by omega), e1 _ (by omega)]) (Or.inr ⟨by rw [si_p (by decide), si_p (by decide), si_a], ?_⟩)
      refine ((q.em eU).ex e2).ex (eqD.of (fun j hj => ?_))
      show (si (si (si σ' 999 0 1) 999 6 _) 999 7 _).1 (1000 + j) = σ'.1 (1000 + j)
      rw [si_o (by omega), si_o (by omega), si_o (by omega)]
theorem in3 (v : Int32) : (x_in v.toInt64 0 3 = some 0 ∧ m_in v.toInt64 0 3 = some 0) ∨ ∃ k, k < 4 ∧ v = nI k := by
  rcases pk_ix v (n := 4) (by decide) with c | c | ⟨j, hj, rfl⟩
  · refine Or.inl ⟨(x_in_eq v 0 3).trans (congrArg some (ib_0 ?_)), (m_in_eq v 0 3).trans (congrArg some (ib_0 ?_))⟩ <;> exact fun q => (n_le _ _).mpr q.1 c
  · have h4 : ¬ (0 ≤ v ∧ v ≤ 3) := by
      rintro ⟨-, b⟩
      rw [i_le] at b c
      rw [show (nI 4).toInt = 4 by decide] at c
      rw [show (3 : Int32).toInt = 3 by decide] at b
      omega
    exact Or.inl ⟨(x_in_eq v 0 3).trans (congrArg some (ib_0 h4)), (m_in_eq v 0 3).trans (congrArg some (ib_0 h4))⟩
  · exact Or.inr ⟨j, hj, rfl⟩
theorem m_imageN {v : Int32} (h : m_in v.toInt64 0 3 = some 0) : m_image σm v = some (σm, -1) := by
  unfold m_image
  rw [h]
  rfl
theorem m_backN {v : Int32} (hP : PL σx rs im σm) (h : m_in v.toInt64 0 3 = some 0 ∨ ∃ k, k < 4 ∧ v = nI k ∧ im.1 k = false) : m_back σm v = some (σm, -1) := by
  unfold m_back
  rcases h with h | ⟨k, hk, rfl, him⟩
  · rw [h]
    rfl
  · have hin : m_in (nI k).toInt64 0 3 = some 1 := (m_in_eq (nI k) 0 3).trans (congrArg some (ib_1 ⟨nI_pos' (by omega), nI_le (b := 3) (by omega) (by decide)⟩))
    have b65 : σm.1 65 k = 0 := by
      rcases hP.2.2.2.2.1 k hk with ⟨-, b⟩ | ⟨a, -⟩
      · exact b
      · rw [him] at a; cases a
    rw [hin]
    show gd (inb (nI k) 4) (if σm.1 65 (ix (nI k)) = 0 then _ else _) = _
    rw [inbn hk (by decide), ixn (by omega), if_pos b65]
    rfl
end PV
