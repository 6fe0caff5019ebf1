/-! PURE LAW: undo, night, horses, salt, sugar, slice, bake -/
set_option maxRecDepth 100000
section AC
variable {σx σm σx' σm' : cS} {rs : List RS} {im : IM} {mm vv ww t u lg un un' : Nat} {δ σ δ' σ' z w : cS}
abbrev JP (rs : List RS) (im : IM) (o1 o2 : Option (cS × Int32)) : Prop := JJ o1 o2 (fun a b => a.2 = b.2 ∧ PL a.1 rs im b.1)
theorem rwx_16 {i : Nat} (h : i < 10) : rwx z (2 + i) = z.1 16 i := by
  unfold rwx
  rw [if_neg (by omega), if_neg (by omega), if_pos (by omega), show 2 + i - 2 = i by omega]
theorem rwx_17 {i : Nat} (h : i < 10) : rwx z (12 + i) = z.1 17 i := by
  unfold rwx
  rw [if_neg (by omega), if_neg (by omega), if_neg (by omega), if_pos (by omega), show 12 + i - 12 = i by omega]
theorem rwx_18 {i : Nat} (h : i < 10) : rwx z (22 + i) = z.1 18 i := by
  unfold rwx
  rw [if_neg (by omega), if_neg (by omega), if_neg (by omega), if_neg (by omega), if_pos (by omega), show 22 + i - 22 = i by omega]
theorem rwx_19 {i : Nat} (h : i < 8) : rwx z (32 + i) = z.1 19 i := by
  unfold rwx
  rw [if_neg (by omega), if_neg (by omega), if_neg (by omega), if_neg (by omega), if_neg (by omega), show 32 + i - 32 = i by omega]
theorem Rn.take {k : Nat} (h : Rn mm vv ww t t δ σ) (hx : Tq δ k z) (hm : Bq σ k 40 w) (he : ∀ j, j < 40 → δ.1 20 (40 * k + j) = σ.1 49 (40 * k + j)) (hg : Rg (fun j => σ.1 49 (40 * k + j))) : ∃ t', t' ≤ 999 ∧ Rn mm vv ww t' t' z w ∧ ∀ i, i < 10 → ∃ s, s ≤ 9 ∧ w.1 4 i = nI s := by
  obtain ⟨⟨t', ht', et⟩, gl, gs⟩ := hg
  dsimp only at et gl gs
  obtain ⟨x1, x2, x3⟩ := hx
  obtain ⟨-, -, m3, -, m5, m6⟩ := hm
  obtain ⟨⟨⟨h1, h2⟩, h3, ⟨h4, h5⟩, ⟨h6, h7⟩, h8, h9, h10⟩, hl, ⟨hv, hc⟩, hw, ht, hb⟩ := h
  have w2 : ∀ i, i < 10 → w.1 2 i = σ.1 49 (40 * k + (2 + i)) := fun i hi => m6 2 i (by unfold inP; omega) (by show 2 + i < 40; omega)
  have w3 : ∀ i, i < 10 → w.1 3 i = σ.1 49 (40 * k + (12 + i)) := fun i hi => m6 3 i (by unfold inP; omega) (by show 12 + i < 40; omega)
  have w4 : ∀ i, i < 10 → w.1 4 i = σ.1 49 (40 * k + (22 + i)) := fun i hi => m6 4 i (by unfold inP; omega) (by show 22 + i < 40; omega)
  have w9 : ∀ i, i < 8 → w.1 9 i = σ.1 49 (40 * k + (32 + i)) := fun i hi => m6 9 i (by unfold inP; omega) (by show 32 + i < 40; omega)
  have mk : ∀ b, (b = 5 ∨ b = 6 ∨ b = 7 ∨ b = 8 ∨ b = 10 ∨ b = 11) → w.1 b = σ.1 b := fun b hb => m3 b (by omega) (by omega) (by omega) (by omega) (by omega) (by omega)
  have xk : ∀ b, (10 ≤ b ∧ b ≤ 14) → z.1 b = δ.1 b := fun b hb => x1 b (by omega) (by omega) (by omega) (by omega) (by omega)
  have z7 : z.1 999 7 = σ.1 49 (40 * k + 0) := (x3 0 (by decide)).trans (he 0 (by decide))
  have z8 : z.1 999 8 = σ.1 49 (40 * k + 1) := (x3 1 (by decide)).trans (he 1 (by decide))
  have w14 : w.1 1 4 = σ.1 49 (40 * k + 0) := m6 1 4 (by unfold inP; omega) (by decide)
  have w15 : w.1 1 5 = σ.1 49 (40 * k + 1) := m6 1 5 (by unfold inP; omega) (by decide)
  refine ⟨t', ht', ⟨⟨⟨(x2 0 (by decide) (by decide)).trans h1, (m5 0 (by decide) (by decide)).trans h2⟩, ?_, ⟨(x2 2 (by decide) (by decide)).trans h4, (m5 2 (by decide) (by decide)).trans h5⟩, ⟨(x2 3 (by decide) (by decide)).trans h6, (m5 3 (by decide) (by decide)).trans h7⟩, z7.trans w14.symm, z8.trans et, w15.trans et⟩, fun i hi => ?_, ⟨fun v hv' => ?_, fun v hv' => ?_⟩, fun q hq => ?_, fun i hi => ?_, hb.1, hb.2.1, hb.2.2.1, hb.2.2.2.1, by omega, by omega, hb.2.2.2.2.2.2⟩, fun i hi => by rw [w4 i hi]; exact gs i hi⟩
  · rw [x2 1 (by decide) (by decide), m5 1 (by decide) (by decide)]; exact h3
  · rw [w2 i hi, w3 i hi, w4 i hi, ← rwx_16 hi, ← rwx_17 hi, ← rwx_18 hi, x3 _ (by omega), x3 _ (by omega), x3 _ (by omega)]
    exact ⟨he _ (by omega), gl i hi, he _ (by omega), he _ (by omega)⟩
  · rw [xk 11 (by omega), xk 12 (by omega), xk 13 (by omega), mk 6 (by omega), mk 7 (by omega), mk 8 (by omega)]
    exact hv v hv'
  · rw [w9 v hv', ← rwx_19 hv', x3 _ (by omega)]
    exact he _ (by omega)
  · rw [xk 14 (by omega), mk 10 (by omega), mk 11 (by omega)]
    exact hw q hq
  · rw [xk 10 (by omega), mk 5 (by omega)]
    exact ht i hi
theorem Rn.mv5 (hn : Rn mm vv ww t u δ σ) (hx : ∀ k, k < 999 → k ≠ 20 → δ'.1 k = δ.1 k) (h9 : ∀ i, i ≠ 5 → δ'.1 999 i = δ.1 999 i) (hm : ∀ k, 1 ≤ k → k ≤ 11 → σ'.1 k = σ.1 k) : Rn mm vv ww t u δ' σ' := by
  have hn1 : Rn mm vv ww t u δ' σ := by
    obtain ⟨⟨⟨a1, a2⟩, a3, ⟨a4, a5⟩, ⟨a6, a7⟩, a8, a9, a10⟩, hr⟩ := hn
    refine ⟨⟨⟨(h9 0 (by decide)).trans a1, a2⟩, (h9 1 (by decide)).trans a3, ⟨(h9 2 (by decide)).trans a4, a5⟩, ⟨(h9 3 (by decide)).trans a6, a7⟩, (h9 7 (by decide)).trans a8, (h9 8 (by decide)).trans a9, a10⟩, ?_⟩
    unfold Rl Rv Rw Rt at *
    rw [hx 16 (by decide) (by decide), hx 17 (by decide) (by decide), hx 18 (by decide) (by decide), hx 11 (by decide) (by decide), hx 12 (by decide) (by decide), hx 13 (by decide) (by decide), hx 19 (by decide) (by decide), hx 14 (by decide) (by decide), hx 10 (by decide) (by decide)]
    exact hr
  exact hn1.cm hm
theorem VfN.pb (h : VfN mm vv ww t lg un δ σ) (a : cS) : VfN mm vv ww t lg un (vw (pb a 1000 δ) 1000) σ := h.ex (eqD.of (fun _ hk => vw_pb hk))
theorem Xs.pb {a : cS} : Xs a (pb a 1000 δ) := Xs.ch Ch.pb ⟨by decide, by decide⟩
theorem op_undo (h : PL σx rs im σm) : JP rs im (x_undo σx) (m_undo σm) := by
  unfold x_undo m_undo
  rcases h.ps with ⟨h0, hv⟩ | ⟨h1, mm, vv, ww, t, lg, un, hV⟩
  · exact JJ.tl h0 (JJ.tr hv.2 (JJ.ret ⟨rfl, h⟩))
  · obtain ⟨⟨u1, u2, u3⟩, u4, u5⟩ := hV.2.2.2.2
    have u1' : σx.1 1999 5 = nI un := u1
    refine JJ.el (by rw [h1]; decide) ?_
    by_cases e : un = 0
    · subst e
      exact JJ.tl u1' (JJ.tr u2 (JJ.ret ⟨rfl, h⟩))
    · have ne : ¬ nI un = 0 := nI_ne0 (by omega) (by omega)
      refine JJ.el (by rw [u1']; exact ne) (JJ.er (by rw [u2]; exact ne) ?_)
      rw [u1', u2, nI_m1 (by omega)]
      refine JJ.gl (by rw [si_o (by decide), h1]; rfl) ?_
      rw [si_a, si_a]
      refine JJ.ol (od_takes _ (by omega : un - 1 < 20)) (fun z hz => JJ.gl (by rw [pb_o (by omega), si_o (by decide), h1]; rfl) (JJ.or (om_takeAll _ (by omega : un - 1 < 20)) (fun w hw => JJ.ret ?_)))
      have hm49 : (si σm 999 51 (nI (un - 1))).1 49 = σm.1 49 := si_o (by decide)
      have xo : ∀ k, k < 999 → (vw (si σx 1999 5 (nI (un - 1))) 1000).1 k = (vw σx 1000).1 k := fun k hk => si_o (σ := σx) (k := 1999) (j := 1000 + k) (by omega)
      have hx5 := xo 20 (by decide)
      have x9 : ∀ i, i ≠ 5 → (vw (si σx 1999 5 (nI (un - 1))) 1000).1 999 i = (vw σx 1000).1 999 i := fun i hi => si_p (σ := σx) (k := 1999) hi
      have x5 : (vw (si σx 1999 5 (nI (un - 1))) 1000).1 999 5 = nI (un - 1) := si_a (σ := σx) (k := 1999) (i := 5) (v := nI (un - 1))
      have mo : ∀ k, k ≠ 999 → (si σm 999 51 (nI (un - 1))).1 k = σm.1 k := fun k hk => si_o hk
      have m51 : (si σm 999 51 (nI (un - 1))).1 999 51 = nI (un - 1) := si_a
      have hn0 : Rn mm vv ww t t (vw (si σx 1999 5 (nI (un - 1))) 1000) (si σm 999 51 (nI (un - 1))) := hV.1.mv5 (fun k k1 _ => xo k k1) x9 (fun k _ _ => mo k (by omega))
      obtain ⟨t', ht', hn, hs⟩ := hn0.take hz hw (fun j hj => by rw [hx5, hm49]; exact u4 _ (by omega)) (by rw [hm49]; exact u5 _ (by omega))
      obtain ⟨x1, x2, x3⟩ := hz
      obtain ⟨-, -, m3, m4, m5, m6⟩ := hw
      obtain ⟨-, -, ⟨⟨l1, l2, l3⟩, l4⟩, ⟨d1, d2, d3, d4⟩, -⟩ := hV
      have mk : ∀ b, (b = 5 ∨ b = 12 ∨ b = 13 ∨ b = 14 ∨ b = 15 ∨ b = 16 ∨ b = 49 ∨ (37 ≤ b ∧ b ≤ 43) ∨ b = 64 ∨ b = 65) → w.1 b = σm.1 b := fun b hb => (m3 b (by omega) (by omega) (by omega) (by omega) (by omega) (by omega)).trans (mo b (by omega))
      have xk : ∀ b, (b = 9 ∨ b = 15 ∨ b = 20) → z.1 b = (vw σx 1000).1 b := fun b hb => (x1 b (by omega) (by omega) (by omega) (by omega) (by omega)).trans (xo b (by omega))
      have hV2 : VfN mm vv ww t' lg (un - 1) z w := by
        refine ⟨hn, ht', ⟨⟨((x2 4 (by decide) (by decide)).trans (x9 4 (by decide))).trans l1, ((m5 6 (by decide) (by decide)).trans (congrFun (mo 1 (by decide)) 6)).trans l2, l3⟩, fun k hk => ?_⟩, ⟨?_, fun i hi => ?_, fun i hi => ?_, hs⟩, ⟨(x2 5 (by decide) (by decide)).trans x5, (m4 51 (by decide) (by decide)).trans m51, by omega⟩, fun i hi => ?_, fun r hr => ?_⟩
        · rw [xk 15 (by omega), mk 12 (by omega), mk 13 (by omega), mk 14 (by omega)]
          exact l4 k hk
        · rw [x2 6 (by decide) (by decide), x9 6 (by decide), mk 16 (by omega)]; exact d1
        · rw [xk 9 (by omega), mk 15 (by omega)]; exact d2 i hi
        · rw [mk 5 (by omega)]; exact d3 i hi
        · rw [xk 20 (by omega), mk 49 (by omega)]; exact u4 i (by omega)
        · rw [mk 49 (by omega)]; exact u5 r (by omega)
      have e5 : (pb (si σx 1999 5 (nI (un - 1))) 1000 z).1 1999 5 = nI (un - 1) := ((hV2.pb (si σx 1999 5 (nI (un - 1)))).2.2.2.2.1.1 : _)
      refine ⟨by rw [e5]; exact ((m4 51 (by decide) (by decide)).trans m51).symm, h.strip ((Xs.st (by omega)).tr Xs.pb) ⟨fun i hi => ?_, fun i hi => ?_, fun b hb => mk b (by omega), fun i _ => by rw [mk 64 (by omega)]⟩ (Or.inr ⟨?_, mm, vv, ww, t', lg, un - 1, hV2.pb _⟩)⟩
      · rw [m5 i (by omega) (by omega), mo 1 (by decide)]
      · rw [m4 i (by omega) (by omega), si_p (by omega)]
      · rw [pb_o (by omega), si_o (by decide)]; exact h1
theorem op_night (h : PL σx rs im σm) : JP rs im (x_night σx rs) (m_night σm) := by
  unfold x_night m_night
  rcases q_isStrip h with ⟨h0, hs⟩ | ⟨h1, hs, mm, vv, ww, t, lg, un, hV⟩
  · exact JJ.tl h0 (JJ.br hs (JJ.tr rfl (JJ.ret ⟨rfl, h⟩)))
  · have ht := hV.2.1
    have d8 : σx.1 1999 8 = nI t := hV.1.dt
    refine JJ.el (by rw [h1]; decide) (JJ.br hs (JJ.er (by decide) ?_))
    rw [d8, show ix 5 = 5 from rfl, hV.1.mt]
    refine JJ.ii Iff.rfl (fun _ _ => JJ.ret ⟨rfl, h⟩) (fun c _ => ?_)
    have hlt : t + 1 ≤ 999 := by
      have : t ≠ 999 := fun e => c (by rw [e]; rfl)
      omega
    refine JJ.bd (jx_keepsAct h h1 hV) (fun a b ⟨hP, a1, ⟨un', hV'⟩, hb⟩ => ?_)
    obtain ⟨R, eR, hR⟩ := hP.law
    refine JJ.gl (by rw [a1]; rfl) (JJ.bl eR (JJ.bd (jn_goes hV'.1 (by omega) hR) ?_))
    rintro ⟨a', x⟩ ⟨b', y⟩ ⟨q1, q2, q3⟩
    have hV2 := hV'.ff q3 q2 hlt
    exact JJ.ret ⟨q1.1, hP.strip Xs.pb (Ms.fm q3.1) (Or.inr ⟨by rw [pb_o (by omega)]; exact a1, _, _, _, _, _, _, hV2.pb a⟩)⟩
theorem op_horses (h : PL σx rs im σm) (v f : Int32) : JP rs im (x_horses σx v f) (m_horses σm v f) := by
  obtain ⟨r, e1, e2, hr⟩ := q_isSoft h v
  unfold x_horses m_horses
  refine JJ.bl e1 (JJ.br e2 ?_)
  rcases hr with rfl | ⟨rfl, h1, mm, vv, ww, t, lg, un, j, hV, hj, rfl⟩
  · exact JJ.tl rfl (JJ.tr rfl (JJ.ret ⟨rfl, h⟩))
  have h10 := hV.1.m10
  refine JJ.el (by decide) (JJ.er (by decide) (JJ.bl (x_in_eq f (-3) 3) (JJ.br (m_in_eq f (-3) 3) ?_)))
  refine JJ.ii Iff.rfl (fun _ _ => JJ.ret ⟨rfl, h⟩) (fun _ _ => JJ.ii Iff.rfl (fun _ _ => JJ.ret ⟨rfl, h⟩) (fun _ _ => ?_))
  refine JJ.bd (jx_keepsAct h h1 hV) (fun a b ⟨hP, a1, ⟨un', hV'⟩, hb⟩ => ?_)
  obtain ⟨a', ⟨b', y⟩, ea, eb, q2, q3⟩ := jn_pushes hV'.1 hj f
  obtain ⟨s1, f1, eb⟩ := bd_e eb
  obtain ⟨s2, f2, f3⟩ := bd_e eb
  refine JJ.gl (by rw [a1]; rfl) (JJ.bl ea (JJ.br f1 (JJ.br f2 (JJ.br f3 ?_))))
  refine JJ.gl (by rw [pb_o (by omega), a1]; rfl) (JJ.gl (inbn (by omega) (by decide)) (JJ.gr (inbn (by omega) (by decide)) (JJ.ret ?_)))
  have hV2 := hV'.ff q3 q2 hV'.2.1
  refine ⟨?_, hP.strip Xs.pb (Ms.fm q3.1) (Or.inr ⟨by rw [pb_o (by omega)]; exact a1, _, _, _, _, _, _, hV2.pb a⟩)⟩
  dsimp only
  rw [ixn (by omega)]
  exact (hV2.pb a).1.ln (by omega)
end AC
