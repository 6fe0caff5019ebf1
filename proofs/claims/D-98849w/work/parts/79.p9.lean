/-! PURE LAW: an act is kept; the acts -/
set_option maxRecDepth 100000
section KA
variable {σx σm σx' σm' : cS} {rs : List RS} {im : IM} {mm vv ww t u lg un un' : Nat} {δ σ δ' σ' : cS}
theorem VfN.mv (h : VfN mm vv ww t lg un δ σ) (hx : ∀ k, k < 999 → k ≠ 20 → δ'.1 k = δ.1 k) (h9 : ∀ i, i ≠ 5 → δ'.1 999 i = δ.1 999 i) (hm : ∀ k, 1 ≤ k → k ≤ 16 → σ'.1 k = σ.1 k) (hu : Ru un' δ' σ') : VfN mm vv ww t lg un' δ' σ' := by
  obtain ⟨hn, ht, ⟨⟨l1, l2, l3⟩, l4⟩, ⟨d1, d2, d3, d4⟩, -⟩ := h
  have hn1 : Rn mm vv ww t t δ' σ := by
    obtain ⟨⟨⟨a1, a2⟩, a3, ⟨a4, a5⟩, ⟨a6, a7⟩, a8, a9, a10⟩, hr⟩ := hn
    refine ⟨⟨⟨(h9 0 (by decide)).trans a1, a2⟩, (h9 1 (by decide)).trans a3, ⟨(h9 2 (by decide)).trans a4, a5⟩, ⟨(h9 3 (by decide)).trans a6, a7⟩, (h9 7 (by decide)).trans a8, (h9 8 (by decide)).trans a9, a10⟩, ?_⟩
    unfold Rl Rv Rw Rt at *
    rw [hx 16 (by decide) (by decide), hx 17 (by decide) (by decide), hx 18 (by decide) (by decide), hx 11 (by decide) (by decide), hx 12 (by decide) (by decide), hx 13 (by decide) (by decide), hx 19 (by decide) (by decide), hx 14 (by decide) (by decide), hx 10 (by decide) (by decide)]
    exact hr
  refine ⟨hn1.cm (fun k a b => hm k a (by omega)), ht, ⟨⟨(h9 4 (by decide)).trans l1, by rw [hm 1 (by decide) (by decide)]; exact l2, l3⟩, fun k hk => ?_⟩, ⟨?_, fun i hi => ?_, fun i hi => ?_, fun i hi => ?_⟩, hu⟩
  · rw [hx 15 (by decide) (by decide), hm 12 (by decide) (by decide), hm 13 (by decide) (by decide), hm 14 (by decide) (by decide)]
    exact l4 k hk
  · rw [h9 6 (by decide), hm 16 (by decide) (by decide)]; exact d1
  · rw [hx 9 (by decide) (by decide), hm 15 (by decide) (by decide)]; exact d2 i hi
  · rw [hm 5 (by decide) (by decide)]; exact d3 i hi
  · rw [hm 4 (by decide) (by decide)]; exact d4 i hi
theorem VfN.ff {t' : Nat} (h : VfN mm vv ww t lg un δ σ) (hF : FF δ σ δ' σ') (hR : Rn mm vv ww t' t' δ' σ') (ht' : t' ≤ 999) : VfN mm vv ww t' lg un δ' σ' := by
  obtain ⟨hn, ht, ⟨⟨l1, l2, l3⟩, l4⟩, ⟨d1, d2, d3, d4⟩, ⟨⟨u1, u2, u3⟩, u4, u5⟩⟩ := h
  obtain ⟨⟨m1, m2⟩, x1, x2⟩ := hF
  have mk : ∀ k, (k = 4 ∨ k = 5 ∨ 12 ≤ k ∧ k ≤ 16 ∨ k = 49 ∨ k = 999) → σ'.1 k = σ.1 k := fun k hk => m1 k (by omega) (by omega) (by omega) (by omega) (by omega) (by omega)
  have xk : ∀ k, (k = 9 ∨ k = 15 ∨ k = 20) → δ'.1 k = δ.1 k := fun k hk => x1 k (by omega) (by omega) (by omega) (by omega) (by omega) (by omega)
  refine ⟨hR, ht', ⟨⟨(x2 4 (by decide)).trans l1, (m2 6 (by decide)).trans l2, l3⟩, fun k hk => ?_⟩, ⟨?_, fun i hi => ?_, fun i hi => ?_, fun i hi => ?_⟩, ⟨(x2 5 (by decide)).trans u1, by rw [mk 999 (by omega)]; exact u2, u3⟩, fun i hi => ?_, fun r hr => ?_⟩
  · rw [xk 15 (by omega), mk 12 (by omega), mk 13 (by omega), mk 14 (by omega)]
    exact l4 k hk
  · rw [x2 6 (by decide), mk 16 (by omega)]; exact d1
  · rw [xk 9 (by omega), mk 15 (by omega)]; exact d2 i hi
  · rw [mk 5 (by omega)]; exact d3 i hi
  · rw [mk 4 (by omega)]; exact d4 i hi
  · rw [xk 20 (by omega), mk 49 (by omega)]; exact u4 i hi
  · rw [mk 49 (by omega)]; exact u5 r hr
theorem Rg.c {f g : Nat → Int32} (h : Rg g) (e : ∀ j, j < 40 → f j = g j) : Rg f := by
  obtain ⟨a, b, c⟩ := h
  refine ⟨by rw [e 1 (by decide)]; exact a, fun i hi => by rw [e _ (by omega)]; exact b i hi, fun i hi => by rw [e _ (by omega)]; exact c i hi⟩
theorem VfN.rg (h : VfN mm vv ww t lg un δ σ) : Rg (fun j => rwm σ j) := by
  refine ⟨⟨t, h.2.1, h.1.mt⟩, fun i hi => ?_, fun i hi => ?_⟩
  · show lk (rwm σ (offP 2 i))
    rw [rwm_at (by unfold inP; omega)]
    exact h.1.lb hi
  · show ∃ s, s ≤ 9 ∧ rwm σ (offP 4 i) = nI s
    rw [rwm_at (by unfold inP; omega)]
    exact h.2.2.2.1.2.2.2 i hi
/-- where there is no more room the first row goes -/
theorem ox_room (hz : σx.1 999 0 = 1) (hu : σx.1 1999 5 = nI un) (hn : un ≤ 20) : OO (if σx.1 1999 5 = 20 then gd (nz ((sA σx 1020 (va_cpy (σx.1 1020) (σx.1 1020) (ix 40) (ix 0) (ix 760))).1 999 0)) (nmb (sA σx 1020 (va_cpy (σx.1 1020) (σx.1 1020) (ix 40) (ix 0) (ix 760))) fun σ_12 => some (si σ_12 1999 5 (((sA σx 1020 (va_cpy (σx.1 1020) (σx.1 1020) (ix 40) (ix 0) (ix 760))).1 1999 5) - 1))) else some σx)
    (fun a => a.1 999 = σx.1 999 ∧ (∀ k, k ≠ 1020 → k ≠ 1999 → a.1 k = σx.1 k) ∧ (∀ i, i ≠ 5 → a.1 1999 i = σx.1 1999 i) ∧ a.1 1999 5 = nI (if un = 20 then 19 else un) ∧ ∀ i, i < 40 * (if un = 20 then 19 else un) → a.1 1020 i = σx.1 1020 (i + if un = 20 then 40 else 0)) := by
  by_cases e : un = 20
  · subst e
    rw [if_pos rfl, if_pos rfl]
    refine OO.t hu (OO.g (by rw [sA_o (by decide), hz]; rfl) (OO.n (OO.ret ⟨by rw [si_o (by decide), sA_o (by decide)], fun k h1 h2 => by rw [si_o h2, sA_o h1], fun i hi => by rw [si_p hi, sA_o (by decide)], ?_, fun i hi => ?_⟩)))
    · rw [si_a, sA_o (by decide), hu]; rfl
    · rw [si_o (by decide), sA_s, show ix 40 = 40 from rfl, ix_0, show ix 760 = 760 from rfl, cpy_in (Nat.zero_le _) (by omega), show 40 + (i - 0) = i + 40 by omega]
  · rw [if_neg e, if_neg e]
    refine OO.e (by rw [hu]; exact fun q => e ((nI_eq (b := 20) (by omega) (by decide)).mp q)) (OO.ret ⟨rfl, fun _ _ _ => rfl, fun _ _ => rfl, hu, fun i _ => rfl⟩)
theorem om_room (hu : σm.1 999 51 = nI un) (hn : un ≤ 20) : OO (if σm.1 999 51 = 20 then m_keepsAct_12 (fun σ_9 => some (si σ_9 999 51 ((σ_9.1 999 51) - 1))) FU σm 40 else some σm)
    (fun a => (∀ k, k ≠ 49 → k ≠ 999 → a.1 k = σm.1 k) ∧ (∀ i, i ≠ 51 → a.1 999 i = σm.1 999 i) ∧ a.1 999 51 = nI (if un = 20 then 19 else un) ∧ ∀ i, i < 40 * (if un = 20 then 19 else un) → a.1 49 i = σm.1 49 (i + if un = 20 then 40 else 0)) := by
  by_cases e : un = 20
  · subst e
    rw [if_pos rfl, if_pos rfl]
    refine OO.t hu ?_
    refine OO.loop (L := fun n s i => m_keepsAct_12 (fun σ_9 => some (si σ_9 999 51 ((σ_9.1 999 51) - 1))) n s i) (I := fun j z => 40 ≤ j ∧ (∀ k, k ≠ 49 → z.1 k = σm.1 k) ∧ (∀ i, i + 40 < j → z.1 49 i = σm.1 49 (i + 40)) ∧ ∀ i, j ≤ i + 40 → z.1 49 i = σm.1 49 i) (N := 800) ?_ ?_ 760 40 (by decide) FU (FU_gt (by decide)) σm ⟨Nat.le_refl _, fun _ _ => rfl, fun i hi => absurd hi (by omega), fun _ _ => rfl⟩
    · intro n j z hj ⟨h40, q1, q2, q3⟩ kk
      show OO (m_keepsAct_12 _ (n + 1) z (nI j)) _
      rw [m_keepsAct_12]
      · refine OO.e (nI_ge (a := j) (b := 800) hj (by decide)) (OO.g (inbn hj (by decide)) (OO.g ?_ ?_))
        · rw [show (40 : Int32) = nI 40 from rfl, pk_sub h40]; exact inbn (by omega) (by decide)
        · rw [show (40 : Int32) = nI 40 from rfl, pk_sub h40, ixn (by omega), ixn (by omega), nI_1]
          refine kk _ ⟨by omega, fun k hk => by rw [si_o hk]; exact q1 k hk, fun i hi => ?_, fun i hi => ?_⟩
          · by_cases e : i = j - 40
            · subst e
              rw [si_a, q3 j (by omega), show j - 40 + 40 = j by omega]
            · rw [si_p e]; exact q2 i (by omega)
          · rw [si_p (by omega)]; exact q3 i (by omega)
    · intro n z ⟨_, q1, q2, q3⟩
      show OO (m_keepsAct_12 _ (n + 1) z (nI 800)) _
      rw [m_keepsAct_12]
      refine OO.t (nI_le (a := 800) (Nat.le_refl _) (by decide)) (OO.ret ⟨fun k h1 h2 => by rw [si_o h2]; exact q1 k h1, fun i hi => by rw [si_p hi, q1 999 (by decide)], ?_, fun i hi => ?_⟩)
      · rw [si_a, q1 999 (by decide), hu]; rfl
      · rw [si_o (by decide)]; exact q2 i (by omega)
  · rw [if_neg e, if_neg e]
    refine OO.e (by rw [hu]; exact fun q => e ((nI_eq (b := 20) (by omega) (by decide)).mp q)) (OO.ret ⟨fun _ _ _ => rfl, fun _ _ => rfl, hu, fun i _ => rfl⟩)
theorem Ru_room {sh : Nat} (h : Ru un δ σ) (hs : un' ≤ un ∧ 40 * un' + sh ≤ 40 * un ∧ (sh = 0 ∨ sh = 40)) (h5 : δ'.1 999 5 = nI un') (h51 : σ'.1 999 51 = nI un') (hx : ∀ i, i < 40 * un' → δ'.1 20 i = δ.1 20 (i + sh)) (hm : ∀ i, i < 40 * un' → σ'.1 49 i = σ.1 49 (i + sh)) : Ru un' δ' σ' := by
  obtain ⟨⟨u1, u2, u3⟩, u4, u5⟩ := h
  refine ⟨⟨h5, h51, by omega⟩, fun i hi => by rw [hx i hi, hm i hi]; exact u4 _ (by omega), fun r hr => ?_⟩
  rcases hs.2.2 with rfl | rfl
  · refine (u5 r (by omega)).c (fun j hj => ?_)
    exact (hm _ (by omega)).trans (by rw [Nat.add_zero])
  · refine (u5 (r + 1) (by omega)).c (fun j hj => ?_)
    exact (hm _ (by omega)).trans (by rw [show 40 * r + j + 40 = 40 * (r + 1) + j by omega])
theorem jx_keepsAct (h : PL σx rs im σm) (h1 : σx.1 999 0 = 1) (hV : VfN mm vv ww t lg un (vw σx 1000) σm) : JJ (x_keepsAct σx) (m_keepsAct σm) (fun a b => PL a rs im b ∧ a.1 999 0 = 1 ∧ (∃ un', VfN mm vv ww t lg un' (vw a 1000) b) ∧ ∀ k, k ≠ 49 → k ≠ 999 → b.1 k = σm.1 k) := by
  have hU := hV.2.2.2.2
  obtain ⟨⟨u1, u2, u3⟩, u4, u5⟩ := hV.2.2.2.2
  have hnz : nz (σx.1 999 0) = true := by rw [h1]; rfl
  unfold x_keepsAct m_keepsAct
  refine JJ.gl hnz ?_
  obtain ⟨un1, e1⟩ : ∃ n, n = if un = 20 then 19 else un := ⟨_, rfl⟩
  have hun1 : un1 ≤ 19 ∧ un1 ≤ un ∧ 40 * un1 + (if un = 20 then 40 else 0) ≤ 40 * un := by
    rw [e1]; by_cases e : un = 20
    · rw [if_pos e, if_pos e]; omega
    · rw [if_neg e, if_neg e]; omega
  refine JJ.ol (ox_room h1 u1 u3) (fun a ⟨a1, a2, a3, a4, a5⟩ => JJ.or (om_room u2 u3) (fun b ⟨b1, b2, b3, b4⟩ => ?_))
  rw [← e1] at a4 a5 b3 b4
  have a0 : a.1 999 0 = 1 := by rw [a1]; exact h1
  have hV1 : VfN mm vv ww t lg un1 (vw a 1000) b := hV.mv (fun k k1 k2 => a2 (1000 + k) (by omega) (by omega)) a3 (fun k k1 k2 => b1 k (by omega) (by omega)) (Ru_room (sh := if un = 20 then 40 else 0) hU ⟨hun1.2.1, hun1.2.2, by by_cases e : un = 20 <;> simp [e]⟩ a4 b3 a5 b4)
  refine JJ.gl (by rw [a0]; rfl) ?_
  rw [a4, b3]
  refine JJ.ol (od_lays _ (by omega : un1 < 20)) (fun z ⟨z1, z2⟩ => JJ.gl (by rw [pb_o (by omega), a0]; rfl) (JJ.nl (JJ.or (om_layAll _ (by omega : un1 < 20)) (fun w ⟨w1, w2, w3, w4, w5⟩ => JJ.ret ?_))))
  have ez : (pb a 1000 z).1 1999 5 = nI un1 := by
    have : (vw (pb a 1000 z) 1000).1 999 = z.1 999 := vw_pb (by decide)
    exact (congrFun this 5).trans (by rw [z1 999 (by decide)]; exact a4)
  have ew : w.1 999 51 = nI un1 := by rw [w4 51 (by decide) (by decide)]; exact b3
  rw [ez, ew, nI_1]
  have hv : ∀ k, k < 999 → k ≠ 20 → (vw (si (pb a 1000 z) 1999 5 (nI (un1 + 1))) 1000).1 k = (vw a 1000).1 k := by
    intro k hk hk2
    show (si (pb a 1000 z) 1999 5 (nI (un1 + 1))).1 (1000 + k) = _
    rw [si_o (by omega)]
    exact (vw_pb (σ := a) (δ := z) (b := 1000) (by omega)).trans (z1 k hk2)
  have hv9 : ∀ i, i ≠ 5 → (vw (si (pb a 1000 z) 1999 5 (nI (un1 + 1))) 1000).1 999 i = (vw a 1000).1 999 i := by
    intro i hi
    show (si (pb a 1000 z) 1999 5 (nI (un1 + 1))).1 1999 i = _
    rw [si_p hi]
    exact congrFun ((vw_pb (σ := a) (δ := z) (b := 1000) (k := 999) (by decide)).trans (z1 999 (by decide))) i
  have hv20 : ∀ i, (vw (si (pb a 1000 z) 1999 5 (nI (un1 + 1))) 1000).1 20 i = z.1 20 i := by
    intro i
    show (si (pb a 1000 z) 1999 5 (nI (un1 + 1))).1 1020 i = _
    rw [si_o (by decide)]
    exact congrFun (vw_pb (σ := a) (δ := z) (b := 1000) (k := 20) (by decide)) i
  have hw49 : (si w 999 51 (nI (un1 + 1))).1 49 = w.1 49 := si_o (by decide)
  have hV2 : VfN mm vv ww t lg (un1 + 1) (vw (si (pb a 1000 z) 1999 5 (nI (un1 + 1))) 1000) (si w 999 51 (nI (un1 + 1))) := by
    obtain ⟨⟨v1, v2, v3⟩, v4, v5⟩ := hV1.2.2.2.2
    refine hV1.mv hv hv9 (fun k k1 k2 => by rw [si_o (by omega)]; exact w3 k (by omega) (by omega)) ⟨⟨(si_a : (si (pb a 1000 z) 1999 5 (nI (un1 + 1))).1 1999 5 = _), si_a, by omega⟩, fun i hi => ?_, fun r hr => ?_⟩
    · rw [hv20, z2, hw49, w5]
      by_cases c : 40 * un1 ≤ i ∧ i < 40 * un1 + 40
      · rw [if_pos c, if_pos c]
        exact hV1.1.row (by omega)
      · rw [if_neg c, if_neg c]
        exact v4 i (by omega)
    · rw [hw49]
      by_cases c : r = un1
      · subst c
        exact (hV1.rg).c (fun j hj => by show w.1 49 (40 * r + j) = _; rw [w5, if_pos (by omega), show 40 * r + j - 40 * r = j by omega])
      · exact (v5 r (by omega)).c (fun j hj => by show w.1 49 (40 * r + j) = _; rw [w5, if_neg (by omega)])
  have hs9 : (si (pb a 1000 z) 1999 5 (nI (un1 + 1))).1 999 = σx.1 999 := by rw [si_o (by decide), pb_o (by omega), a1]
  refine ⟨h.strip ⟨fun k hk => ?_, fun i _ => by rw [hs9]⟩ ⟨fun i hi => ?_, fun i hi => ?_, fun k hk => ?_, fun i hi => ?_⟩ (Or.inr ⟨by rw [hs9]; exact h1, mm, vv, ww, t, lg, un1 + 1, hV2⟩), by rw [hs9]; exact h1, ⟨un1 + 1, hV2⟩, fun k k1 k2 => ?_⟩
  · rw [si_o (by omega), pb_o (by omega), a2 k (by omega) (by omega)]
  · rw [si_o (by decide), w3 1 (by decide) (by decide), b1 1 (by decide) (by decide)]
  · rw [si_p (by omega), w4 i (by omega) (by omega), b2 i (by omega)]
  · rw [si_o (by omega), w3 k (by omega) (by omega), b1 k (by omega) (by omega)]
  · rw [si_o (by decide), w3 64 (by decide) (by decide), b1 64 (by decide) (by decide)]
  · rw [si_o k2, w3 k k1 k2, b1 k k1 k2]
end KA
