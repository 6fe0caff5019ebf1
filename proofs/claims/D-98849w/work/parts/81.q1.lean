/-! PURE LAW: salt, sugar, slice, bake, mile, village, warm -/
set_option maxRecDepth 100000
theorem vw_si {σ : cS} {b k i : Nat} {v : Int32} : vw (si σ (b + k) i v) b = si (vw σ b) k i v := by
  refine Prod.ext (funext fun j => ?_) rfl
  by_cases e : j = k
  · subst e
    show (si σ (b + j) i v).1 (b + j) = _
    rw [si_s, si_s]
    rfl
  · show (si σ (b + k) i v).1 (b + j) = _
    rw [si_o (by omega), si_o e]
    rfl
section AD
variable {σx σm σx' σm' : cS} {rs : List RS} {im : IM} {mm vv ww t u lg un un' : Nat} {δ σ δ' σ' z w : cS}
theorem VfN.salt {i s : Nat} (h : VfN mm vv ww t lg un δ σ) (hs : s ≤ 9) : VfN mm vv ww t lg un (si δ 18 i (nI s)) (si σ 4 i (nI s)) := by
  obtain ⟨hn, ht, hl, ⟨d1, d2, d3, d4⟩, hu⟩ := h
  refine ⟨hn.salt, ht, hl, ⟨d1, d2, d3, fun k hk => ?_⟩, hu⟩
  rw [si_s]
  exact upd_P (P := fun x => ∃ s, s ≤ 9 ∧ x = nI s) (d4 k hk) ⟨s, hs, rfl⟩
theorem VfN.dough {i : Nat} {x : Int32} (h : VfN mm vv ww t lg un δ σ) : VfN mm vv ww t lg un (si δ 17 i x) (si σ 3 i x) := ⟨h.1.dough, h.2⟩
theorem VfN.bake {x : Int32} (h : VfN mm vv ww t lg un δ σ) : VfN mm vv ww t lg un (si δ 999 7 x) (si σ 1 4 x) := by
  obtain ⟨hn, ht, ⟨⟨l1, l2, l3⟩, l4⟩, ⟨d1, d2, d3, d4⟩, ⟨⟨u1, u2, u3⟩, u4, u5⟩⟩ := h
  exact ⟨hn.bake, ht, ⟨⟨by rw [si_p (by decide)]; exact l1, by rw [si_p (by decide)]; exact l2, l3⟩, l4⟩, ⟨by rw [si_p (by decide)]; exact d1, d2, d3, d4⟩, ⟨by rw [si_p (by decide)]; exact u1, u2, u3⟩, u4, u5⟩
theorem op_salt (h : PL σx rs im σm) (v : Int32) : JP rs im (x_salt σx v) (m_salt σm v) := by
  obtain ⟨r, e1, e2, hr⟩ := q_isMile h v
  unfold x_salt m_salt
  refine JJ.bl e1 (JJ.br e2 ?_)
  rcases hr with rfl | ⟨rfl, h1, mm, vv, ww, t, lg, un, j, hV, hj, rfl⟩
  · exact JJ.tl rfl (JJ.tr rfl (JJ.ret ⟨rfl, h⟩))
  have h10 := hV.1.m10
  refine JJ.el (by decide) (JJ.er (by decide) (JJ.gl (by rw [h1]; rfl) (JJ.gl (inbn (by omega) (by decide)) (JJ.gr (inbn (by omega) (by decide)) ?_))))
  rw [ixn (by omega)]
  have es : σx.1 1018 j = σm.1 4 j := hV.1.sl (by omega)
  rw [es]
  refine JJ.ii Iff.rfl (fun _ _ => JJ.ret ⟨rfl, h⟩) (fun c _ => ?_)
  refine JJ.bd (jx_keepsAct h h1 hV) (fun a b ⟨hP, a1, ⟨un', hV'⟩, hb⟩ => ?_)
  have ea : a.1 1018 j = b.1 4 j := hV'.1.sl (by omega)
  obtain ⟨s, hs, e4⟩ := hV.2.2.2.1.2.2.2 j (by omega)
  have e4b : b.1 4 j = nI s := by rw [hb 4 (by decide) (by decide)]; exact e4
  have hs9 : s + 1 ≤ 9 := by
    have : s ≠ 9 := fun q => c (by rw [e4, q]; rfl)
    omega
  rw [ea, e4b, nI_1]
  have hV2 : VfN mm vv ww t lg un' (vw (si a 1018 j (nI (s + 1))) 1000) (si b 4 j (nI (s + 1))) := by
    rw [show (1018 : Nat) = 1000 + 18 from rfl, vw_si]
    exact hV'.salt hs9
  refine JJ.gl (by rw [a1]; rfl) (JJ.gl (by rw [si_o (by decide), a1]; rfl) (JJ.ret ⟨by dsimp only; rw [si_a, si_a], hP.strip (Xs.st (by omega)) (Ms.st (by omega)) (Or.inr ⟨by rw [si_o (by decide)]; exact a1, _, _, _, _, _, _, hV2⟩)⟩))
theorem op_sugar (h : PL σx rs im σm) (v : Int32) : JP rs im (x_sugar σx v) (m_sugar σm v) := by
  obtain ⟨r, e1, e2, hr⟩ := q_isSoft h v
  unfold x_sugar m_sugar
  refine JJ.bl e1 (JJ.br e2 ?_)
  rcases hr with rfl | ⟨rfl, h1, mm, vv, ww, t, lg, un, j, hV, hj, rfl⟩
  · exact JJ.tl rfl (JJ.tr rfl (JJ.ret ⟨rfl, h⟩))
  have h10 := hV.1.m10
  refine JJ.el (by decide) (JJ.er (by decide) ?_)
  refine JJ.bd (jx_keepsAct h h1 hV) (fun a b ⟨hP, a1, ⟨un', hV'⟩, hb⟩ => ?_)
  refine JJ.gl (by rw [a1]; rfl) (JJ.gl (inbn (by omega) (by decide)) (JJ.gr (inbn (by omega) (by decide)) ?_))
  rw [ixn (by omega)]
  have ea : a.1 1018 j = b.1 4 j := hV'.1.sl (by omega)
  have ed : a.1 1017 j = b.1 3 j := hV'.1.dg (by omega)
  obtain ⟨s, hs, e4⟩ := hV'.2.2.2.1.2.2.2 j (by omega)
  have e7 : (if b.1 4 j ≤ 0 then some (0 : Int32) else some (b.1 4 j - 1)) = some (nI (s - 1)) := by
    rw [e4]
    by_cases q : s = 0
    · subst q; rfl
    · rw [if_neg (nI_nle (by omega) (by omega)), nI_m1 (by omega)]
  rw [ea, e4] at *
  rw [jmax0 (by omega)]
  refine JJ.gl (by rw [si_o (by decide), a1]; rfl) (JJ.nl ?_)
  refine JJ.br e7 ?_
  rw [si_o (by decide : 1017 ≠ 1018), si_o (by decide : 3 ≠ 4), ed, jmin99]
  have hV2 : VfN mm vv ww t lg un' (vw (si a 1018 j (nI (s - 1))) 1000) (si b 4 j (nI (s - 1))) := by
    rw [show (1018 : Nat) = 1000 + 18 from rfl, vw_si]
    exact hV'.salt (by omega)
  have hV3 : ∀ x, VfN mm vv ww t lg un' (vw (si (si a 1018 j (nI (s - 1))) 1017 j x) 1000) (si (si b 4 j (nI (s - 1))) 3 j x) := by
    intro x
    rw [show (1017 : Nat) = 1000 + 17 from rfl, vw_si]
    exact hV2.dough
  have fin : ∀ x, JP rs im (some (si (si a 1018 j (nI (s - 1))) 1017 j x, (si (si a 1018 j (nI (s - 1))) 1017 j x).1 1017 j)) (some (si (si b 4 j (nI (s - 1))) 3 j x, (si (si b 4 j (nI (s - 1))) 3 j x).1 3 j)) := by
    intro x
    exact JJ.ret ⟨by dsimp only; rw [si_a, si_a], hP.strip ((Xs.st (by omega)).tr (Xs.st (by omega))) ((Ms.st (by omega)).tr (Ms.st (by omega))) (Or.inr ⟨by rw [si_o (by decide), si_o (by decide)]; exact a1, _, _, _, _, _, _, hV3 x⟩)⟩
  refine JJ.gl (by rw [si_o (by decide), si_o (by decide), a1]; rfl) ?_
  by_cases q : b.1 3 j + 10 ≤ 99
  · rw [if_pos q]
    exact JJ.br (if_pos q) (JJ.nr (fin _))
  · rw [if_neg q]
    exact JJ.br (if_neg q) (JJ.nr (fin _))
theorem op_slice (h : PL σx rs im σm) (v f : Int32) : JP rs im (x_slice σx v f) (m_slice σm v f) := by
  obtain ⟨r, e1, e2, hr⟩ := q_isSoft h v
  unfold x_slice m_slice
  refine JJ.bl e1 (JJ.br e2 ?_)
  rcases hr with rfl | ⟨rfl, h1, mm, vv, ww, t, lg, un, j, hV, hj, rfl⟩
  · exact JJ.tl rfl (JJ.tr rfl (JJ.ret ⟨rfl, h⟩))
  have h10 := hV.1.m10
  refine JJ.el (by decide) (JJ.er (by decide) (JJ.bl (x_in_eq f 1 99) (JJ.br (m_in_eq f 1 99) ?_)))
  refine JJ.ii Iff.rfl (fun _ _ => JJ.ret ⟨rfl, h⟩) (fun _ _ => ?_)
  refine JJ.gl (by rw [h1]; rfl) (JJ.gl (inbn (by omega) (by decide)) (JJ.gr (inbn (by omega) (by decide)) ?_))
  rw [ixn (by omega)]
  have ed : σx.1 1017 j = σm.1 3 j := hV.1.dg (by omega)
  rw [ed]
  refine JJ.ii Iff.rfl (fun _ _ => ?_) (fun _ _ => JJ.ret ⟨rfl, h⟩)
  refine JJ.bd (jx_keepsAct h h1 hV) (fun a b ⟨hP, a1, ⟨un', hV'⟩, hb⟩ => ?_)
  have ea : a.1 1017 j = b.1 3 j := hV'.1.dg (by omega)
  rw [ea]
  have hV2 : VfN mm vv ww t lg un' (vw (si a 1017 j (b.1 3 j - f)) 1000) (si b 3 j (b.1 3 j - f)) := by
    rw [show (1017 : Nat) = 1000 + 17 from rfl, vw_si]
    exact hV'.dough
  refine JJ.gl (by rw [a1]; rfl) (JJ.gl (by rw [si_o (by decide), a1]; rfl) (JJ.ret ⟨by dsimp only; rw [si_a, si_a], hP.strip (Xs.st (by omega)) (Ms.st (by omega)) (Or.inr ⟨by rw [si_o (by decide)]; exact a1, _, _, _, _, _, _, hV2⟩)⟩))
theorem op_bake (h : PL σx rs im σm) (v : Int32) : JP rs im (x_bake σx v) (m_bake σm v) := by
  obtain ⟨r, e1, e2, hr⟩ := q_isSoft h v
  unfold x_bake m_bake
  refine JJ.bl e1 (JJ.br e2 ?_)
  rcases hr with rfl | ⟨rfl, h1, mm, vv, ww, t, lg, un, j, hV, hj, rfl⟩
  · exact JJ.tl rfl (JJ.tr rfl (JJ.ret ⟨rfl, h⟩))
  refine JJ.el (by decide) (JJ.er (by decide) ?_)
  refine JJ.bd (jx_keepsAct h h1 hV) (fun a b ⟨hP, a1, ⟨un', hV'⟩, hb⟩ => ?_)
  have ea : a.1 1999 7 = b.1 1 (ix 4) := hV'.1.bd
  rw [ea]
  have hV2 : ∀ x, VfN mm vv ww t lg un' (vw (si a 1999 7 x) 1000) (si b 1 (ix 4) x) := by
    intro x
    rw [show (1999 : Nat) = 1000 + 999 from rfl, vw_si]
    exact hV'.bake
  exact JJ.gl (by rw [a1]; rfl) (JJ.ret ⟨rfl, hP.strip (Xs.st (by omega)) (Ms.st (Or.inl ⟨rfl, by decide, by decide⟩)) (Or.inr ⟨by rw [si_o (by decide)]; exact a1, _, _, _, _, _, _, hV2 _⟩)⟩)
/-! what there is -/
theorem nz_1 {x : Int32} (h : x = 1) : nz x = true := by rw [h]; rfl
theorem op_mile (h : PL σx rs im σm) (v what : Int32) : JJ (x_mile σx v what) (m_mile σm v what) (fun a b => a = b) := by
  obtain ⟨r, e1, e2, hr⟩ := q_isMile h v
  unfold x_mile m_mile
  refine JJ.bl e1 (JJ.br e2 ?_)
  rcases hr with rfl | ⟨rfl, h1, mm, vv, ww, t, lg, un, j, hV, hj, rfl⟩
  · exact JJ.tl rfl (JJ.tr rfl (JJ.ret rfl))
  have h10 := hV.1.m10
  have h8 := hV.1.v8
  have hz := nz_1 h1
  refine JJ.el (by decide) (JJ.er (by decide) ?_)
  refine JJ.ii Iff.rfl (fun _ _ => JJ.gl hz (JJ.gl (inbn (by omega) (by decide)) (JJ.gr (inbn (by omega) (by decide)) (JJ.ret (by rw [ixn (by omega)]; exact hV.1.ln (by omega)))))) (fun _ _ => ?_)
  refine JJ.ii Iff.rfl (fun _ _ => JJ.gl hz (JJ.gl (inbn (by omega) (by decide)) (JJ.gr (inbn (by omega) (by decide)) (JJ.ret (by rw [ixn (by omega)]; exact hV.1.dg (by omega)))))) (fun _ _ => ?_)
  refine JJ.ii Iff.rfl (fun _ _ => JJ.gl hz (JJ.gl (inbn (by omega) (by decide)) (JJ.gr (inbn (by omega) (by decide)) (JJ.ret (by rw [ixn (by omega)]; exact hV.1.sl (by omega)))))) (fun _ _ => ?_)
  refine JJ.ii Iff.rfl (fun _ _ => JJ.gl hz (JJ.bl (d_isBaked_eq _ _) (JJ.br (m_isBaked_eq _ _) (JJ.ii (by rw [hV.1.bd]) (fun _ _ => JJ.ret rfl) (fun _ _ => JJ.ret rfl))))) (fun _ _ => ?_)
  refine JJ.ii Iff.rfl (fun _ _ => ?_) (fun _ _ => JJ.ret rfl)
  have dv : σx.1 1999 2 = nI vv := hV.1.dv
  refine JJ.loop (S := Int32) (T := Int32) (Lx := fun n s i => x_mile_106 σx (nI j) (fun v => some v) n s i) (Lm := fun n s i => m_mile_88 σm (nI j) (fun v => some v) n s i) (I := fun _ a b => a = b) (N := vv) ?_ ?_ vv 0 (by omega) FU FU (FU_gt (by omega)) (FU_gt (by omega)) 0 0 rfl
  · intro n n' k a b hk hI kk
    subst hI
    show JJ (x_mile_106 _ _ _ (n + 1) a (nI k)) (m_mile_88 _ _ _ (n' + 1) a (nI k)) _
    rw [x_mile_106, m_mile_88]
    obtain ⟨m', hm', e3, e4⟩ := hV.1.at_ hk
    have e3' : σx.1 1011 k = nI m' := e3
    refine JJ.gl hz (JJ.el (by rw [dv]; exact nI_ge hk (by omega)) (JJ.er (by rw [hV.1.mv']; exact nI_ge hk (by omega)) (JJ.gl (inbn (by omega) (by decide)) (JJ.gr (inbn (by omega) (by decide)) ?_))))
    rw [ixn (by omega), nI_1, e3', e4]
    exact JJ.ii Iff.rfl (fun _ _ => kk _ _ rfl) (fun _ _ => kk _ _ rfl)
  · intro n n' a b hI
    show JJ (x_mile_106 _ _ _ (n + 1) a (nI vv)) (m_mile_88 _ _ _ (n' + 1) b (nI vv)) _
    rw [x_mile_106, m_mile_88]
    exact JJ.gl hz (JJ.tl (by rw [dv]; exact nI_le (Nat.le_refl _) (by omega)) (JJ.tr (by rw [hV.1.mv']; exact nI_le (Nat.le_refl _) (by omega)) (JJ.ret hI)))
theorem op_village (h : PL σx rs im σm) (v what : Int32) : JJ (x_village σx v what) (m_village σm v what) (fun a b => a = b) := by
  obtain ⟨r, e1, e2, hr⟩ := q_isVillage h v
  unfold x_village m_village
  refine JJ.bl e1 (JJ.br e2 ?_)
  rcases hr with rfl | ⟨rfl, h1, mm, vv, ww, t, lg, un, j, hV, hj, rfl⟩
  · exact JJ.tl rfl (JJ.tr rfl (JJ.ret rfl))
  have h8 := hV.1.v8
  have hz := nz_1 h1
  refine JJ.el (by decide) (JJ.er (by decide) ?_)
  refine JJ.ii Iff.rfl (fun _ _ => JJ.gl hz (JJ.gl (inbn (by omega) (by decide)) (JJ.gr (inbn (by omega) (by decide)) (JJ.ret (by obtain ⟨m', -, e3, e4⟩ := hV.1.at_ hj; rw [ixn (by omega), e4]; exact e3))))) (fun _ _ => ?_)
  refine JJ.ii Iff.rfl (fun _ _ => JJ.gl hz (JJ.gl (inbn (by omega) (by decide)) (JJ.gr (inbn (by omega) (by decide)) (JJ.ret (by rw [ixn (by omega)]; exact hV.1.pl hj))))) (fun _ _ => ?_)
  refine JJ.ii Iff.rfl (fun _ _ => JJ.gl hz (JJ.gl (inbn (by omega) (by decide)) (JJ.gr (inbn (by omega) (by decide)) (JJ.ret (by rw [ixn (by omega)]; exact hV.1.wh hj))))) (fun _ _ => ?_)
  refine JJ.ii Iff.rfl (fun _ _ => JJ.gl hz ?_) (fun _ _ => ?_)
  · obtain ⟨s, f1, f2⟩ := hV.1.side hj
    exact JJ.bl f1 (JJ.br f2 (JJ.ret rfl))
  exact JJ.ii Iff.rfl (fun _ _ => JJ.gl hz (JJ.gl (inbn (by omega) (by decide)) (JJ.gr (inbn (by omega) (by decide)) (JJ.ret (by rw [ixn (by omega)]; exact hV.1.cr (by omega)))))) (fun _ _ => JJ.ret rfl)
theorem op_warm (h : PL σx rs im σm) (v : Int32) : JJ (x_warm σx v) (m_warm σm v) (fun a b => a = b) := by
  unfold x_warm m_warm
  rcases q_isStrip h with ⟨h0, hs⟩ | ⟨h1, hs, mm, vv, ww, t, lg, un, hV⟩
  · exact JJ.tl h0 (JJ.br hs (JJ.tr rfl (JJ.ret rfl)))
  · refine JJ.el (by rw [h1]; decide) (JJ.br hs (JJ.er (by decide) ?_))
    by_cases c : v < 0
    · exact JJ.el (fun q => (n_le _ _).mpr q c) (JJ.tr c (JJ.ret rfl))
    · refine JJ.tl ((n_le _ _).mp c) (JJ.er c ?_)
      obtain ⟨n, hn, rfl⟩ := nI_of c
      by_cases c2 : n < 1000000
      · obtain ⟨w, f1, f2⟩ := jn_warm hV.1 c2
        exact JJ.bl f1 (JJ.br f2 (JJ.ret rfl))
      · have c3 : (100 : Int32) ≤ nI n := nI_le (a := 100) (by omega) hn
        unfold d_warmOn m_warmthOf
        rw [if_pos c3, if_pos c3]
        exact JJ.ret rfl
end AD
