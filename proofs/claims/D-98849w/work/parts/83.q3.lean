/-! PURE LAW: log, end, feed -/
set_option maxRecDepth 100000
section AF
variable {σx σm σx' σm' : cS} {rs : List RS} {im : IM} {mm vv ww t u lg un un' : Nat} {δ σ δ' σ' z w a b : cS}
theorem Rn.gen (h : Rn mm vv ww t u δ σ) (hx : ∀ k, 10 ≤ k → k ≤ 19 → k ≠ 15 → δ'.1 k = δ.1 k) (h9 : ∀ i, i ≠ 4 → i ≠ 5 → i ≠ 6 → δ'.1 999 i = δ.1 999 i) (hm : ∀ k, 2 ≤ k → k ≤ 11 → σ'.1 k = σ.1 k) (h1 : ∀ i, i < 6 → σ'.1 1 i = σ.1 1 i) : Rn mm vv ww t u δ' σ' := by
  obtain ⟨⟨⟨a1, a2⟩, a3, ⟨a4, a5⟩, ⟨a6, a7⟩, a8, a9, a10⟩, hr⟩ := h
  refine ⟨⟨⟨(h9 0 (by decide) (by decide) (by decide)).trans a1, (h1 0 (by decide)).trans a2⟩, ?_, ⟨(h9 2 (by decide) (by decide) (by decide)).trans a4, (h1 2 (by decide)).trans a5⟩, ⟨(h9 3 (by decide) (by decide) (by decide)).trans a6, (h1 3 (by decide)).trans a7⟩, ?_, (h9 8 (by decide) (by decide) (by decide)).trans a9, (h1 5 (by decide)).trans a10⟩, ?_⟩
  · rw [h9 1 (by decide) (by decide) (by decide), h1 1 (by decide)]; exact a3
  · rw [h9 7 (by decide) (by decide) (by decide), h1 4 (by decide)]; exact a8
  · unfold Rl Rv Rw Rt at *
    rw [hx 16 (by decide) (by decide) (by decide), hx 17 (by decide) (by decide) (by decide), hx 18 (by decide) (by decide) (by decide), hx 11 (by decide) (by decide) (by decide), hx 12 (by decide) (by decide) (by decide), hx 13 (by decide) (by decide) (by decide), hx 19 (by decide) (by decide) (by decide), hx 14 (by decide) (by decide) (by decide), hx 10 (by decide) (by decide) (by decide), hm 2 (by decide) (by decide), hm 3 (by decide) (by decide), hm 4 (by decide) (by decide), hm 5 (by decide) (by decide), hm 6 (by decide) (by decide), hm 7 (by decide) (by decide), hm 8 (by decide) (by decide), hm 9 (by decide) (by decide), hm 10 (by decide) (by decide), hm 11 (by decide) (by decide)]
    exact hr
theorem VfN.log {lg' : Nat} (h : VfN mm vv ww t lg un δ σ) (hx : ∀ k, k ≠ 15 → k ≠ 999 → δ'.1 k = δ.1 k) (h9 : ∀ i, i ≠ 4 → δ'.1 999 i = δ.1 999 i) (hm : ∀ k, k ≠ 1 → k ≠ 12 → k ≠ 13 → k ≠ 14 → σ'.1 k = σ.1 k) (h1 : ∀ i, i ≠ 6 → σ'.1 1 i = σ.1 1 i) (hl : Rlg mm lg' δ' σ') : VfN mm vv ww t lg' un δ' σ' := by
  obtain ⟨hn, ht, -, ⟨d1, d2, d3, d4⟩, ⟨⟨u1, u2, u3⟩, u4, u5⟩⟩ := h
  refine ⟨hn.gen (fun k k1 k2 k3 => hx k k3 (by omega)) (fun i i4 _ _ => h9 i i4) (fun k k1 k2 => hm k (by omega) (by omega) (by omega) (by omega)) (fun i hi => h1 i (by omega)), ht, hl, ⟨?_, fun i hi => ?_, fun i hi => ?_, fun i hi => ?_⟩, ⟨(h9 5 (by decide)).trans u1, by rw [hm 999 (by decide) (by decide) (by decide) (by decide)]; exact u2, u3⟩, fun i hi => ?_, fun r hr => ?_⟩
  · rw [h9 6 (by decide), hm 16 (by decide) (by decide) (by decide) (by decide)]; exact d1
  · rw [hx 9 (by decide) (by decide), hm 15 (by decide) (by decide) (by decide) (by decide)]; exact d2 i hi
  · rw [hm 5 (by decide) (by decide) (by decide) (by decide)]; exact d3 i hi
  · rw [hm 4 (by decide) (by decide) (by decide) (by decide)]; exact d4 i hi
  · rw [hx 20 (by decide) (by decide), hm 49 (by decide) (by decide) (by decide) (by decide)]; exact u4 i hi
  · rw [hm 49 (by decide) (by decide) (by decide) (by decide)]; exact u5 r hr
theorem op_log (h : PL σx rs im σm) (v1 v2 v3 : Int32) : JP rs im (x_log σx v1 v2 v3) (m_log σm v1 v2 v3) := by
  unfold x_log m_log
  refine JJ.ii Iff.rfl (fun _ _ => ?_) (fun _ _ => ?_)
  · rcases h.ps with ⟨h0, hv⟩ | ⟨h1, mm, vv, ww, t, lg, un, hV⟩
    · refine JJ.tl h0 (JJ.ret ⟨rfl, h.strip Xs.rf (Ms.st (Or.inl ⟨rfl, by decide, by decide⟩)) (Or.inl ⟨h0, fun i hi => ?_, ?_⟩)⟩)
      · by_cases e : i = 6
        · subst e; exact si_a
        · show (si σm 1 6 0).1 1 i = 0
          rw [si_p e]; exact hv.1 i hi
      · rw [si_o (by decide)]; exact hv.2
    · have hV2 : VfN mm vv ww t 0 un (vw (si σx 1999 4 0) 1000) (si σm 1 (ix 6) 0) := by
        rw [show (1999 : Nat) = 1000 + 999 from rfl, vw_si]
        refine hV.log (fun k k1 k2 => si_o k2) (fun i hi => si_p hi) (fun k k1 _ _ _ => si_o k1) (fun i hi => si_p hi) ⟨⟨si_a, si_a, by decide⟩, fun k hk => absurd hk (by omega)⟩
      exact JJ.el (by rw [h1]; decide) (JJ.ret ⟨rfl, h.strip (Xs.st (by omega)) (Ms.st (Or.inl ⟨rfl, by decide, by decide⟩)) (Or.inr ⟨by rw [si_o (by decide)]; exact h1, _, _, _, _, _, _, hV2⟩)⟩)
  · refine JJ.bl (x_in_eq v1 0 30) (JJ.br (m_in_eq v1 0 30) ?_)
    rcases ib_e (v := v1) (a := 0) (b := 30) with e | ⟨e, b1, b2⟩
    · exact JJ.tl e (JJ.tr e (JJ.ret ⟨rfl, h⟩))
    obtain ⟨n, hn, rfl⟩ := nI_of ((n_le _ _).mpr b1)
    have hn30 : n ≤ 30 := (nI_leI (b := 30) hn (by decide)).mp b2
    refine JJ.el (by rw [e]; decide) (JJ.er (by rw [e]; decide) ?_)
    obtain ⟨r, e1, e2, hr⟩ := q_isMile h v2
    refine JJ.bl e1 (JJ.br e2 ?_)
    rcases hr with rfl | ⟨rfl, h1, mm, vv, ww, t, lg, un, j, hV, hj, rfl⟩
    · exact JJ.tl rfl (JJ.tr rfl (JJ.ret ⟨rfl, h⟩))
    have hz := nz_1 h1
    refine JJ.el (by decide) (JJ.er (by decide) (JJ.bl (x_in_eq v3 0 99) (JJ.br (m_in_eq v3 0 99) (JJ.ii Iff.rfl (fun _ _ => JJ.ret ⟨rfl, h⟩) (fun _ _ => JJ.gl hz ?_)))))
    obtain ⟨⟨l1, l2, l3⟩, l4⟩ := hV.2.2.1
    have l1' : σx.1 1999 4 = nI lg := l1
    rw [l1', show ix 6 = 6 from rfl, l2]
    refine JJ.ii Iff.rfl (fun _ _ => JJ.ret ⟨rfl, h⟩) (fun c _ => ?_)
    have hlg : lg < 10 := by
      have : lg ≠ 10 := fun q => c (by rw [q]; rfl)
      omega
    have h10 := hV.1.m10
    have f0 : (3 : Int32) * nI lg = nI (3 * lg) := by rw [show (3 : Int32) = nI 3 from rfl, pk_mul]
    have f1 : (3 : Int32) * nI lg + 1 = nI (3 * lg + 1) := by rw [f0, nI_1]
    have f2 : (3 : Int32) * nI lg + 2 = nI (3 * lg + 2) := by rw [f0, show (2 : Int32) = nI 2 from rfl, nI_add]
    rw [f1, f2, f0, ixn (by omega), ixn (by omega), ixn (by omega), ixn (by omega)]
    refine JJ.gl (inbn (by omega) (by decide)) (JJ.gl (by rw [si_o (by decide)]; exact hz) (JJ.nl (JJ.gl (inbn (by omega) (by decide)) (JJ.gl (by rw [si_o (by decide), si_o (by decide)]; exact hz) (JJ.nl (JJ.gl (inbn (by omega) (by decide)) (JJ.gl (by rw [si_o (by decide), si_o (by decide), si_o (by decide)]; exact hz) (JJ.nl ?_))))))))
    rw [si_o (by decide : 1999 ≠ 1015), si_o (by decide : 1999 ≠ 1015), si_o (by decide : 1999 ≠ 1015), l1', nI_1]
    refine JJ.gl (by rw [si_o (by decide), si_o (by decide), si_o (by decide), si_o (by decide)]; exact hz) (JJ.gr (inbn (by omega) (by decide)) (JJ.nr (JJ.nr (JJ.nr ?_))))
    rw [si_o (by decide : 1 ≠ 14), si_o (by decide : 1 ≠ 13), si_o (by decide : 1 ≠ 12), l2, nI_1]
    refine JJ.ret ⟨by dsimp only; rw [si_a], h.strip ((Xs.st (by omega)).tr ((Xs.st (by omega)).tr ((Xs.st (by omega)).tr (Xs.st (by omega))))) ((Ms.st (by omega)).tr ((Ms.st (by omega)).tr ((Ms.st (by omega)).tr (Ms.st (by omega))))) (Or.inr ⟨by rw [si_o (by decide), si_o (by decide), si_o (by decide), si_o (by decide)]; exact h1, mm, vv, ww, t, lg + 1, un, ?_⟩)⟩
    have ev : vw (si (si (si (si σx 1015 (3 * lg) (nI n)) 1015 (3 * lg + 1) (nI j)) 1015 (3 * lg + 2) v3) 1999 4 (nI (lg + 1))) 1000 = si (si (si (si (vw σx 1000) 15 (3 * lg) (nI n)) 15 (3 * lg + 1) (nI j)) 15 (3 * lg + 2) v3) 999 4 (nI (lg + 1)) := by
      rw [show (1999 : Nat) = 1000 + 999 from rfl, vw_si, show (1015 : Nat) = 1000 + 15 from rfl, vw_si, vw_si, vw_si]
    rw [ev]
    refine hV.log (fun k k1 k2 => by rw [si_o k2, si_o k1, si_o k1, si_o k1]) (fun i hi => by rw [si_p hi, si_o (by decide), si_o (by decide), si_o (by decide)]) (fun k k1 k2 k3 k4 => by rw [si_o k1, si_o k4, si_o k3, si_o k2]) (fun i hi => by rw [si_p hi, si_o (by decide), si_o (by decide), si_o (by decide)]) ⟨⟨si_a, si_a, by omega⟩, fun k hk => ?_⟩
    rw [si_o (by decide : 15 ≠ 999), si_o (by decide : 12 ≠ 1), si_o (by decide : 12 ≠ 14), si_o (by decide : 12 ≠ 13), si_o (by decide : 13 ≠ 1), si_o (by decide : 13 ≠ 14), si_o (by decide : 14 ≠ 1)]
    by_cases q : k = lg
    · subst q
      refine ⟨⟨n, hn30, ?_, si_a⟩, ⟨j, hj, ?_, si_a⟩, ?_⟩
      · rw [si_p (by omega), si_p (by omega), si_a]
      · rw [si_p (by omega), si_a]
      · rw [si_a, si_a]
    · obtain ⟨p1, p2, p3⟩ := l4 k (by omega)
      refine ⟨?_, ?_, ?_⟩
      · rw [si_p (by omega), si_p (by omega), si_p (by omega), si_p q]; exact p1
      · rw [si_p (by omega), si_p (by omega), si_p (by omega), si_p q, si_o (by decide : 13 ≠ 12)]; exact p2
      · rw [si_p (by omega), si_p (by omega), si_p (by omega), si_p q, si_o (by decide : 14 ≠ 13), si_o (by decide : 14 ≠ 12)]; exact p3
/-! the tape -/
def Tp (σx0 σm0 : cS) (tp : Nat) (a b : cS) : Prop := (∀ k, k ≠ 9 → k ≠ 999 → a.1 k = σx0.1 k) ∧ (∀ i, i ≠ 10 → a.1 999 i = σx0.1 999 i) ∧ (∀ k, k ≠ 37 → k ≠ 999 → b.1 k = σm0.1 k) ∧ (∀ i, i ≠ 27 → b.1 999 i = σm0.1 999 i) ∧ a.1 999 10 = nI tp ∧ b.1 999 27 = nI tp ∧ ∀ i, i < tp → a.1 9 i = b.1 37 i ∧ byt (b.1 37 i)
theorem byt_8 (x : Int32) : byt x.toInt8.toInt32 := by
  unfold byt
  rw [Int8.toInt_toInt32]
  have h1 := Int8.le_toInt x.toInt8
  have h2 := Int8.toInt_lt x.toInt8
  omega
theorem Tp.step {σx0 σm0 : cS} {tp : Nat} {x : Int32} (h : Tp σx0 σm0 tp a b) (ht : tp < 400) (hx : byt x) : Tp σx0 σm0 (tp + 1) (si (si a 9 tp x) 999 10 (nI (tp + 1))) (si (si b 37 tp x) 999 27 (nI (tp + 1))) := by
  obtain ⟨h1, h2, h3, h4, h5, h6, h7⟩ := h
  refine ⟨fun k k1 k2 => by rw [si_o k2, si_o k1]; exact h1 k k1 k2, fun i hi => by rw [si_p hi, si_o (by decide)]; exact h2 i hi, fun k k1 k2 => by rw [si_o k2, si_o k1]; exact h3 k k1 k2, fun i hi => by rw [si_p hi, si_o (by decide)]; exact h4 i hi, si_a, si_a, fun i hi => ?_⟩
  rw [si_o (by decide : 9 ≠ 999), si_o (by decide : 37 ≠ 999)]
  by_cases e : i = tp
  · subst e
    rw [si_a, si_a]
    exact ⟨rfl, hx⟩
  · rw [si_p e, si_p e]
    exact h7 i (by omega)
theorem jt_four {σx0 σm0 : cS} {tp : Nat} (h : Tp σx0 σm0 tp a b) (ht : tp + 4 ≤ 400) (v : Int32) : JJ (x_four a v) (m_put b v) (fun a' b' => Tp σx0 σm0 (tp + 4) a' b') := by
  obtain ⟨n, hn⟩ : ∃ n, FU = n + 5 := ⟨FU - 5, by have := FU_gt (n := 5) (by decide); omega⟩
  have one : ∀ (tp n : Nat) (a b : cS) (c : Int32), ¬ c < 0 → Tp σx0 σm0 tp a b → tp < 400 → ∃ a' b', Tp σx0 σm0 (tp + 1) a' b' ∧ x_four_3 v (fun σ_5 => some σ_5) (n + 1) a c = x_four_3 v (fun σ_5 => some σ_5) n a' (c + -8) ∧ m_put_3 v (fun σ_5 => some σ_5) (n + 1) b c = m_put_3 v (fun σ_5 => some σ_5) n b' (c + -8) := by
    intro tp n a b c hc h ht
    refine ⟨_, _, h.step ht (byt_8 (v >>> (c &&& 31)).toInt8.toInt32), ?_, ?_⟩
    · rw [x_four_3, if_neg hc, h.2.2.2.2.1, inbn ht (by decide), ixn (by omega)]
      show x_four_3 v _ n (si (si a 9 tp _) 999 10 ((si a 9 tp _).1 999 10 + 1)) (c + -8) = _
      rw [si_o (by decide : 999 ≠ 9), h.2.2.2.2.1, nI_1]
    · rw [m_put_3, if_neg hc, h.2.2.2.2.2.1, inbn ht (by decide), ixn (by omega)]
      show m_put_3 v _ n (si (si b 37 tp _) 999 27 ((si b 37 tp _).1 999 27 + 1)) (c + -8) = _
      rw [si_o (by decide : 999 ≠ 37), h.2.2.2.2.2.1, nI_1]
  obtain ⟨a1, b1, q1, x1, m1⟩ := one tp (n + 4) a b 24 (by decide) h (by omega)
  obtain ⟨a2, b2, q2, x2, m2⟩ := one (tp + 1) (n + 3) a1 b1 (24 + -8) (by decide) q1 (by omega)
  obtain ⟨a3, b3, q3, x3, m3⟩ := one (tp + 2) (n + 2) a2 b2 (24 + -8 + -8) (by decide) q2 (by omega)
  obtain ⟨a4, b4, q4, x4, m4⟩ := one (tp + 3) (n + 1) a3 b3 (24 + -8 + -8 + -8) (by decide) q3 (by omega)
  refine ⟨a4, b4, ?_, ?_, q4⟩
  · unfold x_four
    rw [hn, x1, x2, x3, x4, x_four_3]
    exact if_pos (by decide)
  · unfold m_put
    rw [hn, m1, m2, m3, m4, m_put_3]
    exact if_pos (by decide)
theorem op_feed (h : PL σx rs im σm) (v1 v2 v3 v4 v5 : Int32) : JP rs im (x_feed σx v1 v2 v3 v4 v5) (m_feed σm v1 v2 v3 v4 v5) := by
  obtain ⟨tp, t1, t2, t3, t4⟩ := h.1
  unfold x_feed m_feed
  rw [t2, t3, show (20 : Int32) = nI 20 from rfl, nI_add]
  refine JJ.ii Iff.rfl (fun c _ => ?_) (fun _ _ => JJ.ret ⟨rfl, h⟩)
  have hc : tp + 20 ≤ 400 := (nI_leI (b := 400) (by omega) (by decide)).mp c
  have h0 : Tp σx σm tp σx σm := ⟨fun _ _ _ => rfl, fun _ _ => rfl, fun _ _ _ => rfl, fun _ _ => rfl, t2, t3, t4⟩
  refine JJ.bd (jt_four h0 (by omega) v1) (fun a1 b1 q1 => JJ.bd (jt_four q1 (by omega) v2) (fun a2 b2 q2 => JJ.bd (jt_four q2 (by omega) v3) (fun a3 b3 q3 => JJ.bd (jt_four q3 (by omega) v4) (fun a4 b4 q4 => JJ.bd (jt_four q4 (by omega) v5) (fun a5 b5 q5 => ?_)))))
  obtain ⟨p1, p2, p3, p4, p5, p6, p7⟩ := q5
  exact JJ.ret ⟨p5.trans p6.symm, h.tape p1 p2 p3 (fun i i1 _ _ _ _ _ _ _ => p4 i i1) ⟨tp + 4 + 4 + 4 + 4 + 4, by omega, p5, p6, p7⟩⟩
theorem op_end (h : PL σx rs im σm) (v : Int32) : JP rs im (x_end σx v) (m_end σm v) := by
  obtain ⟨tp, t1, t2, t3, t4⟩ := h.1
  unfold x_end m_end
  rw [t2, t3]
  refine JJ.ii Iff.rfl (fun _ _ => JJ.ret ⟨rfl, h⟩) (fun c _ => JJ.ii Iff.rfl (fun d _ => ?_) (fun _ _ => JJ.ret ⟨rfl, h⟩))
  obtain ⟨n, hn, rfl⟩ := nI_of c
  have hd : n ≤ tp := (nI_leI hn (by omega)).mp d
  exact JJ.ret ⟨rfl, h.tape (fun k _ k2 => si_o k2) (fun i hi => si_p hi) (fun k _ k2 => si_o k2) (fun i i1 _ _ _ _ _ _ _ => si_p i1) ⟨n, by omega, si_a, si_a, fun i hi => by rw [si_o (by decide), si_o (by decide)]; exact t4 i (by omega)⟩⟩
end AF
