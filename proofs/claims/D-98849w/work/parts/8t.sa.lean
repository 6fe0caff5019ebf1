/-! PURE LAW: op_strip -/
set_option maxRecDepth 100000
section SQ
variable {B : Nat → Int32} {tp p q w c k mm vv ww : Nat} {σ β σ' β' σx σm a b a' b' a0 b0 : cS} {rs : List RS} {im : IM}
/-- what is left behind a text that was read: Text's part put back -/
def PT (σx a T : cS) : Prop := (∀ k, k ≠ 997 → k ≠ 998 → ¬ (8000 ≤ k ∧ k < 9000) → T.1 k = σx.1 k) ∧ ∀ k, k ∈ tIds → T.1 k = a.1 k
theorem pbT_P (h : Sx σx a) : PT σx a (pbT (clT σx) a) := by
  refine ⟨fun k k1 k2 k3 => ?_, fun k hk => if_pos hk⟩
  show (if k ∈ tIds then a.1 k else (clT σx).1 k) = _
  split
  · exact h k k1 k2 k3
  · unfold clT; rw [sA_o k1]
theorem tI_mem : (997 ∈ tIds ∧ 998 ∈ tIds ∧ 999 ∈ tIds) ∧ ∀ k ∈ [8009, 8010, 8011, 8012, 8013, 8014, 8015, 8016, 8017, 8018, 8019, 8020, 8999], k ∈ tIds := by decide +kernel
theorem strip_V {a1 T T' : cS} (hR : RX mm vv ww a0 b0) (h2 : 2 ≤ mm) (ha : a1 = sA (si a0 8999 6 (a0.1 8999 7)) 8009 (va_cpy ((si a0 8999 6 (a0.1 8999 7)).1 8017) ((si a0 8999 6 (a0.1 8999 7)).1 8009) (ix 0) (ix 0) (ix 10))) (hT : ∀ k, k ∈ tIds → T.1 k = a1.1 k) (hE : eqD (vw T' 1000) (vw T 8000)) (hL : SLay (si b0 999 27 0) b) : VfN mm vv ww 0 0 0 (vw T' 1000) b := by
  obtain ⟨-, -, l3, ⟨l4, l5, l6, -⟩, l7, l8, l9, l10⟩ := hL
  obtain ⟨⟨⟨r1, r2⟩, r3, ⟨r4, r5⟩, ⟨r6, r7⟩, r8, r9, r10, r11⟩, hl, ht, ⟨hv, hc⟩, hw, -, m10, -, v8, w8⟩ := hR
  have b17 : ∀ k, k ≠ 999 → (si b0 999 27 0).1 k = b0.1 k := fun k hk => si_o hk
  rw [b17 17 (by decide)] at l10
  have e999 : ∀ i, i < 9 → i ≠ 6 → (vw T' 1000).1 999 i = a0.1 8999 i := fun i hi h6 => by
    rw [hE.1 i hi]
    show T.1 8999 i = _
    rw [hT 8999 (tI_mem.2 8999 (by decide)), ha, sA_o (by decide), si_p h6]
  have e6 : (vw T' 1000).1 999 6 = a0.1 8999 7 := by
    rw [hE.1 6 (by decide)]
    show T.1 8999 6 = _
    rw [hT 8999 (tI_mem.2 8999 (by decide)), ha, sA_o (by decide)]
    exact si_a
  have ek : ∀ k, 10 ≤ k → k ≤ 20 → ∀ i, i < zD.getD k 0 → (vw T' 1000).1 k i = a0.1 (8000 + k) i := fun k k1 k2 i hi => by
    rw [hE.2 k (by omega) k2 i hi]
    show T.1 (8000 + k) i = _
    rw [hT (8000 + k) (tI_mem.2 (8000 + k) (by simp only [List.mem_cons, List.not_mem_nil, or_false]; omega)), ha, sA_o (by omega), si_o (by omega)]
  have e9 : ∀ i, i < 10 → (vw T' 1000).1 9 i = a0.1 8017 i := fun i hi => by
    rw [hE.2 9 (by decide) (by decide) i hi]
    show T.1 8009 i = _
    rw [hT 8009 (tI_mem.2 8009 (by decide)), ha, sA_s]
    show (if 0 ≤ i ∧ i < 0 + 10 then _ else _) = _
    rw [if_pos (by omega), si_o (by decide)]
    show a0.1 8017 (0 + (i - 0)) = _
    rw [show 0 + (i - 0) = i by omega]
  have m0 : mm ≠ 0 := by omega
  refine ⟨⟨⟨⟨(e999 0 (by decide) (by decide)).trans r1, (l4 0 (by decide)).trans ((congrFun (b17 17 (by decide)) 0).trans r2)⟩, ?_, ⟨(e999 2 (by decide) (by decide)).trans r4, (l4 2 (by decide)).trans ((congrFun (b17 17 (by decide)) 2).trans r5)⟩, ⟨(e999 3 (by decide) (by decide)).trans r6, (l4 3 (by decide)).trans ((congrFun (b17 17 (by decide)) 3).trans r7)⟩, ?_, (e999 8 (by decide) (by decide)).trans r11, l5⟩, fun i hi => ?_, ⟨fun v hv' => ?_, fun v hv' => ?_⟩, fun w hw' => ?_, fun i hi => ?_, h2, m10, v8, w8, by decide, by decide, by decide⟩, by decide, ⟨⟨(e999 4 (by decide) (by decide)).trans r9, l6, by decide⟩, fun k hk => absurd hk (Nat.not_lt_zero k)⟩, ⟨?_, fun i hi => ?_, fun i hi => ?_, fun i hi => ?_⟩, ⟨⟨(e999 5 (by decide) (by decide)).trans r10, l3, by decide⟩, fun i hi => absurd hi (Nat.not_lt_zero i), fun r hr => absurd hr (Nat.not_lt_zero r)⟩⟩
  · rw [e999 1 (by decide) (by decide), l4 1 (by decide), b17 17 (by decide)]; exact r3
  · rw [e999 7 (by decide) (by decide), l4 4 (by decide), b17 17 (by decide)]; exact r8
  · obtain ⟨x1, x2, x3, x4⟩ := l7 i hi
    obtain ⟨⟨y1, y2⟩, ⟨-, y3, -⟩, y4, -⟩ := hl i hi
    rw [ek 16 (by decide) (by decide) i hi, ek 17 (by decide) (by decide) i hi, ek 18 (by decide) (by decide) i hi, x1, x2, x4, b17 18 (by decide), b17 19 (by decide), b17 20 (by decide)]
    exact ⟨y1, y2, y3 m0, y4⟩
  · have hv8 : v < 8 := by omega
    obtain ⟨x1, x2, x3, x4, x5, x6⟩ := l9 v hv8
    rw [ek 11 (by decide) (by decide) v hv8, ek 12 (by decide) (by decide) v hv8, ek 13 (by decide) (by decide) v hv8, x1, x2, x3, b17 22 (by decide), b17 23 (by decide), b17 24 (by decide)]
    exact hv v hv'
  · rw [ek 19 (by decide) (by decide) v hv', (l9 v hv').2.2.2.2.2]
    exact hc v hv'
  · have hw8 : w < 8 := by omega
    obtain ⟨x1, x2, x3, x4, x5, x6⟩ := l9 w hw8
    rw [ek 14 (by decide) (by decide) (2 * w) (by show 2 * w < 16; omega), ek 14 (by decide) (by decide) (2 * w + 1) (by show 2 * w + 1 < 16; omega), x4, x5, b17 25 (by decide), b17 26 (by decide)]
    exact hw w hw'
  · rw [ek 10 (by decide) (by decide) i hi, l8 i hi, b17 21 (by decide)]
    exact (ht i hi).1
  · rw [e6, l10]; exact r8
  · obtain ⟨x1, x2, x3, x4⟩ := l7 i hi
    obtain ⟨-, ⟨-, y3, d, y5, y6⟩, -⟩ := hl i hi
    rw [e9 i hi, x3, b17 19 (by decide), y3 m0]
    exact ⟨d, y5, y6, y6⟩
  · rw [l8 i hi, b17 21 (by decide)]; exact (ht i hi).2
  · rw [(l7 i hi).2.2.2, b17 20 (by decide)]; exact (hl i hi).2.2.2
theorem op_strip (h : PL σx rs im σm) : JP rs im (x_strip σx) (m_strip σm) := by
  unfold x_strip m_strip
  refine JJ.bd (j_read h) ?_
  rintro ⟨a1, o⟩ b ⟨b0, rfl, hc⟩
  -- what the tape's end leaves
  have tape : ∀ {x m : cS}, PL x rs im m → PL (si x 999 10 0) rs im (si m 999 27 0) := by
    intro x m hP
    refine hP.tape (fun k k1 k2 => si_o k2) (fun i hi => si_p hi) (fun k k1 k2 => si_o k2) (fun i i1 _ _ _ _ _ _ _ => si_p i1) ⟨0, by decide, si_a, si_a, fun i hi => absurd hi (Nat.not_lt_zero i)⟩
  rcases hc with ⟨e, k, q, ⟨f1, f2⟩, hX, ⟨f3, hk, hq⟩, hS⟩ | ⟨e, a0, mm, vv, ww, h2, h29, hX, hS, hR, ha⟩
  · dsimp only at e f1 f2 hX
    subst e
    show JJ ((x_faulted (pbT (clT σx) a1)).bind fun r => some (si (pbT (clT σx) a1) 999 10 0, r)) _ _
    obtain ⟨p1, p2⟩ := pbT_P hX
    have e8 : (pbT (clT σx) a1).1 998 = a1.1 998 := p2 998 tI_mem.1.2.1
    refine JJ.bl rfl (JJ.er ?_ (JJ.ret ⟨?_, ?_⟩))
    · rw [si_p (by decide), f3]
      exact nI_ge (a := 0) (by omega) (by omega)
    · dsimp only
      rw [e8, f1, f2, si_p (by decide), f3, show (8 : Int32) = nI 8 from rfl, pk_mul, show (1 : Int32) = nI 1 from rfl, nI_add, nI_add]
    · refine tape (h.mv ⟨fun k hk => p1 k (by omega) (by omega) (by omega), fun i _ => by rw [p1 999 (by decide) (by decide) (by omega)]⟩ ⟨⟨⟨fun k hk1 _ i _ => ?_, hS.2 51 (by omega) (by omega) (by omega) (by omega) (by omega)⟩, fun i hi => by rw [hS.1 1 (by omega) (by decide)]⟩, fun i hi => hS.2 i (by omega) (by omega) (by omega) (by omega) (by omega), fun k hk => hS.1 k (by omega) (by omega), fun i hi => by rw [hS.1 64 (by omega) (by decide)]⟩)
      have hn : ∀ k ∈ imA, ¬ (17 ≤ k ∧ k ≤ 26) ∧ k ≠ 999 := by decide
      rw [hS.1 k (hn k hk1).1 (hn k hk1).2]
  · dsimp only at e ha
    subst e
    have hXa : Sx σx a1 := by
      rw [ha]
      intro j j1 j2 j3
      rw [sA_o (by omega), si_o (by omega)]
      exact hX j j1 j2 j3
    obtain ⟨p1, p2⟩ := pbT_P hXa
    show JJ ((d_copies (vw2 (pbT (clT σx) a1) 1000 8000)).bind fun δ => some (si (si (pb2 (pbT (clT σx) a1) 1000 8000 δ) 999 0 1) 999 10 0, (si (pb2 (pbT (clT σx) a1) 1000 8000 δ) 999 0 1).1 1999 2)) _ _
    generalize pbT (clT σx) a1 = T at *
    refine JJ.ol (ox_copies T (b := 1000) (c := 8000) (by omega)) (fun z ⟨c1, c2⟩ => ?_)
    generalize pb2 T 1000 8000 z = T' at *
    refine JJ.tr (by rw [si_p (by decide), h29]; decide) ?_
    obtain ⟨⟨b, r⟩, hb, hL, hr⟩ := om_slay (b0 := si b0 999 27 0)
    dsimp only at hL hr
    have hV := strip_V hR h2 ha p2 c2 hL
    refine ⟨_, (b, r), rfl, hb, ?_, ?_⟩
    · dsimp only
      rw [hr, si_o (by decide), si_o (by decide)]
      exact hV.1.1.2.2.1.1.trans hR.1.2.2.1.2.symm
    · have h' := tape h
      obtain ⟨l1, l2, l3, ⟨-, -, -, l4⟩, -⟩ := hL
      refine h'.strip ⟨fun k hk => ?_, fun i hi => ?_⟩ ⟨fun i hi => ?_, fun i hi => ?_, fun k hk => ?_, fun i hi => ?_⟩ (Or.inr ⟨?_, mm, vv, ww, 0, 0, 0, ?_⟩)
      · dsimp only
        rw [si_o (by omega), si_o (by omega), c1 k (by omega), p1 k (by omega) (by omega) (by omega), si_o (by omega)]
      · dsimp only
        by_cases e : i = 10
        · subst e; rw [si_a, si_a]
        · rw [si_p e, si_p (by omega), c1 999 (by omega), p1 999 (by decide) (by decide) (by omega), si_p e]
      · rw [l4 i (by omega), si_o (by decide), si_o (by decide), hS.1 1 (by omega) (by decide)]
      · rw [l2 i (by omega)]
        by_cases e : i = 27
        · subst e; rw [si_a, si_a]
        · rw [si_p e, si_p e, hS.2 i (by omega) (by omega) (by omega) (by omega) (by omega)]
      · rw [l1 k (by omega) (by omega) (by omega) (by omega) (by omega) (by omega) (by omega) (by omega) (by omega) (by omega) (by omega) (by omega) (by omega) (by omega), si_o (by omega), si_o (by omega), hS.1 k (by omega) (by omega)]
      · rw [l1 64 (by decide) (by decide) (by decide) (by decide) (by decide) (by decide) (by decide) (by decide) (by decide) (by decide) (by decide) (by decide) (by decide) (by decide), si_o (by decide), si_o (by decide), hS.1 64 (by omega) (by decide)]
      · dsimp only
        rw [si_p (by decide), si_a]
      · have ev : vw (si (si T' 999 0 1) 999 10 0) 1000 = vw T' 1000 := by
          refine Prod.ext (funext fun j => ?_) rfl
          show (si (si T' 999 0 1) 999 10 0).1 (1000 + j) = T'.1 (1000 + j)
          rw [si_o (by omega), si_o (by omega)]
        dsimp only
        rw [ev]
        exact hV
end SQ
