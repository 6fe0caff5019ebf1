/-! PURE LAW: a strip's other lines -/
set_option maxRecDepth 100000
section LO
variable {B : Nat → Int32} {tp p q w c k mm vv ww : Nat} {σ β σ' β' σx σm a b a' b' : cS} {lo hi M : Int32}
theorem RX.head {r : Nat} {x : Int32} (h : RX 0 vv ww σ β) (hr : 2 ≤ r ∧ r ≤ 10) (e1 : ∀ k, 8000 ≤ k → k < 9000 → k ≠ 8017 → k ≠ 8999 → a.1 k = σ.1 k) (e2 : ∀ k, 17 ≤ k → k ≤ 26 → k ≠ 17 → b.1 k = β.1 k) (x1 : a.1 8999 = upd (upd (σ.1 8999) 0 (nI r)) 1 x) (x2 : ∀ i, i < 10 → a.1 8017 i = 10) (m1 : b.1 17 = upd (upd (β.1 17) 0 (nI r)) 1 x) : RX r 0 0 a b := by
  obtain ⟨hs, hl, ht, hv, hw, h0, h10, h2, v8, w8⟩ := h
  obtain ⟨rfl, rfl⟩ := h0 rfl
  unfold RX
  rw [e1 8016 (by decide) (by decide) (by decide) (by decide), e1 8018 (by decide) (by decide) (by decide) (by decide), e1 8010 (by decide) (by decide) (by decide) (by decide), e1 8011 (by decide) (by decide) (by decide) (by decide), e1 8012 (by decide) (by decide) (by decide) (by decide), e1 8013 (by decide) (by decide) (by decide) (by decide), e1 8014 (by decide) (by decide) (by decide) (by decide), e1 8019 (by decide) (by decide) (by decide) (by decide), e2 18 (by decide) (by decide) (by decide), e2 19 (by decide) (by decide) (by decide), e2 20 (by decide) (by decide) (by decide), e2 21 (by decide) (by decide) (by decide), e2 22 (by decide) (by decide) (by decide), e2 23 (by decide) (by decide) (by decide), e2 24 (by decide) (by decide) (by decide), e2 25 (by decide) (by decide) (by decide), e2 26 (by decide) (by decide) (by decide), x1, m1]
  refine ⟨⟨⟨rfl, rfl⟩, rfl, hs.2.2.1, hs.2.2.2.1, hs.2.2.2.2.1, hs.2.2.2.2.2.1, hs.2.2.2.2.2.2.1, hs.2.2.2.2.2.2.2⟩, fun i hi => ?_, ht, ⟨fun v hv => absurd hv (Nat.not_lt_zero v), hv.2⟩, fun w hw => absurd hw (Nat.not_lt_zero w), fun e => by omega, by omega, by omega, by decide, by decide⟩
  obtain ⟨l, ⟨d0, d1, d2⟩, s⟩ := hl i hi
  exact ⟨l, ⟨fun e => by omega, fun _ => (x2 i hi).trans (d0 rfl).symm, d2⟩, s⟩
theorem RX.warm {i r : Nat} (h : RX mm vv ww σ β) (hr : r ≤ 9) : RX mm vv ww (si σ 8010 i (nI r)) (si β 21 i (nI r)) := by
  have e1 : ∀ k, k ≠ 8010 → (si σ 8010 i (nI r)).1 k = σ.1 k := fun k hk => si_o hk
  have e2 : ∀ k, k ≠ 21 → (si β 21 i (nI r)).1 k = β.1 k := fun k hk => si_o hk
  have x1 : (si σ 8010 i (nI r)).1 8010 = upd (σ.1 8010) i (nI r) := si_s
  have m1 : (si β 21 i (nI r)).1 21 = upd (β.1 21) i (nI r) := si_s
  unfold RX at *
  rw [e1 8999 (by decide), e1 8016 (by decide), e1 8017 (by decide), e1 8018 (by decide), e1 8011 (by decide), e1 8012 (by decide), e1 8013 (by decide), e1 8014 (by decide), e1 8019 (by decide), e2 17 (by decide), e2 18 (by decide), e2 19 (by decide), e2 20 (by decide), e2 22 (by decide), e2 23 (by decide), e2 24 (by decide), e2 25 (by decide), e2 26 (by decide), x1, m1]
  refine ⟨h.1, h.2.1, fun j hj => ?_, h.2.2.2⟩
  obtain ⟨w1, w2⟩ := h.2.2.1 j hj
  exact ⟨upd_c w1, upd_P (P := fun y => ∃ w, w ≤ 9 ∧ y = nI w) w2 ⟨r, hr, rfl⟩⟩
theorem RX.soft {x : Int32} (h : RX mm vv ww σ β) (e1 : ∀ k, 8000 ≤ k → k < 9000 → k ≠ 8999 → a.1 k = σ.1 k) (e2 : ∀ k, 17 ≤ k → k ≤ 26 → k ≠ 17 → b.1 k = β.1 k) (x1 : a.1 8999 = upd (σ.1 8999) 7 x) (m1 : b.1 17 = upd (β.1 17) 4 x) : RX mm vv ww a b := by
  unfold RX at *
  rw [e1 8016 (by decide) (by decide) (by decide), e1 8017 (by decide) (by decide) (by decide), e1 8018 (by decide) (by decide) (by decide), e1 8010 (by decide) (by decide) (by decide), e1 8011 (by decide) (by decide) (by decide), e1 8012 (by decide) (by decide) (by decide), e1 8013 (by decide) (by decide) (by decide), e1 8014 (by decide) (by decide) (by decide), e1 8019 (by decide) (by decide) (by decide), e2 18 (by decide) (by decide) (by decide), e2 19 (by decide) (by decide) (by decide), e2 20 (by decide) (by decide) (by decide), e2 21 (by decide) (by decide) (by decide), e2 22 (by decide) (by decide) (by decide), e2 23 (by decide) (by decide) (by decide), e2 24 (by decide) (by decide) (by decide), e2 25 (by decide) (by decide) (by decide), e2 26 (by decide) (by decide) (by decide), x1, m1]
  exact ⟨⟨h.1.1, h.1.2.1, h.1.2.2.1, h.1.2.2.2.1, rfl, h.1.2.2.2.2.2⟩, h.2⟩
theorem RX.vill {r : Nat} {x y : Int32} (h : RX mm vv ww σ β) (h0 : mm ≠ 0) (hr : r < mm) (hv8 : vv < 8) (e1 : ∀ k, 8000 ≤ k → k < 9000 → k ≠ 8999 → k ≠ 8011 → k ≠ 8012 → k ≠ 8013 → a.1 k = σ.1 k) (e2 : ∀ k, 17 ≤ k → k ≤ 26 → k ≠ 17 → k ≠ 22 → k ≠ 23 → k ≠ 24 → b.1 k = β.1 k) (x1 : a.1 8999 = upd (σ.1 8999) 2 (nI (vv + 1))) (x2 : a.1 8011 = upd (σ.1 8011) vv (nI r)) (x3 : a.1 8012 = upd (σ.1 8012) vv x) (x4 : a.1 8013 = upd (σ.1 8013) vv y) (m1 : b.1 17 = upd (β.1 17) 2 (nI (vv + 1))) (m2 : b.1 22 = upd (β.1 22) vv (nI r)) (m3 : b.1 23 = upd (β.1 23) vv x) (m4 : b.1 24 = upd (β.1 24) vv y) : RX mm (vv + 1) ww a b := by
  unfold RX at *
  rw [e1 8016 (by decide) (by decide) (by decide) (by decide) (by decide) (by decide), e1 8017 (by decide) (by decide) (by decide) (by decide) (by decide) (by decide), e1 8018 (by decide) (by decide) (by decide) (by decide) (by decide) (by decide), e1 8010 (by decide) (by decide) (by decide) (by decide) (by decide) (by decide), e1 8014 (by decide) (by decide) (by decide) (by decide) (by decide) (by decide), e1 8019 (by decide) (by decide) (by decide) (by decide) (by decide) (by decide), e2 18 (by decide) (by decide) (by decide) (by decide) (by decide) (by decide), e2 19 (by decide) (by decide) (by decide) (by decide) (by decide) (by decide), e2 20 (by decide) (by decide) (by decide) (by decide) (by decide) (by decide), e2 21 (by decide) (by decide) (by decide) (by decide) (by decide) (by decide), e2 25 (by decide) (by decide) (by decide) (by decide) (by decide) (by decide), e2 26 (by decide) (by decide) (by decide) (by decide) (by decide) (by decide), x1, x2, x3, x4, m1, m2, m3, m4]
  obtain ⟨hs, hl, ht, hv, hw, hz, h10, h2, v8, w8⟩ := h
  refine ⟨⟨hs.1, hs.2.1, ⟨rfl, rfl⟩, hs.2.2.2.1, hs.2.2.2.2.1, hs.2.2.2.2.2⟩, hl, ht, ⟨fun v hv' => ?_, hv.2⟩, fun w hw' => ?_, fun e => absurd e h0, h10, h2, by omega, w8⟩
  · by_cases e : v = vv
    · subst e
      rw [upd_a, upd_a, upd_a, upd_a, upd_a, upd_a]
      exact ⟨⟨r, hr, rfl, rfl⟩, rfl, rfl⟩
    · rw [upd_o e, upd_o e, upd_o e, upd_o e, upd_o e, upd_o e]
      exact hv.1 v (by omega)
  · obtain ⟨⟨v, v1, v2⟩, v3⟩ := hw w hw'
    exact ⟨⟨v, by omega, v2⟩, v3⟩
theorem RX.want {r : Nat} {x : Int32} (h : RX mm vv ww σ β) (h0 : mm ≠ 0) (hr : r < vv) (hw8 : ww < 8) (e1 : ∀ k, 8000 ≤ k → k < 9000 → k ≠ 8999 → k ≠ 8014 → a.1 k = σ.1 k) (e2 : ∀ k, 17 ≤ k → k ≤ 26 → k ≠ 17 → k ≠ 25 → k ≠ 26 → b.1 k = β.1 k) (x1 : a.1 8999 = upd (σ.1 8999) 3 (nI (ww + 1))) (x2 : a.1 8014 = upd (upd (σ.1 8014) (2 * ww) (nI r)) (2 * ww + 1) x) (m1 : b.1 17 = upd (β.1 17) 3 (nI (ww + 1))) (m2 : b.1 25 = upd (β.1 25) ww (nI r)) (m3 : b.1 26 = upd (β.1 26) ww x) : RX mm vv (ww + 1) a b := by
  unfold RX at *
  rw [e1 8016 (by decide) (by decide) (by decide) (by decide), e1 8017 (by decide) (by decide) (by decide) (by decide), e1 8018 (by decide) (by decide) (by decide) (by decide), e1 8010 (by decide) (by decide) (by decide) (by decide), e1 8011 (by decide) (by decide) (by decide) (by decide), e1 8012 (by decide) (by decide) (by decide) (by decide), e1 8013 (by decide) (by decide) (by decide) (by decide), e1 8019 (by decide) (by decide) (by decide) (by decide), e2 18 (by decide) (by decide) (by decide) (by decide) (by decide), e2 19 (by decide) (by decide) (by decide) (by decide) (by decide), e2 20 (by decide) (by decide) (by decide) (by decide) (by decide), e2 21 (by decide) (by decide) (by decide) (by decide) (by decide), e2 22 (by decide) (by decide) (by decide) (by decide) (by decide), e2 23 (by decide) (by decide) (by decide) (by decide) (by decide), e2 24 (by decide) (by decide) (by decide) (by decide) (by decide), x1, x2, m1, m2, m3]
  obtain ⟨hs, hl, ht, hv, hw, hz, h10, h2, v8, w8⟩ := h
  refine ⟨⟨hs.1, hs.2.1, hs.2.2.1, ⟨rfl, rfl⟩, hs.2.2.2.2.1, hs.2.2.2.2.2⟩, hl, ht, hv, fun w hw' => ?_, fun e => absurd e h0, h10, h2, v8, by omega⟩
  by_cases e : w = ww
  · subst e
    rw [upd_o (by omega : 2 * w ≠ 2 * w + 1), upd_a, upd_a, upd_a, upd_a]
    exact ⟨⟨r, hr, rfl, rfl⟩, rfl⟩
  · rw [upd_o (by omega : 2 * w ≠ 2 * ww + 1), upd_o (by omega : 2 * w ≠ 2 * ww), upd_o e, upd_o (by omega : 2 * w + 1 ≠ 2 * ww + 1), upd_o (by omega : 2 * w + 1 ≠ 2 * ww), upd_o e]
    exact hw w (by omega)
theorem nI_leM {n m : Nat} (hn : n < 2 ^ 30) (hm : m < 2 ^ 30) (h : nI n ≤ nI m - 1) : n < m := by
  rw [i_le, nI_toInt (by omega), show (nI m - 1).toInt = (m : Int) - 1 from pk_sub_toInt (b := 1) hm (by decide)] at h
  omega
theorem Lpp.fin {o1 : Option (cS × Option Unit)} {o2 : Option cS} (h : JJ o1 o2 (Lpp σx σm tp M)) : JJ (o1.bind fun x => thr x.1 x.2 fun _ => some (x.1, some ())) (o2.bind fun s => some s) (Lpp σx σm tp M) := by
  refine JJ.bd h (fun a b hab => ?_)
  obtain ⟨a, o⟩ := a
  rcases hab with ⟨e, hL⟩ | ⟨e, hL⟩
  · dsimp only at e hL
    subst e
    exact JJ.ret (Or.inl ⟨rfl, hL⟩)
  · dsimp only at e hL
    subst e
    exact JJ.ret (Or.inr ⟨rfl, hL⟩)
theorem j_soft (hB : TB B tp) (hC : TC B tp σx) (hM : TM B tp σm) (h : Lvv σx σm tp M mm vv ww σ β) (h0 : 2 ≤ mm) : JJ (t_line σ 3) (m_stripPart β 3) (Lpp σx σm tp M) := by
  obtain ⟨hp, ⟨h29, hMy⟩, hX, hS, hR⟩ := h
  unfold t_line m_stripPart
  refine JJ.el (by decide) (JJ.el (by decide) (JJ.el (by decide) (JJ.tl rfl (JJ.er (by decide) (JJ.er (by decide) (JJ.er (by decide) (JJ.tr rfl ?_)))))))
  unfold t_mileHere m_oneMile
  have em : σ.1 8999 0 - 1 = nI (mm - 1) := by rw [hR.1.1.1]; exact nI_m1 (by omega)
  have em2 : β.1 17 (ix 0) - 1 = nI (mm - 1) := by rw [show ix 0 = 0 from rfl, hR.1.1.2]; exact nI_m1 (by omega)
  rw [em, em2]
  have m10 := hR.2.2.2.2.2.2.1
  simp only [Option.bind_assoc]
  refine JJ.num hB hC hM hp h29 hX hS (fun r p1 hp1 _ hr _ => ?_) (fun a' b' r hL => ?_)
  · refine JJ.br rfl (JJ.tr ((mx_p (by decide)).trans h29) (JJ.ret (Or.inr ⟨rfl, mm, vv, ww, h0, (Lp.cm hp1).st (by decide) (by decide), ⟨?_, ?_⟩, ?_, ?_, ?_⟩)))
    · rw [si_o (by decide), mx_p (by decide)]; exact h29
    · rw [si_o (by decide), cx_p (by decide)]; exact hMy
    · exact (hX.st (by omega)).st (by omega)
    · exact (hS.st (by omega)).st (by omega)
    · refine hR.soft (x := (σ.1 8999 7) ||| (1 <<< (nI r &&& 31))) (fun k k1 k2 k3 => ?_) (fun k k1 k2 k3 => ?_) ?_ ?_
      · rw [si_o k3, cx_o (by omega)]
      · rw [si_o k3, mx_o (by omega)]
      · rw [si_s, cx_o (by decide)]
      · dsimp only
        rw [si_s, mx_o (by decide), show ix 4 = 4 from rfl, hR.1.2.2.2.2.1]
  · obtain ⟨k, q, e, x, hd⟩ := hL
    show JJ (some (a', none)) _ _
    exact JJ.br rfl (JJ.er hd.nz (JJ.ret (Or.inl ⟨rfl, k, q, e, x, hd.st (by omega)⟩)))
theorem j_warm (hB : TB B tp) (hC : TC B tp σx) (hM : TM B tp σm) (h : Lvv σx σm tp M mm vv ww σ β) (h0 : 2 ≤ mm) : JJ (t_line σ 2) (m_stripPart β 2) (Lpp σx σm tp M) := by
  obtain ⟨hp, ⟨h29, hMy⟩, hX, hS, hR⟩ := h
  unfold t_line m_stripPart
  refine JJ.el (by decide) (JJ.el (by decide) (JJ.tl rfl (JJ.er (by decide) (JJ.er (by decide) (JJ.tr rfl (Lpp.fin ?_))))))
  unfold t_warmHere m_readsWarm
  simp only [Option.bind_assoc]
  have dead : ∀ v4 v2 v3 : Int32, ∀ z k q, Dd σm k q z → ∃ z', (m_readsWarm_27 v2 v3 (fun σ_13 => some σ_13) FU z v4) = some z' ∧ Dd σm k q z' := by
    intro v4 v2 v3 z k q hd
    obtain ⟨n, hn⟩ : ∃ m, FU = m + 1 := ⟨FU - 1, by have := FU_gt (n := 0) (by decide); omega⟩
    refine ⟨z, ?_, hd⟩
    rw [hn, m_readsWarm_27, if_neg hd.nz]
    split <;> rfl
  refine JJ.num hB hC hM hp h29 hX hS (fun r p1 hp1 _ hr _ => ?_) (fun a' b' r hL => ?_)
  · have hr := nI_leZ (m := 99) (by omega) (by decide) hr
    refine JJ.num (a := cx σ p1) (b := mx β p1) hB hC hM (Lp.cm hp1) ((mx_p (by decide)).trans h29) (hX.st (by omega)) (hS.st (by omega)) (fun n p2 hp2 hn1 hn _ => ?_) (fun a' b' r hL => ?_)
    · have hn := nI_leZ (m := 99) (by omega) (by decide) hn
      have hn1 := nI_leZ (by omega) (by omega) hn1
      rw [cx_cx, mx_mx]
      refine JJ.num (a := cx σ p2) (b := mx β p2) hB hC hM (Lp.cm hp2) ((mx_p (by decide)).trans h29) (hX.st (by omega)) (hS.st (by omega)) (fun d p3 hp3 _ hd _ => ?_) (fun a' b' r hL => ?_)
      · have hd := nI_leZ (m := 9) (by omega) (by decide) hd
        rw [cx_cx, mx_mx]
        show JJ (t_warmHere_27 (nI n) (nI d) (fun s => some (s, some ())) FU (cx σ p3) (nI r)) (m_readsWarm_27 (nI n) (nI d) (fun s => some s) FU (mx β p3) (nI r)) _
        refine JJ.loop (Lx := fun f s i => t_warmHere_27 (nI n) (nI d) (fun s => some (s, some ())) f s i) (Lm := fun f s i => m_readsWarm_27 (nI n) (nI d) (fun s => some s) f s i) (I := fun j a b => Lvv σx σm tp M mm vv ww a b) (N := n + 1) ?_ ?_ (n + 1 - r) r (by omega) FU FU (FU_gt (by omega)) (FU_gt (by omega)) (cx σ p3) (mx β p3) ⟨Lp.cm hp3, ⟨(mx_p (by decide)).trans h29, (cx_p (by decide)).trans hMy⟩, hX.st (by omega), hS.st (by omega), hR.of (fun k k1 k2 => cx_o (by omega)) (fun k k1 k2 => mx_o (by omega))⟩
        · intro f f' j a b hj ⟨i1, ⟨i2, i3⟩, i4, i5, i6⟩ kk
          show JJ (t_warmHere_27 _ _ _ (f + 1) a (nI j)) (m_readsWarm_27 _ _ _ (f' + 1) b (nI j)) _
          rw [t_warmHere_27, m_readsWarm_27, nI_1, ixn (by omega)]
          exact JJ.el (nI_nlt (by omega) (by omega)) (JJ.er (nI_nlt (by omega) (by omega)) (JJ.tr i2 (JJ.gl (inbn (by omega) (by decide)) (JJ.gr (inbn (by omega) (by decide)) (kk _ _ ⟨i1.st (by decide) (by decide), ⟨by rw [si_o (by decide)]; exact i2, by rw [si_o (by decide)]; exact i3⟩, i4.st (by omega), i5.st (by omega), i6.warm hd⟩)))))
        · intro f f' a b hI
          show JJ (t_warmHere_27 _ _ _ (f + 1) a (nI (n + 1))) (m_readsWarm_27 _ _ _ (f' + 1) b (nI (n + 1))) _
          rw [t_warmHere_27, m_readsWarm_27]
          exact JJ.tl (nI_lt (by omega) (by omega)) (JJ.tr (nI_lt (by omega) (by omega)) (JJ.ret (Or.inr ⟨rfl, mm, vv, ww, h0, hI⟩)))
      · obtain ⟨k, q, e, x, hd⟩ := hL
        show JJ (some (a', none)) _ _
        obtain ⟨z', e1, e2⟩ := dead (nI _) (nI n) r b' k q hd
        exact ⟨_, _, rfl, e1, Or.inl ⟨rfl, k, q, e, x, e2⟩⟩
    · obtain ⟨k, q, e, x, hd⟩ := hL
      show JJ (some (a', none)) _ _
      refine JJ.or (om_dead hB hM hd) (fun z hd => ?_)
      obtain ⟨z', e1, e2⟩ := dead (nI _) r z.2 z.1 k q hd
      exact ⟨_, _, rfl, e1, Or.inl ⟨rfl, k, q, e, x, e2⟩⟩
  · obtain ⟨k, q, e, x, hd⟩ := hL
    show JJ (some (a', none)) _ _
    refine JJ.or (om_dead hB hM hd) (fun z hd => JJ.or (om_dead hB hM hd) (fun z2 hd => ?_))
    obtain ⟨z', e1, e2⟩ := dead r z.2 z2.2 z2.1 k q hd
    exact ⟨_, _, rfl, e1, Or.inl ⟨rfl, k, q, e, x, e2⟩⟩
end LO
