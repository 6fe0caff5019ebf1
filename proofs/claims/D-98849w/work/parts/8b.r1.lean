/-! PURE LAW: push -/
set_option maxRecDepth 100000
section OPU
variable {σx σm σx' σm' : cS} {rs : List RS} {im : IM} {cz mm vv ww t u lg un un' O n : Nat} {δ σ δ' σ' z w a b c β β0 : cS} {R : Option RS} {B : Int32}
theorem ib_nat {v : Int32} {lo hi : Nat} (hlo : lo < 2 ^ 31) (hhi : hi < 2 ^ 31) : ib v (nI lo) (nI hi) = 0 ∨ ∃ n, lo ≤ n ∧ n ≤ hi ∧ v = nI n ∧ ib v (nI lo) (nI hi) = 1 := by
  rcases ib_e (v := v) (a := nI lo) (b := nI hi) with e | ⟨e, b1, b2⟩
  · exact Or.inl e
  · have hp : ¬ v < 0 := by
      rw [i_lt, show (0 : Int32).toInt = 0 by decide]
      rw [i_le, nI_toInt hlo] at b1
      omega
    obtain ⟨n, hn, rfl⟩ := nI_of hp
    exact Or.inr ⟨n, (nI_leI hlo hn).mp b1, (nI_leI hn hhi).mp b2, rfl, e⟩
theorem op_push (h : PL σx rs im σm) (v1 v2 : Int32) : JP rs im (x_push σx rs v1 v2) (m_push σm v1 v2) := by
  unfold x_push m_push
  rcases q_isStrip h with ⟨h0, hs⟩ | ⟨h1, hs, mm, vv, ww, t, lg, un, hV⟩
  · exact JJ.tl h0 (JJ.br hs (JJ.tr rfl (JJ.ret ⟨rfl, h⟩)))
  have hN := hV.1
  have ht := hV.2.1
  have h10 := hN.m10
  refine JJ.el (by rw [h1]; decide) (JJ.br hs (JJ.er (by decide) (JJ.bl (x_in_eq v1 1 3) (JJ.br (m_in_eq v1 1 3) ?_))))
  rcases ib_nat (v := v1) (lo := 1) (hi := 3) (by decide) (by decide) with e | ⟨n, n1, n3, rfl, e⟩
  · exact JJ.tl e (JJ.tr e (JJ.ret ⟨rfl, h⟩))
  refine JJ.el (fun q => by rw [show ib (nI n) 1 3 = 1 from e] at q; exact absurd q (by decide)) (JJ.er (fun q => by rw [show ib (nI n) 1 3 = 1 from e] at q; exact absurd q (by decide)) (JJ.bl (x_in_eq v2 0 3) (JJ.br (m_in_eq v2 0 3) ?_)))
  rcases ib_nat (v := v2) (lo := 0) (hi := 3) (by decide) (by decide) with e | ⟨w, w1, w3, rfl, e⟩
  · exact JJ.tl e (JJ.tr e (JJ.ret ⟨rfl, h⟩))
  refine JJ.el (fun q => by rw [show ib (nI w) 0 3 = 1 from e] at q; exact absurd q (by decide)) (JJ.er (fun q => by rw [show ib (nI w) 0 3 = 1 from e] at q; exact absurd q (by decide)) ?_)
  obtain ⟨R, eR, hR⟩ := h.law
  obtain ⟨β0, hβ, lβ, hm⟩ := om_finds (O := 2 * mm + 1) (n := n) rfl ⟨n1, n3⟩ ht hN hR
  refine JJ.ol (ox_prepares h1 (by omega : n ≤ 4)) (fun a ⟨qd, qe⟩ => ?_)
  have q1 : Qd σx (si a 999 18 (-1)) := qd.st (by omega)
  have ev : ∀ c, 3000 ≤ c → ∀ k, k < 1000 → (vw (si a 999 18 (-1)) c).1 k = (vw a c).1 k := fun c hc k hk => si_o (σ := a) (k := 999) (j := c + k) (by omega)
  have hLv : Lv (2 * mm + 1) n 0 0 σx (si a 999 18 (-1)) (si a 999 18 (-1)) := ⟨q1, fun j hj => (CC.eq (qe j (by omega))).of (ev _ (by omega)), fun _ _ _ => rfl, fun j hj => absurd hj (by omega)⟩
  have hDk : Dk mm vv ww t (2 * mm + 1) R β0 0 0 (vw (si a 999 18 (-1)) 3000) := ⟨β0, rfl, lβ, hβ.ex ((eqD.of (ev 3000 (by decide))).tr (qe 0 (by omega)))⟩
  have hx := xt_0 (σm := σm) (B := σm.1 1 4) (acc := none) h1 hN rfl n3 (Nat.zero_le _) ht eR rfl hLv hDk rfl (show (si a 999 18 (-1)).1 999 18 = -1 from si_a)
  rw [show n - 0 = n from rfl, Nat.zero_mul] at hx
  have hx : OO (x_triesPushes_0 (si a 999 18 (-1)) rs (nI n) 0) _ := hx
  refine JJ.ol hx (fun a1 ⟨l1, l2⟩ => JJ.or hm ?_)
  rintro ⟨b1, best⟩ ⟨m1, m2⟩
  dsimp only at m1 m2
  have hP : PL a1 rs im b1 := h.mv l1.1.ex m1
  revert l2 m2
  generalize fol (valp (2 * mm + 1) (σm.1 1 4) β0 n) none 0 ((2 * mm + 1) ^ n) = acc
  intro l2 m2
  rcases acc with _ | ⟨v, r⟩
  · have e1 : a1.1 999 18 = -1 := l2
    have e2 : best = -1 := m2
    subst e2
    exact JJ.tl e1 (JJ.tr rfl (JJ.ret ⟨rfl, hP⟩))
  · obtain ⟨x1, x2, x3⟩ := l2
    obtain ⟨-, y2, y3⟩ := m2
    subst y2
    refine JJ.el (by rw [x2]; exact nI_nm1 (by omega)) (JJ.er (nI_nm1 (by omega)) ?_)
    rw [x2]
    refine JJ.ii Iff.rfl (fun _ _ => JJ.ret ⟨rfl, hP⟩) (fun c _ => ?_)
    have hw0 : 0 < w := by
      have : w ≠ 0 := fun q => c (by rw [q]; rfl)
      omega
    by_cases c : w ≤ n
    · refine JJ.tl (nI_le c (by omega)) (JJ.er (nI_nlt c (by omega)) ?_)
      rw [nI_m1 hw0, ixn (by omega), x3 (w - 1) (by omega), y3 (w - 1) (by omega)]
      exact JJ.gl (inbn (by omega) (by decide)) (JJ.gr (inbn (by omega) (by decide)) (JJ.ret ⟨rfl, hP⟩))
    · exact JJ.el (nI_ge (by omega) (by omega)) (JJ.tr (nI_lt (by omega) (by omega)) (JJ.ret ⟨rfl, hP⟩))
end OPU
