/-! PURE LAW: dukes -/
set_option maxRecDepth 100000
section OD
variable {σx σm σx' σm' : cS} {rs : List RS} {im : IM} {cz mm vv ww t u lg un un' O n : Nat} {δ σ δ' σ' z w a b c β β0 β' : cS} {R : Option RS} {B : Int32}
theorem Tt_le : ∀ mm, mm ≤ 10 → ∀ r, r ≤ 4 → Tt mm r ≤ 50000 := by
  intro mm hm r hr
  have h : ∀ r, Tt mm r ≤ Tt 10 r := by
    intro r
    induction r with
    | zero => exact Nat.le_refl _
    | succ r ih => exact Nat.mul_le_mul (by omega) (by omega)
  have h10 : ∀ r, r ≤ 4 → Tt 10 r ≤ 50000 := by decide
  exact Nat.le_trans (h r) (h10 r hr)
theorem Kp.back3 (h : Kp σ a) : OO (m_laysBack a) (fun b => (Em σ b ∧ Kp σ b) ∧ (∀ k, k ∉ imB → k ≠ 50 → k ≠ 999 → b.1 k = a.1 k) ∧ ∀ i, i ≠ 66 → i ≠ 67 → i ≠ 51 → b.1 999 i = a.1 999 i) := by
  obtain ⟨b, hb, q⟩ := h.back
  obtain ⟨b', hb', g⟩ := om_lays a
  rw [hb] at hb'
  cases hb'
  exact ⟨b, hb, q, g.2.2.2.2.1, g.2.2.1⟩
theorem om_plays (hn : 1 ≤ n ∧ n ≤ 4) (ht : t ≤ 999) (hN : Rn mm vv ww t t δ σm) (hL : LawR R σm) : ∃ β0, LawR R β0 ∧ Rn mm vv ww t t δ β0 ∧ ∃ w f, gacc 0 (wvl mm (σm.1 1 4) (n - 1) 0 β0) (mm + 1) = some (w, f) ∧ OO (m_playsDukes σm (nI n)) (fun q => Em σm q.1 ∧ q.2 = w ∧ q.1.1 999 59 = zi f) := by
  have h10 := hN.m10
  obtain ⟨β0, hk, k1, k2, k3⟩ := om_kept σm
  have hβ : Rn mm vv ww t t δ β0 := hN.em k2.ev
  have lβ := hL.em k2
  have hKβ : Kd R σm β0 := ⟨k1, lβ, fun i hi => by rw [k3 4 (by decide) (by decide) (by decide)], fun i _ _ => by rw [k3 1 (by decide) (by decide) (by decide)]⟩
  have hNod : Nod mm vv ww t R σm 0 β0 := ⟨hKβ, δ, hβ.z0⟩
  obtain ⟨r, hr⟩ : ∃ r, n = r + 1 := ⟨n - 1, by omega⟩
  have v0 : ∃ v, wvl mm (σm.1 1 4) r 0 β0 0 = some v := by
    obtain ⟨δ', b', β2, e1, -⟩ := stp_two (cdk_lt (k := 0) (by omega : 0 < mm + 1)) hβ.z0 hβ.z0 lβ lβ (by omega)
    exact ⟨wV mm (σm.1 1 4) r (0 + 1) b', by show (if bkm (σm.1 1 4) 0 = true then none else (stp β0 (cdk 0 0)).bind fun β2 => some (wV mm (σm.1 1 4) r (0 + 1) β2)) = _; rw [if_neg (show ¬ bkm (σm.1 1 4) 0 = true from fun q => absurd (show false = true from q) (by decide)), e1]; rfl⟩
  obtain ⟨v, hv⟩ := v0
  obtain ⟨w, f, hg⟩ := gacc_some hv (mm + 1) (by omega)
  refine ⟨β0, lβ, hβ, w, f, by rw [show n - 1 = r by omega]; exact hg, ?_⟩
  unfold m_playsDukes
  refine OO.b hk (OO.bd (om_dsave β0 (by decide : 0 < 4)) (fun s ⟨s1, s2, s3⟩ => OO.n (OO.n ?_)))
  have hKs : Kd R σm s := by
    refine ⟨⟨fun q hq i hi => by rw [s1 64 (by decide)]; exact k1.1 q hq i hi, fun q hq => (s1 q (by omega)).trans (k1.2.1 q hq), fun i hi => by rw [s1 999 (by decide)]; exact k1.2.2.1 i hi, fun i hi => by rw [s1 64 (by decide)]; exact k1.2.2.2 i hi⟩, ?_, fun i hi => by rw [s1 4 (by decide)]; exact hKβ.2.2.1 i hi, fun i hi h5 => by rw [s1 1 (by decide)]; exact hKβ.2.2.2 i hi h5⟩
    rcases lβ with ⟨h1, h2⟩ | ⟨rr, RR, h1, h2, h3, h4⟩
    · exact Or.inl ⟨h1, by rw [s1 1 (by decide)]; exact h2⟩
    · exact Or.inr ⟨rr, RR, h1, h2, by rw [s1 1 (by decide)]; exact h3, h4.mv (Sl.of (fun j j1 j2 => s1 j (by omega)))⟩
  have hT : (mm + 1 + 1) * (1 + Tt mm r) = Tt mm n := by rw [hr]; rfl
  have hT5 := Tt_le mm h10 n hn.2
  refine om_turn (r := r) (k := 0) (B := σm.1 1 4) (by omega) hn.2 ht h10 hN.m_ rfl hNod (om_level hn.2 ht h10 hN.m_ rfl r 0 (by omega)) (mm + 1) 0 (by omega) _ FU (((hKs.st (by omega)).st (by omega)).st (by omega)) (s2.of (fun q _ _ => by rw [si_o (by decide), si_o (by decide), si_o (by decide)])) (by rw [si_o (by decide), si_o (by decide)]; exact si_a) (by rw [si_o (by decide)]; exact si_a) (fun w fd h => by cases h) (fun _ w f h => by cases h) (FU_gt (by omega)) (fun σ' f' h1 h2 h3 h4 h5 h6 => ?_)
  show OO (m_playsDukes_34 (nI n) _ f' σ' (-1)) _
  obtain ⟨f', rfl⟩ : ∃ q, f' = q + 1 := ⟨f' - 1, by have := FU_gt (n := 999999) (by decide); omega⟩
  rw [m_playsDukes_34]
  refine OO.t (by decide) (OO.bd h2.1.back3 (fun b ⟨⟨e1, e2⟩, e3, e4⟩ => OO.ret ⟨e1, ?_, ?_⟩))
  · show b.1 58 0 = w
    rw [e3 58 (by decide) (by decide) (by decide), h4, hg]; rfl
  · show b.1 999 59 = zi f
    rw [e4 59 (by decide) (by decide) (by decide)]
    exact h6 rfl w f hg
theorem op_dukes (h : PL σx rs im σm) (v1 v2 : Int32) : JP rs im (x_dukes σx rs v1 v2) (m_dukes σm v1 v2) := by
  unfold x_dukes m_dukes
  rcases q_isStrip h with ⟨h0, hs⟩ | ⟨h1, hs, mm, vv, ww, t, lg, un, hV⟩
  · exact JJ.tl h0 (JJ.br hs (JJ.tr rfl (JJ.ret ⟨rfl, h⟩)))
  have hN := hV.1
  have ht := hV.2.1
  have h10 := hN.m10
  refine JJ.el (by rw [h1]; decide) (JJ.br hs (JJ.er (by decide) (JJ.bl (x_in_eq v1 1 4) (JJ.br (m_in_eq v1 1 4) ?_))))
  rcases ib_nat (v := v1) (lo := 1) (hi := 4) (by decide) (by decide) with e | ⟨n, n1, n4, rfl, e⟩
  · exact JJ.tl e (JJ.tr e (JJ.ret ⟨rfl, h⟩))
  refine JJ.el (fun q => by rw [show ib (nI n) 1 4 = 1 from e] at q; exact absurd q (by decide)) (JJ.er (fun q => by rw [show ib (nI n) 1 4 = 1 from e] at q; exact absurd q (by decide)) (JJ.bl (x_in_eq v2 0 1) (JJ.br (m_in_eq v2 0 1) (JJ.ii Iff.rfl (fun _ _ => JJ.ret ⟨rfl, h⟩) (fun _ _ => ?_)))))
  obtain ⟨R, eR, hR⟩ := h.law
  obtain ⟨β0, lβ, hβ, w, f, hg, hm⟩ := om_plays (n := n) ⟨n1, n4⟩ ht hN hR
  refine JJ.ol (ox_prepares h1 n4) (fun a ⟨qd, qe⟩ => ?_)
  have hL : Lw n 0 σx a a := ⟨qd, fun j hj => CC.eq (qe j (by omega)), fun _ _ _ => rfl⟩
  have rβ : Rm 0 mm vv ww (t + 0) (t + 0) (vw a 3000) β0 := hβ.z0.ex (qe 0 (by omega))
  refine JJ.ol (xw_0 (B := σm.1 1 4) h1 hN n4 (Nat.zero_le _) ht eR rfl hL lβ rβ) ?_
  rintro ⟨a1, x⟩ ⟨l1, l2, l3⟩
  dsimp only at l1 l2 l3
  obtain ⟨w', f', hg', e1, e2⟩ := l3 n1
  rw [hg] at hg'
  cases hg'
  refine JJ.or hm ?_
  rintro ⟨b1, y⟩ ⟨m1, m2, m3⟩
  dsimp only at m1 m2 m3
  have hP : PL a1 rs im b1 := h.mv l1.1.ex m1
  refine JJ.ii Iff.rfl (fun _ _ => JJ.ret ⟨?_, hP⟩) (fun _ _ => JJ.ret ⟨?_, hP⟩)
  · exact e1.trans m2.symm
  · exact e2.trans m3.symm
end OD
