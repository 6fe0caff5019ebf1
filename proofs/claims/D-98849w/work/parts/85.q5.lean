/-! PURE LAW: crust, summers -/
set_option maxRecDepth 100000
section CR
variable {σx σm σx' σm' : cS} {rs : List RS} {im : IM} {mm vv ww t u lg un un' : Nat} {δ σ δ' σ' z w a b c : cS} {R : Option RS}
/-- the model's rows stand as before, chunk 2000 may be anything -/
def Bs (σx σm a b : cS) : Prop := Ch 2000 σx a ∧ Kp σm b ∧ Em σm b
theorem Bs.rn (h : Bs σx σm a b) (hn : Rn mm vv ww t t (vw σx 1000) σm) : Rn mm vv ww t t (vw a 1000) b := (hn.em h.2.2.ev).ex (eqD.of (fun _ hk => h.1.vw (by decide) hk))
theorem Bs.law (h : Bs σx σm a b) (hR : x_law σx rs = some R) : x_law a rs = some R := by
  rw [law_eq (a := σx) (by rw [h.1 999 (by omega)])]; exact hR
/-- a copy into the spare Dough -/
theorem Bs.copy (h : Bs σx σm a b) (hn : Rn mm vv ww t t (vw σx 1000) σm) (hL : LawR R σm) : OO (d_copies (vw2 a 2000 1000)) (fun z => W2 2000 mm vv ww R σx σm t (pb2 a 2000 1000 z) b) :=
  OO.mono (ox_copies a (by decide)) (fun _ ⟨q1, q2⟩ => ⟨h.1.tr q1, h.2.1, hL.em h.2.2, (h.rn hn).ex q2⟩)
/-- baking in a trial -/
theorem W2.bake {x : Int32} (h : W2 2000 mm vv ww R σx σm t a b) : W2 2000 mm vv ww R σx σm t (si a 2999 7 x) (si b 1 (ix 4) x) := by
  obtain ⟨h1, h2, h3, h4⟩ := h
  refine ⟨h1.tr (Ch.si (by decide)), h2.st (by decide), h3.st (Or.inl ⟨rfl, by decide⟩), ?_⟩
  rw [show (2999 : Nat) = 2000 + 999 from rfl, vw_si]
  exact h4.bake
theorem jw_own {m v n : Nat} {k : Int32} (h : Bs σx σm a b) (hz : σx.1 999 0 = 1) (hn : Rn mm vv ww t t (vw σx 1000) σm) (hL : LawR R σm) (hR : x_law σx rs = some R) (hv : v < vv) (ht : t + n + 1 < 1000000) : JJ (x_ownNights a rs (nI m) (nI v) (nI n) k) (m_ownNights b (nI m) (nI v) (nI n) k) (fun p q => p.2 = q.2 ∧ Bs σx σm p.1 q.1) := by
  have h8 := hn.v8
  unfold x_ownNights m_ownNights
  refine JJ.gl (by rw [h.1 999 (by omega), hz]; rfl) (JJ.ol (h.copy hn hL) (fun z hW => ?_))
  refine JJ.loop (S := cS × Int32) (T := cS × Int32) (Lx := fun q s i => x_ownNights_19 rs (nI m) (nI v) (nI n) k (fun σ_17 v_18 => some (σ_17, v_18)) q s.1 s.2 i) (Lm := fun q s i => m_ownNights_6 (nI m) (nI v) (nI n) k (fun σ_12 v_13 => (m_laysBack σ_12).bind fun σ_15 => some (σ_15, v_13)) q s.1 s.2 i) (I := fun j p q => p.2 = q.2 ∧ W2 2000 mm vv ww R σx σm (t + j) p.1 q.1) (N := n) ?_ ?_ n 0 (by omega) FU FU (FU_gt (by omega)) (FU_gt (by omega)) (pb2 a 2000 1000 z, 0) (b, 0) ⟨rfl, hW⟩
  · rintro q q' j ⟨a, c⟩ ⟨b, c'⟩ hj ⟨hc, hI⟩ kk
    dsimp only at hc hI
    subst hc
    show JJ (x_ownNights_19 _ _ _ _ _ _ (q + 1) a c (nI j)) (m_ownNights_6 _ _ _ _ _ (q' + 1) b c (nI j)) _
    rw [x_ownNights_19, m_ownNights_6, nI_1]
    refine JJ.el (nI_ge hj (by omega)) (JJ.er (nI_ge hj (by omega)) ?_)
    have hb : a.1 2999 7 = b.1 1 (ix 4) := hI.2.2.2.bd
    have body : ∀ a2 b2, W2 2000 mm vv ww R σx σm (t + j) a2 b2 → JJ ((x_law a2 rs).bind fun R_8 => (d_goes (vw a2 2000) R_8).bind fun (σ_11, r_10) => (d_sideOf (vw (pb a2 2000 σ_11) 2000) (nI v)).bind fun r_13 => gd (inb (nI v) 8) (if r_13 = ((pb a2 2000 σ_11).1 2013 (ix (nI v))) then (x_ownNights_19 rs (nI m) (nI v) (nI n) k (fun σ_17 v_18 => some (σ_17, v_18)) q (pb a2 2000 σ_11) (c + 1) (nI (j + 1))) else (x_ownNights_19 rs (nI m) (nI v) (nI n) k (fun σ_17 v_18 => some (σ_17, v_18)) q (pb a2 2000 σ_11) (c + 0) (nI (j + 1))))) ((m_goesNight b2).bind fun (σ_6, r_5) => (m_sideOf σ_6 (nI v)).bind fun r_8 => gd (inb (nI v) 8) (if r_8 = (σ_6.1 8 (ix (nI v))) then (m_ownNights_6 (nI m) (nI v) (nI n) k (fun σ_12 v_13 => (m_laysBack σ_12).bind fun σ_15 => some (σ_15, v_13)) q' σ_6 (c + 1) (nI (j + 1))) else (m_ownNights_6 (nI m) (nI v) (nI n) k (fun σ_12 v_13 => (m_laysBack σ_12).bind fun σ_15 => some (σ_15, v_13)) q' σ_6 (c + 0) (nI (j + 1))))) (fun p q => p.2 = q.2 ∧ Bs σx σm p.1 q.1) := by
      intro a2 b2 hI2
      refine JJ.bl (hI2.law (by decide) hR) (JJ.bd (jw_goes hI2 (by omega)) ?_)
      rintro ⟨p, x⟩ ⟨w, y⟩ ⟨e, hW', -⟩
      have hr := hW'.2.2.2
      obtain ⟨s, f1, f2⟩ := hr.side hv
      refine JJ.bl f1 (JJ.br f2 (JJ.gl (inbn (by omega) (by decide)) (JJ.gr (inbn (by omega) (by decide)) ?_)))
      rw [ixn (by omega), show (pb a2 2000 p).1 2013 v = w.1 8 v from hr.wh hv]
      exact JJ.ii Iff.rfl (fun _ _ => kk (_, _) (_, _) ⟨rfl, hW'⟩) (fun _ _ => kk (_, _) (_, _) ⟨rfl, hW'⟩)
    by_cases e : nI j = k
    · refine JJ.bl (if_pos e) (JJ.br (if_pos e) ?_)
      rw [hb]
      exact body _ _ hI.bake
    · refine JJ.bl (if_neg e) (JJ.br (if_neg e) ?_)
      rw [Int32.or_zero, si_same]
      exact body _ _ hI
  · rintro q q' ⟨a, c⟩ ⟨b, c'⟩ ⟨hc, hI⟩
    dsimp only at hc hI
    subst hc
    show JJ (x_ownNights_19 _ _ _ _ _ _ (q + 1) a c (nI n)) (m_ownNights_6 _ _ _ _ _ (q' + 1) b c (nI n)) _
    rw [x_ownNights_19, m_ownNights_6]
    refine JJ.tl (nI_le (Nat.le_refl _) (by omega)) (JJ.tr (nI_le (Nat.le_refl _) (by omega)) ?_)
    obtain ⟨s, hs, hE, hK⟩ := hI.2.1.back
    exact ⟨(a, c), (s, c), rfl, by rw [hs]; rfl, rfl, hI.1, hK, hE⟩
/-- counting down to -1 -/
def zi : Nat → Int32
  | 0 => -1
  | i + 1 => nI i
theorem zi_s (i : Nat) : nI i + -1 = zi i := by
  cases i with
  | zero => rfl
  | succ n => exact pk_m1 n
theorem zi_neg : zi 0 < 0 := by decide
theorem op_crust (h : PL σx rs im σm) (v1 v2 v3 v4 : Int32) : JP rs im (x_crust σx rs v1 v2 v3 v4) (m_crust σm v1 v2 v3 v4) := by
  obtain ⟨r, e1, e2, hr⟩ := q_isMile h v1
  unfold x_crust m_crust
  refine JJ.bl e1 (JJ.br e2 ?_)
  rcases hr with rfl | ⟨rfl, h1, mm, vv, ww, t, lg, un, j, hV, hj, rfl⟩
  · exact JJ.tl rfl (JJ.tr rfl (JJ.ret ⟨rfl, h⟩))
  refine JJ.el (by decide) (JJ.er (by decide) ?_)
  obtain ⟨r, e1, e2, hr⟩ := q_isVillage h v2
  refine JJ.bl e1 (JJ.br e2 ?_)
  rcases hr with rfl | ⟨rfl, -, mm', vv', ww', t', lg', un', v, hV', hv, rfl⟩
  · exact JJ.tl rfl (JJ.tr rfl (JJ.ret ⟨rfl, h⟩))
  have h8 := hV'.1.v8
  have hvv : v < vv := by
    have q := hV.1.dv.symm.trans hV'.1.dv
    have := (nI_eq (a := vv) (b := vv') (by have := hV.1.v8; omega) (by omega)).mp q
    omega
  refine JJ.el (by decide) (JJ.er (by decide) (JJ.bl (x_in_eq v3 1 60) (JJ.br (m_in_eq v3 1 60) ?_)))
  rcases ib_e (v := v3) (a := 1) (b := 60) with e | ⟨e, b1, b2⟩
  · exact JJ.tl e (JJ.tr e (JJ.ret ⟨rfl, h⟩))
  obtain ⟨n, hn, rfl⟩ := nI_of (x := v3) (by rw [i_lt]; rw [i_le] at b1; rw [show (1 : Int32).toInt = 1 by decide] at b1; rw [show (0 : Int32).toInt = 0 by decide]; omega)
  have hn1 : n ≤ 60 := (nI_leI (b := 60) hn (by decide)).mp b2
  have hn0 : 1 ≤ n := (nI_leI (a := 1) (by decide) hn).mp b1
  refine JJ.el (by rw [e]; decide) (JJ.er (by rw [e]; decide) (JJ.bl (x_in_eq v4 0 1) (JJ.br (m_in_eq v4 0 1) (JJ.ii Iff.rfl (fun _ _ => JJ.ret ⟨rfl, h⟩) (fun _ _ => ?_)))))
  obtain ⟨R, eR, hR⟩ := h.law
  have ht := hV.2.1
  refine JJ.or (om_kept σm) (fun b0 ⟨k1, k2, k3⟩ => ?_)
  have hB : Bs σx σm σx b0 := ⟨Ch.rf, k1, k2⟩
  refine JJ.bd (jw_own hB h1 hV.1 hR eR hvv (by omega)) ?_
  rintro ⟨a, x⟩ ⟨b, y⟩ ⟨exy, hB2⟩
  dsimp only at exy hB2
  subst exy
  have hfin : ∀ (a b : cS) (p q : Int32), Bs σx σm a b → JJ (if v4 = 1 then some (a, q) else if p = -1 then some (a, -1) else gd (nz (a.1 999 0)) (some (a, (a.1 1999 8) + p))) (if v4 = 1 then some (b, q) else if p = -1 then some (b, -1) else some (b, (b.1 1 (ix 5)) + p)) (fun a b => a.2 = b.2 ∧ PL a.1 rs im b.1) := by
    intro a b p q hB
    have hP : PL a rs im b := h.mv (Ex.ch hB.1 (by decide)) hB.2.2
    have hr := hB.rn hV.1
    refine JJ.ii Iff.rfl (fun _ _ => JJ.ret ⟨rfl, hP⟩) (fun _ _ => JJ.ii Iff.rfl (fun _ _ => JJ.ret ⟨rfl, hP⟩) (fun _ _ => JJ.gl (by rw [hB.1 999 (by omega), h1]; rfl) (JJ.ret ⟨?_, hP⟩)))
    dsimp only
    rw [show a.1 1999 8 = nI t from hr.dt, show b.1 1 (ix 5) = nI t from hr.mt]
  have key : ∀ (i : Nat), i ≤ 60 → ∀ (k k' : Nat), i < k → i < k' → ∀ (a b : cS) (p q : Int32), Bs σx σm a b → JJ (x_crust_60 rs (nI j) (nI v) (nI n) v4 (fun σ_25 v_26 v_27 => if v4 = 1 then some (σ_25, v_27) else if v_26 = -1 then some (σ_25, -1) else gd (nz (σ_25.1 999 0)) (some (σ_25, (σ_25.1 1999 8) + v_26))) k a p q (zi i)) (m_crust_64 (nI j) (nI v) (nI n) v4 (fun σ_29 v_30 v_31 => if v4 = 1 then some (σ_29, v_31) else if v_30 = -1 then some (σ_29, -1) else some (σ_29, (σ_29.1 1 (ix 5)) + v_30)) k' b p q (zi i)) (fun a b => a.2 = b.2 ∧ PL a.1 rs im b.1) := by
    intro i
    induction i with
    | zero =>
      intro _ k k' hk hk' a b p q hB
      obtain ⟨k, rfl⟩ : ∃ n, k = n + 1 := ⟨k - 1, by omega⟩
      obtain ⟨k', rfl⟩ : ∃ n, k' = n + 1 := ⟨k' - 1, by omega⟩
      rw [x_crust_60, m_crust_64]
      exact JJ.tl zi_neg (JJ.tr zi_neg (hfin a b p q hB))
    | succ i ih =>
      intro hi k k' hk hk' a b p q hB
      obtain ⟨k, rfl⟩ : ∃ n, k = n + 1 := ⟨k - 1, by omega⟩
      obtain ⟨k', rfl⟩ : ∃ n, k' = n + 1 := ⟨k' - 1, by omega⟩
      rw [show zi (i + 1) = nI i from rfl, x_crust_60, m_crust_64, zi_s]
      refine JJ.el (nI_pos (by omega)) (JJ.er (nI_pos (by omega)) (JJ.gl (by rw [hB.1 999 (by omega), h1]; rfl) (JJ.bl (d_isBaked_eq _ _) (JJ.br (m_isBaked_eq _ _) ?_))))
      rw [(hB.rn hV.1).bd]
      refine JJ.ii Iff.rfl (fun _ _ => ?_) (fun _ _ => hfin a b p q hB)
      refine JJ.bd (jw_own hB h1 hV.1 hR eR hvv (by omega)) ?_
      rintro ⟨a2, x⟩ ⟨b2, y⟩ ⟨exy, hB2⟩
      dsimp only at exy hB2
      subst exy
      by_cases c : x ≤ q
      · refine JJ.el ((n_le _ _).mpr c) (JJ.br (if_pos c) (JJ.tr c (ih (by omega) k k' (by omega) (by omega) a2 b2 p q hB2)))
      · refine JJ.tl ((n_lt _ _).mp c) (JJ.br (if_neg c) (JJ.er c (ih (by omega) k k' (by omega) (by omega) a2 b2 (nI i) x hB2)))
  have e0 : nI n - 1 = zi n := by
    obtain ⟨k, rfl⟩ : ∃ k, n = k + 1 := ⟨n - 1, by omega⟩
    exact nI_pred k
  rw [e0]
  exact key n hn1 FU FU (FU_gt (by omega)) (FU_gt (by omega)) a b (-1) x hB2
end CR
