/-! PURE LAW: a clause of a rule -/
set_option maxRecDepth 100000
/-- a clause that was read: q is what it answers -/
def UCL (r e : Nat) (y : cS) (i : Nat) (q : (Wds → Int64) × Option (Wds → Int32)) : Prop := ∃ e0 e1 e2, y.1 41 (12 * r + i) = nI e0 ∧ y.1 42 (12 * r + i) = nI e1 ∧ y.1 43 (12 * r + i) = nI e2 ∧ e2 ≤ e ∧ Ev r y e0 e1 q.1 ∧ ((q.2 = none ∧ e1 = e2) ∨ ∃ τ, q.2 = some τ ∧ Ev r y e1 e2 (trq τ))
/-- the clause's part of the model behind its word -/
noncomputable def m_clB (here : Int32) (σ_7 : cS) : Option cS := (m_sum (si σ_7 41 (ix here) (σ_7.1 999 32))).bind fun σ_11 => ((if ((si σ_11 42 (ix here) (σ_11.1 999 32)).1 999 29) = 0 then (((m_takes (si σ_11 42 (ix here) (σ_11.1 999 32)) 42).bind fun (σ_17, r_16) => if r_16 = 0 then (some (σ_17)) else (((m_test σ_17).bind fun σ_20 => some (σ_20))))) else (some ((si σ_11 42 (ix here) (σ_11.1 999 32)))) : Option (cS)).bind fun σ_12 => (some (si σ_12 43 (ix here) (σ_12.1 999 32))))
section UG
variable {B : Nat → Int32} {tp p p' q w k r dx dm dm' cn cn0 e e0 e1 o o1 op s n n1 N j : Nat} {σ β σ' β' σx σm a b y z a' b' b1 : cS} {lo hi M v c : Int32} {φ ψ : Wds → Int32}
theorem Ul.cl {i : Nat} (h : Ul σx σm r tp M p dx dm cn e o a b) (hk : k = 41 ∨ k = 42 ∨ k = 43) (hi : 12 * r ≤ i) : Ul σx σm r tp M p dx dm cn e o a (si b k i v) := by
  obtain ⟨⟨a1, a2, a3⟩, ⟨b1, b2, b3⟩, ⟨c1, c2, c3⟩, ⟨d1, d2⟩, ⟨o1, o2⟩, ⟨f1, f2⟩, hX, hM⟩ := h
  have e1 : ∀ j, (si b k i v).1 999 j = b.1 999 j := fun j => by rw [si_o (by omega)]
  exact ⟨⟨a1, a2, (e1 _).trans a3⟩, ⟨b1, b2, (e1 _).trans b3⟩, ⟨c1, c2, (e1 _).trans c3⟩, ⟨d1, (e1 _).trans d2⟩, ⟨o1, (e1 _).trans o2⟩, ⟨(e1 _).trans f1, f2⟩, hX, hM.st (by omega)⟩
theorem Dm.cl {i : Nat} (h : Dm r σm k q b) (hk : j = 41 ∨ j = 42 ∨ j = 43) (hi : 12 * r ≤ i) : Dm r σm k q (si b j i v) := by
  have e1 : ∀ m, (si b j i v).1 999 m = b.1 999 m := fun m => by rw [si_o (by omega)]
  obtain ⟨h1, h2, p, h3, h4⟩ := h
  exact ⟨⟨(e1 _).trans h1.1, h1.2⟩, h2.st (by omega), p, h3, (e1 _).trans h4⟩
theorem Ul.op0 (h : Ul σx σm r tp M p dx dm cn e o a b) : Ul σx σm r tp M p dx dm cn e 0 a (si b 999 35 0) := by
  obtain ⟨⟨a1, a2, a3⟩, ⟨b1, b2, b3⟩, ⟨c1, c2, c3⟩, ⟨d1, d2⟩, ⟨o1, o2⟩, ⟨f1, f2⟩, hX, hM⟩ := h
  exact ⟨⟨a1, a2, (si_p (by decide)).trans a3⟩, ⟨b1, b2, (si_p (by decide)).trans b3⟩, ⟨c1, c2, (si_p (by decide)).trans c3⟩, ⟨d1, (si_p (by decide)).trans d2⟩, ⟨Or.inr (Nat.zero_le _), si_a⟩, ⟨(si_p (by decide)).trans f1, f2⟩, hX, hM.st (by omega)⟩
/-- what a clause leaves -/
def Kc (r e here : Nat) (b y : cS) : Prop := (∀ i, i < 300 * r + e → y.1 38 i = b.1 38 i ∧ y.1 39 i = b.1 39 i) ∧ ∀ i, i ≠ here → y.1 41 i = b.1 41 i ∧ y.1 42 i = b.1 42 i ∧ y.1 43 i = b.1 43 i
theorem Kc.kf {here : Nat} (h : Kc r e here b y) (h2 : Kf r e1 o y z) (he : e ≤ e1) : Kc r e here b z := ⟨fun i hi => ⟨(h2.1 i (by omega)).1.trans (h.1 i hi).1, (h2.1 i (by omega)).2.trans (h.1 i hi).2⟩, fun i hi => by rw [h2.2.2.1, h2.2.2.2.1, h2.2.2.2.2]; exact h.2 i hi⟩
theorem Kc.st {here : Nat} (h : Kc r e here b y) (hk : k = 41 ∨ k = 42 ∨ k = 43) : Kc r e here b (si y k here v) := by
  have cell : ∀ j m, (j = k → m ≠ here) → (si y k here v).1 j m = y.1 j m := by
    intro j m hm
    by_cases e : j = k
    · subst e; exact si_p (hm rfl)
    · rw [si_o e]
  exact ⟨fun i hi => by rw [cell 38 i (by omega), cell 39 i (by omega)]; exact h.1 i hi, fun i hi => by rw [cell 41 i (fun _ => hi), cell 42 i (fun _ => hi), cell 43 i (fun _ => hi)]; exact h.2 i hi⟩
theorem Kc.rf {here : Nat} : Kc r e here b b := ⟨fun _ _ => ⟨rfl, rfl⟩, fun _ _ => ⟨rfl, rfl, rfl⟩⟩
theorem UCL.kc {here i : Nat} {q : (Wds → Int64) × Option (Wds → Int32)} (h : UCL r e b i q) (hK : Kc r e here b y) (he : e ≤ e1) (hi : 12 * r + i ≠ here) : UCL r e1 y i q := by
  obtain ⟨x0, x1, x2, h1, h2, h3, h4, h5, h6⟩ := h
  obtain ⟨k1, k2, k3⟩ := hK.2 _ hi
  have mv : ∀ {u v : Nat} {V : Wds → Int64}, v ≤ e → Ev r b u v V → Ev r y u v V := fun hv hE => hE.mv (fun i hi => hK.1 _ (by omega))
  have l1 : x1 ≤ e := by
    rcases h6 with ⟨-, x⟩ | ⟨τ, -, x⟩
    · omega
    · have := x.1; omega
  refine ⟨x0, x1, x2, k1.trans h1, k2.trans h2, k3.trans h3, by omega, mv l1 h5, ?_⟩
  rcases h6 with x | ⟨τ, x, hE⟩
  · exact Or.inl x
  · exact Or.inr ⟨τ, x, mv h4 hE⟩
theorem m_takes_eq (hB : TB B tp) (hM : TM B tp b) (h28 : b.1 999 28 = nI p) (hp : p ≤ tp) (hs : sk B tp p = p) (hL : (stC w).length ≤ 100) : m_takes b w = if wd B tp p (stC w) = true then some (mx b (p + (stC w).length), 1) else some (b, 0) := by
  have h4 := hB.1
  have hb := m_blanks_eq hB hM (show p ≤ 1000 by omega)
  rw [← mx_id h28, hs, ← mx_id h28] at hb
  unfold m_takes
  rw [hb]
  show (m_stood b w).bind _ = _
  rw [m_std hB hM h28 (by omega) hL]
  cases hw : wd B tp p (stC w) with
  | true =>
    show some (si b 999 28 (b.1 999 28 + nI (stC w).length), 1) = _
    rw [h28, nI_add]
    rfl
  | false =>
    show some (si b 999 28 (b.1 999 28 + 0), 0) = _
    rw [Int32.add_zero, si_same]
    rfl
theorem C11_0 (h : Ul σx σm r tp M p dx dm cn e 0 a y) (hn : 1 < n) : C11 n y = some y := by
  obtain ⟨n, rfl⟩ : ∃ m, n = m + 1 + 1 := ⟨n - 2, by omega⟩
  rw [C11, m_top_eq h.2.2.2.2.1.2 (by omega)]
  show T9 (n + 1) y 0 0 = _
  exact T9_end
/-- a clause: both go on, or both have told the fault -/
theorem j_clause {here : Nat} (hU : UB B tp σx σm r) (h : Ul σx σm r tp M p 0 0 cn e o a b) (hh : here = 12 * r + j) (hj : j < 12) : JJ (t_clauseHere a) (m_clB (nI here) b) (fun x y => (x.2.2 = none ∧ x.2.1 + p ≤ tp + 1 ∧ Ud σx σm r x.1 y) ∨ ∃ φ p' cn' e' o', x.2.2 = some φ ∧ x.2.1 + p ≤ p' + 1 ∧ Ul σx σm r tp M p' 0 0 cn' e' o' x.1 y ∧ Kc r e here b y ∧ UCL r e' y j φ ∧ e ≤ e' ∧ sk B tp p' = p') := by
  have h4 := hU.1.1
  have hr := hU.2.2.2.2.1
  have w1 := h.2.2.2.1.1
  have hhe : 12 * r ≤ here := by omega
  unfold t_clauseHere m_clB
  rw [ixn (by omega), h.2.2.2.1.2]
  have h1 := h.cl (k := 41) (v := nI e) (Or.inl rfl) hhe
  have k1 : Kc r e here b (si b 41 here (nI e)) := Kc.rf.st (Or.inl rfl)
  refine JJ.add (Q := fun x y => (x.2.2 = none ∧ x.2.1 + p ≤ tp ∧ Ud σx σm r x.1 y) ∨ ∃ φ p' cn' e' o', x.2.2 = some φ ∧ x.2.1 + p ≤ p' ∧ Ul σx σm r tp M p' 0 0 cn' e' o' x.1 y ∧ Kc r e here b y ∧ UCL r e' y j φ ∧ e ≤ e' ∧ sk B tp p' = p') (JJ.bd (j_sum hU h1) ?_) ?_
  · rintro ⟨a2, c4, o2⟩ b2 hv
    rcases hv with ⟨v1, v2, k', q', v3, v4, v5⟩ | ⟨φ2, p2, cn2, e2, v1, v2, v3, v4, v5, v8, v6, v7⟩
    · dsimp only at v1 v2 v3 v4 v5
      subst v1
      have hd := v5.cl (j := 42) (v := b2.1 999 32) (Or.inr (Or.inl rfl)) hhe
      show JJ (some (a2, 0 + c4, none)) _ _
      rw [if_neg hd.nz]
      exact JJ.ret (Or.inl ⟨rfl, by show 0 + c4 + p ≤ tp; omega, k', q', v3, v4, hd.cl (Or.inr (Or.inr rfl)) hhe⟩)
    · dsimp only at v1 v2 v3
      subst v1
      have lE := v8.1
      have hp2 := v3.1.1
      rw [v3.2.2.2.1.2]
      have h3 := v3.cl (k := 42) (v := nI e2) (Or.inr (Or.inl rfl)) hhe
      have k3 : Kc r e here b (si b2 42 here (nI e2)) := (k1.kf v4 (Nat.le_refl _)).st (Or.inr (Or.inl rfl))
      have kz : Kc r e2 here b2 (si b2 42 here (nI e2)) := Kc.rf.st (Or.inr (Or.inl rfl))
      have E3 : Ev r (si b2 42 here (nI e2)) e e2 φ2 := v8.mv (fun i hi => kz.1 _ (by omega))
      have x41 : (si b2 42 here (nI e2)).1 41 here = nI e := by rw [si_o (by decide), v4.2.2.1]; exact si_a
      have x42 : (si b2 42 here (nI e2)).1 42 here = nI e2 := si_a
      have hif : (stC 18).length = 2 := st_e.2.2.2.2.2.2.2.2.1
      have htk := t_takesWord_eq (w := 18) hU.1 (v3.2.2.2.2.2.2.1.tc hU.2.1) hp2 (by rw [hif]; decide)
      rw [← v3.ids.1, v7, ← v3.ids.1] at htk
      have hmt := m_takes_eq (w := 42) hU.1 (h3.2.2.2.2.2.2.2.tm hU.2.2.1) h3.1.2.2 hp2 v7 (by rw [st_e.2.2.2.1, hif]; decide)
      rw [st_e.2.2.2.1] at hmt
      generalize si b2 42 here (nI e2) = b3 at *
      rw [if_pos h3.2.2.2.2.2.1.1, hmt]
      show JJ (addc c4 ((t_takesWord a2 18).bind fun (σ_22, r_21) => if r_21 = 0 then (some (σ_22, 0, some (φ2, none))) else (((t_TT σ_22).bind fun (σ_27, c_26, o_28) => addc c_26 (thy σ_27 o_28 fun φ_32 => some (σ_27, 0, some (φ2, some φ_32))))))) _ _
      rw [htk]
      cases hw : wd B tp p2 (stC 18) with
      | false =>
        have h5 := h3.cl (k := 43) (v := nI e2) (Or.inr (Or.inr rfl)) hhe
        have k5 : Kc r e2 here b3 (si b3 43 here (nI e2)) := Kc.rf.st (Or.inr (Or.inr rfl))
        refine JJ.br (a := b3) rfl ?_
        rw [h3.2.2.2.1.2]
        show JJ (some (a2, 0 + c4, some (φ2, none))) _ _
        refine JJ.ret (Or.inr ⟨(φ2, none), p2, cn2, e2, o, rfl, by show 0 + c4 + p ≤ p2; omega, h5, k3.st (Or.inr (Or.inr rfl)), ?_, by omega, v7⟩)
        refine ⟨e, e2, e2, ?_, ?_, ?_, Nat.le_refl _, E3.mv (fun i hi => k5.1 _ (by omega)), Or.inl ⟨rfl, rfl⟩⟩
        · rw [← hh, si_o (by decide)]; exact x41
        · rw [← hh, si_o (by decide)]; exact x42
        · rw [← hh]; exact si_a
      | true =>
        have hl := wd_len hw (by rw [hif]; decide)
        rw [hif] at hl ⊢
        have h5 := (h3.mv (p' := p2 + 2) hl (by have := h3.2.2.2.2.1.1; omega)).op0
        have k5 : Kf r e2 0 b3 (si (mx b3 (p2 + 2)) 999 35 0) := (Kf.rf.st (Or.inl rfl)).st (Or.inl rfl)
        obtain ⟨x, hx, hv⟩ := tt_all hU _ _ _ _ _ _ _ FU h5 (Or.inl rfl) (by omega) (by have := FU_gt (n := 500) (by decide); omega) (by omega)
        have hmT : m_test (mx b3 (p2 + 2)) = T9 FU (si (mx b3 (p2 + 2)) 999 35 0) 1 1 := rfl
        obtain ⟨a5, c5, o5⟩ := x
        show JJ (addc c4 ((t_TT (cx a2 (p2 + 2))).bind _)) (((m_test (mx b3 (p2 + 2))).bind fun s => some s).bind _) _
        rw [show t_TT (cx a2 (p2 + 2)) = some (a5, c5, o5) from hx, hmT]
        rcases hv with ⟨v1, v2, y2, v3, k', q', u3, u4, u5⟩ | ⟨φ5, p5, cn5, e5, n5, y5, v1, v2, v3, v4, v5, v6, v7, v8, v9⟩
        · dsimp only at v1 v2 u3 u4 u5
          subst v1
          rw [v3]
          show JJ (some (a5, 0 + c5 + c4, none)) _ _
          exact JJ.ret (Or.inl ⟨rfl, by show 0 + c5 + c4 + p ≤ tp; omega, k', q', u3, u4, u5.cl (Or.inr (Or.inr rfl)) hhe⟩)
        · dsimp only at v1 v2 v6
          subst v1
          have hp5 := v6.1.1
          have lE5 := v7.1
          rw [v4, C11_0 v6 (by have := FU_gt (n := 500) (by decide); omega)]
          have h6 := v6.cl (k := 43) (v := nI e5) (Or.inr (Or.inr rfl)) hhe
          have k6 : Kc r e5 here y5 (si y5 43 here (nI e5)) := Kc.rf.st (Or.inr (Or.inr rfl))
          have k7 : Kc r e here b y5 := (k3.kf k5 (by omega)).kf v5 (by omega)
          refine JJ.br (a := y5) rfl ?_
          rw [v6.2.2.2.1.2]
          show JJ (some (a5, 0 + c5 + c4, some (φ2, some φ5))) _ _
          refine JJ.ret (Or.inr ⟨(φ2, some φ5), p5, cn5, e5, 0, rfl, by show 0 + c5 + c4 + p ≤ p5; omega, h6, k7.st (Or.inr (Or.inr rfl)), ?_, by omega, v9⟩)
          have E5 : Ev r y5 e e2 φ2 := (E3.kf k5 (Nat.le_refl _)).kf v5 (Nat.le_refl _)
          refine ⟨e, e2, e5, ?_, ?_, ?_, Nat.le_refl _, E5.mv (fun i hi => k6.1 _ (by omega)), Or.inr ⟨φ5, rfl, v7.mv (fun i hi => k6.1 _ (by omega))⟩⟩
          · rw [← hh, si_o (by decide), v5.2.2.1, k5.2.2.1]; exact x41
          · rw [← hh, si_o (by decide), v5.2.2.2.1, k5.2.2.2.1]; exact x42
          · rw [← hh]; exact si_a
  · rintro x y (⟨v1, v2, v3⟩ | ⟨φ, p', cn', e', o', v1, v2, v3⟩)
    · exact Or.inl ⟨v1, by show x.2.1 + 1 + p ≤ tp + 1; omega, v3⟩
    · exact Or.inr ⟨φ, p', cn', e', o', v1, by show x.2.1 + 1 + p ≤ p' + 1; omega, v3⟩
end UG
