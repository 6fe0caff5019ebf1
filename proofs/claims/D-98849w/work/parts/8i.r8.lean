/-! PURE LAW: weigh, the model's side, and the join -/
set_option maxRecDepth 100000
section WJ
variable {σx σm σx' σm' : cS} {rs : List RS} {im : IM} {cz mm vv ww t u lg un un' O n th ng size : Nat} {δ σ δ' σ' z w a b c β β0 β' : cS} {R : Option RS} {B tb : Int32} {td wm : Nat → Nat}
theorem om_zero {ρ : Type} {P : ρ → Prop} {v1 v2 v3 : Int32} {K : cS → Option ρ} (hK : ∀ b, Mt σm b → (∀ i, i < 1000 → b.1 62 i = 0) → OO (K b) P) : OO (m_weigh_46 v1 v2 v3 K FU σm 0) P := by
  refine OO.loop (S := cS) (L := fun f s i => m_weigh_46 v1 v2 v3 K f s i) (I := fun j s => Mt σm s ∧ ∀ i, i < j → s.1 62 i = 0) (N := 1000) ?_ ?_ 1000 0 (by decide) FU (FU_gt (by decide)) σm ⟨Mt.rf, fun i hi => absurd hi (by omega)⟩
  · intro f j s hj ⟨q1, q2⟩ kk
    show OO (m_weigh_46 _ _ _ _ (f + 1) s (nI j)) _
    rw [m_weigh_46, nI_1, ixn (by omega)]
    refine OO.e (nI_ge (a := j) (b := 1000) hj (by decide)) (OO.g (inbn hj (by decide)) (kk _ ⟨⟨fun i i1 i2 i3 => by rw [si_o i2]; exact q1.1 i i1 i2 i3, fun i hi => by rw [si_o (by decide)]; exact q1.2 i hi⟩, fun i hi => ?_⟩))
    by_cases e : i = j
    · subst e; exact si_a
    · rw [si_p e]; exact q2 i (by omega)
  · intro f s ⟨q1, q2⟩
    show OO (m_weigh_46 _ _ _ _ (f + 1) s (nI 1000)) _
    rw [m_weigh_46]
    exact OO.t (nI_le (a := 1000) (b := 1000) (Nat.le_refl _) (by decide)) (hK s q1 q2)
theorem om_all {ρ : Type} {P : ρ → Prop} {v3 : Int32} {K : cS → Int32 → Option ρ} (hM : Mt σm b) (hT : TE tb td wm σm) (hLG : LG mm lg σm) (hmm : σm.1 1 0 = nI mm) (h10 : mm ≤ 10) (hs : 1 ≤ size ∧ size ≤ 99) (hn : n ≤ 30) (hz : ∀ i, i < 1000 → b.1 62 i = 0) (hK : ∀ b', Mt σm b' → Al tb td wm size n mm (lst (Ft tb td wm lg size σm) (30 * mm)) b' → OO (K b' (nI (lst (Ft tb td wm lg size σm) (30 * mm)).length)) P) : OO (m_weigh_76 (nI size) (nI n) v3 K FU b 0 0) P := by
  refine OO.loop (S := cS × Int32) (L := fun f s i => m_weigh_76 (nI size) (nI n) v3 K f s.1 s.2 i) (I := fun m s => Mt σm s.1 ∧ Al tb td wm size n mm (lst (Ft tb td wm lg size σm) (30 * m)) s.1 ∧ s.2 = nI (lst (Ft tb td wm lg size σm) (30 * m)).length) (N := mm) ?_ ?_ mm 0 (by omega) FU (FU_gt (by omega)) (b, 0) ⟨hM, fun q hq d hd => hz _ (by omega), rfl⟩
  · rintro f m ⟨s, v4⟩ hm ⟨q1, q2, q3⟩ kk
    dsimp only at q1 q2 q3
    show OO (m_weigh_76 _ _ _ _ (f + 1) s v4 (nI m)) _
    rw [m_weigh_76, nI_1]
    refine OO.e (by rw [show ix 0 = 0 from rfl, q1.1 1 (by decide) (by decide) (by decide), hmm]; exact nI_ge hm (by omega)) ?_
    refine OO.loop (S := cS × Int32) (L := fun f s i => m_weigh_90 (nI size) (nI n) v3 (nI m) _ f s.1 s.2 i) (I := fun k s => Mt σm s.1 ∧ Al tb td wm size n mm (lst (Ft tb td wm lg size σm) (30 * m + k)) s.1 ∧ s.2 = nI (lst (Ft tb td wm lg size σm) (30 * m + k)).length) (N := 30) ?_ ?_ 30 0 (by decide) FU (FU_gt (by decide)) (s, v4) ⟨q1, q2, q3⟩
    · rintro f' k ⟨s, v4⟩ hk ⟨q1, q2, q3⟩ kk2
      dsimp only at q1 q2 q3
      subst q3
      show OO (m_weigh_90 _ _ _ _ _ (f' + 1) s _ (nI k)) _
      rw [m_weigh_90, nI_1]
      refine OO.e (nI_ge (a := k) (b := 30) hk (by decide)) (OO.bd (om_fit q1 hT hLG hmm h10 hm hk hs) ?_)
      rintro ⟨s2, r⟩ ⟨f1, f2, f3, f4⟩
      dsimp only at f1 f2 f3 f4
      have hl : lst (Ft tb td wm lg size σm) (30 * m + k + 1) = if fit tb td wm lg size σm m k = true then lst (Ft tb td wm lg size σm) (30 * m + k) ++ [30 * m + k] else lst (Ft tb td wm lg size σm) (30 * m + k) := by
        show (if fit tb td wm lg size σm ((30 * m + k) / 30) ((30 * m + k) % 30) = true then _ else _) = _
        rw [show (30 * m + k) / 30 = m by omega, show (30 * m + k) % 30 = k by omega]
      have hll := (lst_le (Ft tb td wm lg size σm) (30 * m + k)).1
      have hA2 : Al tb td wm size n mm (lst (Ft tb td wm lg size σm) (30 * m + k)) s2 := fun q hq d hd => by rw [f2]; exact q2 q hq d hd
      by_cases c : fit tb td wm lg size σm m k = true
      · rw [if_pos c] at hl f3
        subst f3
        refine OO.e (by decide) (om_count (k := 30 * m + k) f1 hT hmm h10 hn (by omega) hA2 (fun m' hm' j hj => ?_) (fun b' p1 p2 => ?_))
        · rw [show (30 * m + k) / 30 = m by omega, show (30 * m + k) % 30 = k by omega]
          exact f4 c m' hm' j hj
        · refine kk2 (b', nI (lst (Ft tb td wm lg size σm) (30 * m + k)).length + 1) ⟨p1, ?_, ?_⟩
          · dsimp only
            rw [show 30 * m + (k + 1) = 30 * m + k + 1 by omega, hl]
            exact p2
          · dsimp only
            rw [show 30 * m + (k + 1) = 30 * m + k + 1 by omega, hl, nI_1, List.length_append, List.length_singleton]
      · rw [if_neg c] at hl f3
        subst f3
        refine OO.t rfl (kk2 (s2, _) ⟨f1, ?_, ?_⟩)
        · dsimp only
          rw [show 30 * m + (k + 1) = 30 * m + k + 1 by omega, hl]
          exact hA2
        · dsimp only
          rw [show 30 * m + (k + 1) = 30 * m + k + 1 by omega, hl]
    · rintro f' ⟨s, v4⟩ ⟨q1, q2, q3⟩
      dsimp only at q1 q2 q3
      show OO (m_weigh_90 _ _ _ _ _ (f' + 1) s v4 (nI 30)) _
      rw [m_weigh_90]
      exact OO.t (nI_le (a := 30) (b := 30) (Nat.le_refl _) (by decide)) (kk (s, v4) ⟨q1, q2, q3⟩)
  · rintro f ⟨s, v4⟩ ⟨q1, q2, q3⟩
    dsimp only at q1 q2 q3
    subst q3
    show OO (m_weigh_76 _ _ _ _ (f + 1) s _ (nI mm)) _
    rw [m_weigh_76]
    exact OO.t (by rw [show ix 0 = 0 from rfl, q1.1 1 (by decide) (by decide) (by decide), hmm]; exact nI_le (Nat.le_refl _) (by omega)) (hK s q1 q2)
theorem om_max {ρ : Type} {P : ρ → Prop} {v3 v4 v5 v6 : Int32} {q : Nat} {L : List Nat} {K : Int32 → Option ρ} (hL : L.length ≤ 300) (hA : Al tb td wm size n mm L b) (hq : q < mm) (h10 : mm ≤ 10) (hK : OO (K (nI (mxd (ctl (fq tb td wm size n q) L) 100))) P) : OO (m_weigh_204 b v3 v4 v5 v6 (nI q) K FU 0 0) P := by
  refine OO.loop (S := Int32) (L := fun f s i => m_weigh_204 b v3 v4 v5 v6 (nI q) K f s i) (I := fun j s => s = nI (mxd (ctl (fq tb td wm size n q) L) j)) (N := 100) ?_ ?_ 100 0 (by decide) FU (FU_gt (by decide)) 0 rfl
  · intro f j s hj hI kk
    subst hI
    show OO (m_weigh_204 _ _ _ _ _ _ _ (f + 1) _ (nI j)) _
    have hb2 : mxd (ctl (fq tb td wm size n q) L) j ≤ 300 := mxd_le _ j (fun d _ => by have := ctl_le (fq tb td wm size n q) L d; omega)
    have hb1 := ctl_le (fq tb td wm size n q) L j
    rw [m_weigh_204, show (100 : Int32) = nI 100 from rfl, pk_mul, nI_add, nI_1, ixn (show 100 * q + j < 2 ^ 31 by omega), hA q hq j hj]
    refine OO.e (nI_nlt (a := 99) (b := j) (by omega) (by decide)) (OO.g (inbn (by omega) (by decide)) (OO.ii (fun c => kk _ ?_) (fun c => kk _ ?_)))
    · have := (nI_leI (by omega) (by omega)).mp c
      show _ = nI (max _ _)
      rw [Nat.max_eq_left this]
    · have : ¬ ctl (fq tb td wm size n q) L j ≤ mxd (ctl (fq tb td wm size n q) L) j := fun x => c (nI_le x (by omega))
      show _ = nI (max _ _)
      rw [Nat.max_eq_right (by omega)]
  · intro f s hI
    subst hI
    show OO (m_weigh_204 _ _ _ _ _ _ _ (f + 1) _ (nI 100)) _
    rw [m_weigh_204]
    exact OO.t (nI_lt (a := 99) (b := 100) (by decide) (by decide)) hK
theorem om_sel {ρ : Type} {P : ρ → Prop} {v3 : Int32} {L : List Nat} {K : Int32 → Int32 → Option ρ} (hM : Mt σm b) (hmm : σm.1 1 0 = nI mm) (hL : L.length ≤ 300) (hne : L.length ≠ 0) (hA : Al tb td wm size n mm L b) (h2 : 2 ≤ mm) (h10 : mm ≤ 10) (hK : OO (K (nI (sel (fun q => mxd (ctl (fq tb td wm size n q) L) 100) mm).1) (nI (sel (fun q => mxd (ctl (fq tb td wm size n q) L) 100) mm).2)) P) : OO (m_weigh_182 b v3 (nI L.length) K FU (-2) (-2) 0) P := by
  have hal : ∀ q, mxd (ctl (fq tb td wm size n q) L) 100 ≤ 300 := fun q => mxd_le _ 100 (fun d _ => by have := ctl_le (fq tb td wm size n q) L d; omega)
  refine OO.loop (S := Int32 × Int32) (L := fun f s i => m_weigh_182 b v3 (nI L.length) K f s.1 s.2 i) (I := fun j s => (j = 0 → s.1 = -2 ∧ s.2 = -2) ∧ (j ≠ 0 → s.1 = nI (sel (fun q => mxd (ctl (fq tb td wm size n q) L) 100) j).1 ∧ s.2 = nI (sel (fun q => mxd (ctl (fq tb td wm size n q) L) 100) j).2)) (N := mm) ?_ ?_ mm 0 (by omega) FU (FU_gt (by omega)) (-2, -2) ⟨fun _ => ⟨rfl, rfl⟩, fun q => absurd rfl q⟩
  · rintro f j ⟨v5, v6⟩ hj ⟨q1, q2⟩ kk
    dsimp only at q1 q2
    show OO (m_weigh_182 _ _ _ _ (f + 1) _ _ (nI j)) _
    rw [m_weigh_182, nI_1]
    refine OO.e (by rw [show ix 0 = 0 from rfl, hM.1 1 (by decide) (by decide) (by decide), hmm]; exact nI_ge hj (by omega)) (OO.e (nI_ge (a := 0) (b := L.length) (by omega) (by omega)) (om_max hL hA hj h10 ?_))
    by_cases e : j = 0
    · subst e
      obtain ⟨rfl, rfl⟩ := q1 rfl
      exact OO.t rfl (kk (nI 0, _) ⟨fun x => absurd x (by omega), fun _ => ⟨rfl, rfl⟩⟩)
    · obtain ⟨rfl, rfl⟩ := q2 e
      have hb := hal j
      have hb2 := sel_le (al := fun q => mxd (ctl (fq tb td wm size n q) L) 100) hal j
      have hs1 : (sel (fun q => mxd (ctl (fq tb td wm size n q) L) 100) j).1 < j := by rcases hb2.2 with x | x <;> omega
      refine OO.e (nI_nm2 (by omega)) ?_
      by_cases c : mxd (ctl (fq tb td wm size n j) L) 100 < (sel (fun q => mxd (ctl (fq tb td wm size n q) L) 100) j).2
      · refine OO.e (nI_ge c (by omega)) (kk (nI j, _) ⟨fun x => absurd x (by omega), fun _ => ?_⟩)
        dsimp only
        rw [sel_s (by omega), if_pos c]
        exact ⟨rfl, rfl⟩
      · refine OO.t (nI_le (by omega) (by omega)) (kk (_, _) ⟨fun x => absurd x (by omega), fun _ => ?_⟩)
        dsimp only
        rw [sel_s (by omega), if_neg c]
        exact ⟨rfl, rfl⟩
  · rintro f ⟨v5, v6⟩ ⟨q1, q2⟩
    dsimp only at q1 q2
    obtain ⟨rfl, rfl⟩ := q2 (by omega)
    show OO (m_weigh_182 _ _ _ _ (f + 1) _ _ (nI mm)) _
    rw [m_weigh_182]
    exact OO.t (by rw [show ix 0 = 0 from rfl, hM.1 1 (by decide) (by decide) (by decide), hmm]; exact nI_le (Nat.le_refl _) (by omega)) hK
theorem op_weigh (h : PL σx rs im σm) (v1 v2 v3 : Int32) : JP rs im (x_weigh σx v1 v2 v3) (m_weigh σm v1 v2 v3) := by
  unfold x_weigh m_weigh
  rcases q_isStrip h with ⟨h0, hs⟩ | ⟨h1, hs, mm, vv, ww, t, lg, un, hV⟩
  · exact JJ.tl h0 (JJ.br hs (JJ.tr rfl (JJ.ret ⟨rfl, h⟩)))
  have h10 := hV.1.m10
  have h2 : 2 ≤ mm := hV.1.2.2.2.2.2.1
  refine JJ.el (by rw [h1]; decide) (JJ.br hs (JJ.er (by decide) (JJ.bl (x_in_eq v1 1 99) (JJ.br (m_in_eq v1 1 99) ?_))))
  rcases ib_nat (v := v1) (lo := 1) (hi := 99) (by decide) (by decide) with e | ⟨size, n1, n99, rfl, e⟩
  · exact JJ.tl e (JJ.tr e (JJ.ret ⟨rfl, h⟩))
  refine JJ.el (fun q => by rw [show ib (nI size) 1 99 = 1 from e] at q; exact absurd q (by decide)) (JJ.er (fun q => by rw [show ib (nI size) 1 99 = 1 from e] at q; exact absurd q (by decide)) (JJ.bl (x_in_eq v2 0 30) (JJ.br (m_in_eq v2 0 30) ?_)))
  rcases ib_nat (v := v2) (lo := 0) (hi := 30) (by decide) (by decide) with e | ⟨n, -, hn, rfl, e⟩
  · exact JJ.tl e (JJ.tr e (JJ.ret ⟨rfl, h⟩))
  refine JJ.el (fun q => by rw [show ib (nI n) 0 30 = 1 from e] at q; exact absurd q (by decide)) (JJ.er (fun q => by rw [show ib (nI n) 0 30 = 1 from e] at q; exact absurd q (by decide)) (JJ.bl (x_in_eq v3 0 1) (JJ.br (m_in_eq v3 0 1) (JJ.ii Iff.rfl (fun _ _ => JJ.ret ⟨rfl, h⟩) (fun _ _ => ?_)))))
  obtain ⟨td, wm, hT⟩ := TE.of hV.2.2.2.1
  have hLG := LG.of hV.2.2.1 h10
  have hs : 1 ≤ size ∧ size ≤ 99 := ⟨n1, n99⟩
  have hl3 : (lst (Ft (σm.1 16 0) td wm lg size σm) (30 * mm)).length ≤ 300 := by have := (lst_le (Ft (σm.1 16 0) td wm lg size σm) (30 * mm)).1; omega
  refine JJ.ol (ox_gathers Xt.rf h1 hV hT hs) (fun a ⟨x1, _, x3, x4⟩ => ?_)
  have key : OO (m_weigh_46 (nI size) (nI n) v3 (fun σ_15 => (m_weigh_76 (nI size) (nI n) v3 (fun σ_28 v_29 => (m_weigh_182 σ_28 v3 v_29 (fun v_38 v_39 => (if v3 = 0 then (some (σ_28, v_38)) else (some (σ_28, v_39)))) FU (-2) (-2) 0)) FU σ_15 0 0)) FU σm 0) (fun q => Mt σm q.1 ∧ q.2 = if (lst (Ft (σm.1 16 0) td wm lg size σm) (30 * mm)).length = 0 then -2 else if v3 = 0 then nI (sel (fun q => mxd (ctl (fq (σm.1 16 0) td wm size n q) (lst (Ft (σm.1 16 0) td wm lg size σm) (30 * mm))) 100) mm).1 else nI (sel (fun q => mxd (ctl (fq (σm.1 16 0) td wm size n q) (lst (Ft (σm.1 16 0) td wm lg size σm) (30 * mm))) 100) mm).2) := by
    refine om_zero (fun b b1 b2 => om_all b1 hT hLG hV.1.m_ h10 hs hn b2 (fun b' p1 p2 => ?_))
    by_cases e0 : (lst (Ft (σm.1 16 0) td wm lg size σm) (30 * mm)).length = 0
    · rw [if_pos e0, e0]
      obtain ⟨f, hf⟩ : ∃ f, FU = f + 1 := ⟨FU - 1, by have := FU_gt (n := 0) (by decide); omega⟩
      rw [hf, m_weigh_182]
      refine OO.e (by rw [show ix 0 = 0 from rfl, p1.1 1 (by decide) (by decide) (by decide), hV.1.m_]; exact nI_ge (a := 0) (b := mm) (by omega) (by omega)) (OO.t (by decide) (OO.ii (fun _ => OO.ret ⟨p1, rfl⟩) (fun _ => OO.ret ⟨p1, rfl⟩)))
    · rw [if_neg e0]
      refine om_sel p1 hV.1.m_ hl3 e0 p2 h2 h10 (OO.ii (fun c => OO.ret ⟨p1, (if_pos c).symm⟩) (fun c => OO.ret ⟨p1, (if_neg c).symm⟩))
  obtain ⟨⟨s, r⟩, hm, f1, er⟩ := key
  dsimp only at f1 er
  subst er
  rw [hm, x3]
  by_cases e0 : (lst (Ft (σm.1 16 0) td wm lg size σm) (30 * mm)).length = 0
  · refine JJ.tl (by rw [e0]; rfl) (JJ.ret ⟨(if_pos e0).symm, h.mv x1.ex f1.em⟩)
  · obtain ⟨⟨a2, r2⟩, hx, y1, y2⟩ := ox_sel (w := v3) x1 h1 hV hT hs hn rfl x3 x4
    exact JJ.el (nI_ne0 (by omega) (by omega)) ⟨_, _, hx, rfl, by dsimp only at y2 ⊢; rw [y2, if_neg e0], h.mv y1.ex f1.em⟩
end WJ
