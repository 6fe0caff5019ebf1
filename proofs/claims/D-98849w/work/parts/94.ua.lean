/-! PURE LAW: a fact; the recursion is tied -/
set_option maxRecDepth 100000
section UF
variable {B : Nat → Int32} {tp p p' q w k r dx dm dm' cn cn0 e e0 e1 o o1 op s n n1 N : Nat} {σ β σ' β' σx σm a b y z a' b' b1 : cS} {lo hi M v c : Int32} {φ ψ : Wds → Int32}
theorem t_opens_eq (h : a.1 997 3 = nI dx) (hd : dx ≤ 10) : t_opens a (nI q) = if dx = 10 then some (fx a 2 q, none) else some (si a 997 3 (nI (dx + 1)), some ()) := by
  unfold t_opens
  rw [h]
  by_cases c : dx = 10
  · rw [if_pos (show (10 : Int32) ≤ nI dx from nI_le (a := 10) (by omega) (by omega)), if_pos c]
    rfl
  · rw [if_neg (show ¬ (10 : Int32) ≤ nI dx from nI_ge (a := dx) (b := 10) (by omega) (by decide)), if_neg c]
    show some (si a 997 3 (a.1 997 3 + 1), some ()) = _
    rw [h, nI_1]
/-- behind a bracket that is told by a fault -/
theorem Dm.psh (h : Dm r σm k q b) (hp : p ≤ 500) : Dm r σm k q (mx (psh b o c) p) := by
  refine Dm.mv ⟨⟨?_, h.1.2⟩, (h.2.1.st (by omega)).st (by omega), ?_⟩ hp
  · rw [psh_p (by decide)]; exact h.1.1
  · obtain ⟨p, h1, h2⟩ := h.2.2
    exact ⟨p, h1, by rw [psh_p (by decide)]; exact h2⟩
theorem UQF.of (h : UQF σx σm r tp M dx cn e o p' cn0 e1 a y φ) : UQF σx σm r tp M dx cn e o p' cn0 e1 a y φ := h
theorem f_step (hU : UB B tp σx σm r) (hF : UFC σx σm r tp M N) (hT : UTC B σx σm r tp M N) : UFC σx σm r tp M (N + 1) := by
  intro a b p dx cn e o n h hN hn ho4
  have h4 := hU.1.1
  obtain ⟨n, rfl⟩ : ∃ m, n = m + 1 := ⟨n - 1, by have := h.1.1; omega⟩
  have hl := h.ids
  have hX := h.2.2.2.2.2.2.1
  have hS := h.2.2.2.2.2.2.2
  have hp := h.1.1
  have hdx := h.2.1
  have h29 := h.2.2.2.2.2.1.1
  have ho := h.2.2.2.2.1
  have w1 := h.2.2.2.1.1
  have hTx := hX.tc hU.2.1
  have hTm := hS.tm hU.2.2.1
  have hk := sk_le (B := B) (tp := tp) (p := p)
  have hq := hk.2.1 hp
  have hpq := hk.1
  have hsk : sk B tp (sk B tp p) = sk B tp p := sk_sk
  have hsee := t_see_eq hU.1 hTx hp
  rw [← hl.1] at hsee
  have hbl := m_blanks_eq hU.1 hTm (show p ≤ 1000 by omega)
  rw [← hl.2] at hbl
  have hL := h.mv (p' := sk B tp p) hq (by omega)
  have hnot : (stC 21).length = 3 := st_e.2.2.2.2.2.2.2.1
  have his := t_isWord_eq (w := 21) hU.1 hTx hq (by rw [hnot]; decide)
  have hst := m_std (w := 34) (p := sk B tp p) (b := mx b (sk B tp p)) hU.1 hTm.mx mx_n (by omega) (by rw [st_e.2.2.1, hnot]; decide)
  rw [st_e.2.2.1] at hst
  rw [hsk] at his
  have hsg := m_sign_eq (p := sk B tp p) hU.1 hTm (by omega)
  have kq : Kf r e o b (mx b (sk B tp p)) := Kf.rf.st (Or.inl rfl)
  generalize sk B tp p = q at *
  have hL28 : (mx b q).1 999 28 = nI q := mx_n
  have hLx := hL.2.2.2.2.2.2.1
  have hLm := hL.2.2.2.2.2.2.2
  have hd1 := t_opens_eq (a := cx a q) (q := q) hL.2.1.2.1 hdx.1
  have fin : ∀ v, m_opens (mx b q) v = (m_opens (mx b q) v) := fun _ => rfl
  rw [t_F]
  unfold t_fact
  refine OO.b hsee (OO.b his ?_)
  have hT9 := T9_1 (n := n) h29
  unfold m_fact at hT9
  rw [hbl] at hT9
  have hT9 : T9 (n + 1) b 1 1 = ((m_stood (mx b q) 34).bind fun r_4 => if r_4 = 0 then (((m_sign (mx b q)).bind fun r_7 => if r_7 = 91 then (((m_opens (mx b q) 12).bind fun σ_12 => some ((si σ_12 999 28 ((σ_12.1 999 28) + 1)), 0))) else (((m_compared (mx b q)).bind fun σ_10 => some (σ_10, 1))))) else (((m_opens (mx b q) 9).bind fun σ_14 => some ((si σ_14 999 28 ((σ_14.1 999 28) + 3)), 0))) : Option (cS × Int32)).bind fun x => if x.2 = 0 then T9 n x.1 1 1 else T9 n x.1 0 1 := hT9
  rw [hst] at hT9
  cases hw : wd B tp q (stC 21) with
  | true =>
    have hl3 := wd_len hw (by rw [hnot]; decide)
    rw [hnot] at hl3
    rw [hw] at hT9
    have hT9 : T9 (n + 1) b 1 1 = (((m_opens (mx b q) 9).bind fun σ_14 => some ((si σ_14 999 28 ((σ_14.1 999 28) + 3)), 0)) : Option (cS × Int32)).bind fun x => if x.2 = 0 then T9 n x.1 1 1 else T9 n x.1 0 1 := hT9
    rw [m_opens_1 (Or.inl rfl) hL.2.1.2.2 hdx.1 hL.2.2.2.2.1.2 (by omega) hL28 hL.2.2.2.2.2.1.1] at hT9
    refine OO.e (by decide) ?_
    show OO ((t_opens (cx a q) ((cx a q).1 997 2)).bind _) _
    rw [cx_n, hd1]
    by_cases c10 : dx = 10
    · rw [if_pos c10] at hT9 ⊢
      have hdd : Dm r σm 2 q (si (fm (mx b q) 2 q) 999 33 (nI 11)) := (hS.dd (by omega) (by omega) (by omega)).st (by omega)
      have hdp := hdd.psh (o := o) (c := 9) (p := q + 3) (by omega)
      have e1 : T9 (n + 1) b 1 1 = T9 n (mx (psh (si (fm (mx b q) 2 q) 999 33 (nI 11)) o 9) (q + 3)) 1 1 := by
        rw [hT9]
        show T9 n (si (psh (si (fm (mx b q) 2 q) 999 33 (nI 11)) o 9) 999 28 ((psh (si (fm (mx b q) 2 q) 999 33 (nI 11)) o 9).1 999 28 + nI 3)) 1 1 = _
        rw [psh_p (by decide), si_p (by decide : 28 ≠ 33), show (fm (mx b q) 2 q).1 999 28 = nI q from (si_p (by decide)).trans mx_n, nI_add]
        rfl
      exact OO.ret (Or.inl ⟨rfl, by show 0 + p ≤ tp; omega, _, e1.trans (T9_dead hdp (by omega)), 2, q, fx_k, hLx.fxx, hdp⟩)
    · rw [if_neg c10] at hT9 ⊢
      have h1 := ((hL.dpx (d := dx + 1) (by omega)).dpm (d := dx + 1)).push (c := 9) (p' := q + 3) hl3 (by omega)
      have e1 : T9 (n + 1) b 1 1 = T9 n (mx (psh (si (mx b q) 999 33 (nI (dx + 1))) o 9) (q + 3)) 1 1 := by
        rw [hT9]
        show T9 n (si (psh (si (mx b q) 999 33 (nI (dx + 1))) o 9) 999 28 ((psh (si (mx b q) 999 33 (nI (dx + 1))) o 9).1 999 28 + nI 3)) 1 1 = _
        rw [psh_p (by decide), si_p (by decide : 28 ≠ 33), mx_n, nI_add]
        rfl
      have k1 : Kf r e o b (mx (psh (si (mx b q) 999 33 (nI (dx + 1))) o 9) (q + 3)) := (kq.st (Or.inl rfl)).psh (Nat.le_refl _)
      show OO (addc 1 ((t_F N (si (si (cx a q) 997 3 (nI (dx + 1))) 997 2 ((si (cx a q) 997 3 (nI (dx + 1))).1 997 2 + 3))).bind fun (σ_81, c_80, o_82) => addc c_80 (thy σ_81 o_82 fun φ_86 => some (si σ_81 997 3 (σ_81.1 997 3 - 1), 0, some (fun ws : Wds => if φ_86 ws = 0 then (1 : Int32) else 0))))) _
      rw [si_p (by decide : 2 ≠ 3), cx_n, show (3 : Int32) = nI 3 from rfl, nI_add]
      refine OO.add (Q := UGP σx σm r tp (q + 3) e o (mx (psh (si (mx b q) 999 33 (nI (dx + 1))) o 9) (q + 3)) n (T9 n (mx (psh (si (mx b q) 999 33 (nI (dx + 1))) o 9) (q + 3)) 1 1) (fun n' y => T9 n' y 0 1) (UQF σx σm r tp M dx cn e o)) (OO.bd (hF _ _ _ _ _ _ _ n h1 (by omega) (by omega) (by omega)) ?_) (fun x hx => hx.up (by omega) (by omega) k1 (Nat.le_refl _) (Nat.le_refl _) e1 (fun _ _ _ _ _ _ _ z => z))
      rintro ⟨a2, c4, o2⟩ hv
      rcases hv with ⟨v1, v2, y2, v3, v4⟩ | ⟨φ2, p2, cn2, e2, n2, y2, v1, v2, v3, v4, v5, j, ψ, v0, v6, v7, v8, v9, v10⟩
      · dsimp only at v1 v2 v4
        subst v1
        exact OO.ret (Or.inl ⟨rfl, by show 0 + c4 + (q + 3) ≤ tp; omega, y2, v3, v4⟩)
      · dsimp only at v1 v2 v6
        subst v1
        have y44 : y2.1 44 o = 9 := by rw [v5.2.1 o (by omega)]; exact psh_t
        have v11 := v6.dpx (d := dx) hdx.1
        rw [show dx + 1 + j = dx + (j + 1) by omega, show o + 1 + j = o + (j + 1) by omega] at v11
        show OO (some (si a2 997 3 (a2.1 997 3 - 1), 0 + c4, some (fun ws => if φ2 ws = 0 then 1 else 0))) _
        rw [v6.2.1.2.1, show nI (dx + 1) - 1 = nI dx from nI_m1 (m := dx + 1) (by omega)]
        refine OO.ret (Or.inr ⟨_, p2, cn2, e2, n2, y2, rfl, by show 0 + c4 + (q + 3) ≤ p2; omega, v3, v4, v5.low (by omega), j + 1, ψ, by omega, v11, fun i hi => ?_, v8, ?_, by omega⟩)
        · by_cases i0 : i = 0
          · subst i0; exact y44
          · have := v7 (i - 1) (by omega)
            rw [show o + 1 + (i - 1) = o + i by omega] at this
            exact this
        · rw [← notj_s, v9]
  | false =>
    rw [hw] at hT9
    have hT9 : T9 (n + 1) b 1 1 = (((m_sign (mx b q)).bind fun r_7 => if r_7 = 91 then (((m_opens (mx b q) 12).bind fun σ_12 => some ((si σ_12 999 28 ((σ_12.1 999 28) + 1)), 0))) else (((m_compared (mx b q)).bind fun σ_10 => some (σ_10, 1)))) : Option (cS × Int32)).bind fun x => if x.2 = 0 then T9 n x.1 1 1 else T9 n x.1 0 1 := hT9
    rw [hsg] at hT9
    have hT9 : T9 (n + 1) b 1 1 = ((if sg B tp q = 91 then (((m_opens (mx b q) 12).bind fun σ_12 => some ((si σ_12 999 28 ((σ_12.1 999 28) + 1)), 0))) else (((m_compared (mx b q)).bind fun σ_10 => some (σ_10, 1)))) : Option (cS × Int32)).bind fun x => if x.2 = 0 then T9 n x.1 1 1 else T9 n x.1 0 1 := hT9
    refine OO.t rfl ?_
    by_cases c91 : sg B tp q = 91
    · rw [if_pos c91] at hT9 ⊢
      have hqt : q < tp := ((sg_is hU.1 (by decide)).mp c91).1
      rw [m_opens_1 (Or.inr rfl) hL.2.1.2.2 hdx.1 hL.2.2.2.2.1.2 (by omega) hL28 hL.2.2.2.2.2.1.1] at hT9
      show OO ((t_opens (cx a q) ((cx a q).1 997 2)).bind _) _
      rw [cx_n, hd1]
      by_cases c10 : dx = 10
      · rw [if_pos c10] at hT9 ⊢
        have hdd : Dm r σm 2 q (si (fm (mx b q) 2 q) 999 33 (nI 11)) := (hS.dd (by omega) (by omega) (by omega)).st (by omega)
        have hdp := hdd.psh (o := o) (c := 12) (p := q + 1) (by omega)
        have e1 : T9 (n + 1) b 1 1 = T9 n (mx (psh (si (fm (mx b q) 2 q) 999 33 (nI 11)) o 12) (q + 1)) 1 1 := by
          rw [hT9]
          show T9 n (si (psh (si (fm (mx b q) 2 q) 999 33 (nI 11)) o 12) 999 28 ((psh (si (fm (mx b q) 2 q) 999 33 (nI 11)) o 12).1 999 28 + nI 1)) 1 1 = _
          rw [psh_p (by decide), si_p (by decide : 28 ≠ 33), show (fm (mx b q) 2 q).1 999 28 = nI q from (si_p (by decide)).trans mx_n, nI_add]
          rfl
        exact OO.ret (Or.inl ⟨rfl, by show 0 + p ≤ tp; omega, _, e1.trans (T9_dead hdp (by omega)), 2, q, fx_k, hLx.fxx, hdp⟩)
      · rw [if_neg c10] at hT9 ⊢
        have h1 := ((hL.dpx (d := dx + 1) (by omega)).dpm (d := dx + 1)).push (c := 12) (p' := q + 1) (by omega) (by omega)
        have e1 : T9 (n + 1) b 1 1 = T9 n (mx (psh (si (mx b q) 999 33 (nI (dx + 1))) o 12) (q + 1)) 1 1 := by
          rw [hT9]
          show T9 n (si (psh (si (mx b q) 999 33 (nI (dx + 1))) o 12) 999 28 ((psh (si (mx b q) 999 33 (nI (dx + 1))) o 12).1 999 28 + nI 1)) 1 1 = _
          rw [psh_p (by decide), si_p (by decide : 28 ≠ 33), mx_n, nI_add]
          rfl
        have k1 : Kf r e o b (mx (psh (si (mx b q) 999 33 (nI (dx + 1))) o 12) (q + 1)) := (kq.st (Or.inl rfl)).psh (Nat.le_refl _)
        have t44 : (mx (psh (si (mx b q) 999 33 (nI (dx + 1))) o 12) (q + 1)).1 44 (o + 1 - 1) = 12 := psh_t
        show OO ((t_tested (t_parted (t_F N)) (si (si (cx a q) 997 3 (nI (dx + 1))) 997 2 ((si (cx a q) 997 3 (nI (dx + 1))).1 997 2 + 1))).bind fun (σ_55, c_54, o_56) => addc c_54 (thy σ_55 o_56 fun φ_60 => ((t_takesSign σ_55 93).bind fun (σ_67, r_66) => ((t_demand σ_67 r_66 0 (σ_67.1 997 2)).bind fun (σ_70, o_71) => thy σ_70 o_71 fun _ => some ((si σ_70 997 3 ((σ_70.1 997 3) - 1)), 0, some φ_60))))) _
        rw [si_p (by decide : 2 ≠ 3), cx_n, nI_1]
        refine OO.bd (hT _ _ _ _ _ _ _ n h1 (Or.inr t44) (by omega) (by omega) (by omega)) ?_
        rintro ⟨a2, c4, o2⟩ hv
        rcases hv with ⟨v1, v2, y2, v3, v4⟩ | ⟨φ2, p2, cn2, e2, n2, y2, v1, v2, v3, v4, v5, v6, v7, v8, v9⟩
        · dsimp only at v1 v2 v4
          subst v1
          exact OO.ret (Or.inl ⟨rfl, by show 0 + c4 + p ≤ tp; omega, y2, e1.trans v3, v4⟩)
        · dsimp only at v1 v2 v6
          subst v1
          have hp2 := v6.1.1
          have lE := v7.1
          obtain ⟨n2, rfl⟩ : ∃ m, n2 = m + 1 := ⟨n2 - 1, by omega⟩
          have y44 : y2.1 44 o = 12 := by rw [v5.2.1 o (by omega)]; exact psh_t
          have hX2 := v6.2.2.2.2.2.2.1
          have hS2 := v6.2.2.2.2.2.2.2
          have hTx2 := hX2.tc hU.2.1
          have hsee2 := t_see_eq hU.1 hTx2 hp2
          rw [v9] at hsee2
          have hsg2 := m_sign_eq (p := p2) hU.1 (hS2.tm hU.2.2.1) (by omega)
          rw [← v6.ids.2] at hsg2
          have ho2 := v6.2.2.2.2.1
          have hC : C11 (n2 + 1) y2 = ((if sg B tp p2 = 93 then (some y2) else (((m_fails y2 0 (y2.1 999 28)).bind fun σ_44 => some (σ_44))) : Option (cS)).bind fun σ_36 => T9 n2 (si (si (si σ_36 999 28 ((σ_36.1 999 28) + 1)) 999 35 (((si σ_36 999 28 ((σ_36.1 999 28) + 1)).1 999 35) - 1)) 999 33 (((si (si σ_36 999 28 ((σ_36.1 999 28) + 1)) 999 35 (((si σ_36 999 28 ((σ_36.1 999 28) + 1)).1 999 35) - 1)).1 999 33) - 1)) 0 1) := by
            rw [C11, m_top_eq ho2.2 (by omega), if_neg (by omega), show o + 1 - 1 = o by omega, y44]
            show (m_sign y2).bind _ = _
            rw [hsg2]
            rfl
          have cell : ∀ s : cS, s.1 999 28 = nI p2 → s.1 999 35 = nI (o + 1) → s.1 999 33 = nI (dx + 1) → si (si (si s 999 28 ((s.1 999 28) + 1)) 999 35 (((si s 999 28 ((s.1 999 28) + 1)).1 999 35) - 1)) 999 33 (((si (si s 999 28 ((s.1 999 28) + 1)) 999 35 (((si s 999 28 ((s.1 999 28) + 1)).1 999 35) - 1)).1 999 33) - 1) = si (si (mx s (p2 + 1)) 999 35 (nI o)) 999 33 (nI dx) := by
            intro s s1 s2 s3
            rw [s1, nI_1, si_p (by decide : 33 ≠ 35), si_p (by decide : 33 ≠ 28), si_p (by decide : 35 ≠ 28), s2, s3, show nI (o + 1) - 1 = nI o from nI_m1 (m := o + 1) (by omega), show nI (dx + 1) - 1 = nI dx from nI_m1 (m := dx + 1) (by omega)]
            rfl
          show OO (addc c4 ((t_takesSign a2 93).bind fun (σ_67, r_66) => ((t_demand σ_67 r_66 0 (σ_67.1 997 2)).bind fun (σ_70, o_71) => thy σ_70 o_71 fun _ => some ((si σ_70 997 3 ((σ_70.1 997 3) - 1)), 0, some φ2)))) _
          unfold t_takesSign
          rw [v6.ids.1, hsee2]
          show OO (addc c4 ((if sg B tp p2 = 93 then some (si (cx a2 p2) 997 2 ((cx a2 p2).1 997 2 + 1), 1) else some (cx a2 p2, 0) : Option (cS × Int32)).bind _)) _
          by_cases c93 : sg B tp p2 = 93
          · have hp2t : p2 < tp := ((sg_is hU.1 (by decide)).mp c93).1
            rw [if_pos c93] at hC ⊢
            have hC : C11 (n2 + 1) y2 = _ := hC.trans (congrArg (fun z => T9 n2 z 0 1) (cell y2 v6.1.2.2 ho2.2 v6.2.1.2.2))
            have v10 := ((v6.mv (p' := p2 + 1) (by omega) (by omega)).pop (dm' := dx) (by omega)).dpx (d := dx) hdx.1
            have k3 : Kf r e2 (o + 1) y2 (si (si (mx y2 (p2 + 1)) 999 35 (nI o)) 999 33 (nI dx)) := ((Kf.rf.st (Or.inl rfl)).st (Or.inl rfl)).st (Or.inl rfl)
            show OO (some (si (si (cx a2 p2) 997 2 ((cx a2 p2).1 997 2 + 1)) 997 3 ((si (cx a2 p2) 997 2 ((cx a2 p2).1 997 2 + 1)).1 997 3 - 1), 0 + c4, some φ2)) _
            rw [cx_n, nI_1, show si (cx a2 p2) 997 2 (nI (p2 + 1)) = cx a2 (p2 + 1) from cx_cx, cx_p (by decide : 3 ≠ 2), v6.2.1.2.1, show nI (dx + 1) - 1 = nI dx from nI_m1 (m := dx + 1) (by omega)]
            have k4 := k1.tr ((v5.tr k3 (by omega) (Nat.le_refl _)).low (o := o) (by omega)) (Nat.le_refl _) (Nat.le_refl _)
            exact OO.ret (Or.inr ⟨φ2, p2 + 1, cn2, e2, n2, _, rfl, by show 0 + c4 + p ≤ p2 + 1; omega, by omega, (e1.trans v4).trans hC, k4, 0, φ2, by omega, v10, fun i hi => absurd hi (Nat.not_lt_zero i), v7.kf k3 (Nat.le_refl _), rfl, by omega⟩)
          · rw [if_neg c93] at hC ⊢
            rw [v6.1.2.2, show (0 : Int32) = nI 0 from rfl, m_fails_0 v6.2.2.2.2.2.1.1] at hC
            have hC : C11 (n2 + 1) y2 = _ := hC.trans (congrArg (fun z => T9 n2 z 0 1) (cell (fm y2 0 p2) ((si_p (by decide)).trans v6.1.2.2) ((si_p (by decide)).trans ho2.2) ((si_p (by decide)).trans v6.2.1.2.2)))
            have hdd : Dm r σm 0 p2 (fm y2 0 p2) := hS2.fmm (by omega) (by omega) (by omega) v6.1.2.2
            have hd2 : Dm r σm 0 p2 (si (si (mx (fm y2 0 p2) (p2 + 1)) 999 35 (nI o)) 999 33 (nI dx)) := ((hdd.mv (p := p2 + 1) (by omega)).st (by omega)).st (by omega)
            have hd0 : t_demand (cx a2 p2) 0 0 ((cx a2 p2).1 997 2) = some (fx (cx a2 p2) 0 p2, none) := by rw [cx_n]; rfl
            refine OO.v (a := (fx (cx a2 p2) 0 p2, 0 + c4, none)) ?_ (Or.inl ⟨rfl, by show 0 + c4 + p ≤ tp; omega, _, ((e1.trans v4).trans hC).trans (T9_dead hd2 (by omega)), 0, p2, fx_k, (hX2.st (Or.inl rfl)).fxx, hd2⟩)
            have hz : ((t_demand (cx a2 p2) 0 0 ((cx a2 p2).1 997 2)).bind fun (σ_70, o_71) => thy σ_70 o_71 fun _ => some ((si σ_70 997 3 ((σ_70.1 997 3) - 1)), 0, some φ2) : Option (cS × Nat × Option (Wds → Int32))) = some (fx (cx a2 p2) 0 p2, 0, none) := by
              rw [hd0]
              rfl
            exact congrArg (addc c4) hz
    · rw [if_neg c91] at hT9 ⊢
      obtain ⟨⟨a2, c4, o2⟩, y2, j1, j2, hv⟩ := j_comp hU hL
      have hT9 : T9 (n + 1) b 1 1 = ((m_compared (mx b q)).bind fun σ_10 => some (σ_10, 1) : Option (cS × Int32)).bind fun x => if x.2 = 0 then T9 n x.1 1 1 else T9 n x.1 0 1 := hT9
      rw [j2] at hT9
      have hT9 : T9 (n + 1) b 1 1 = T9 n y2 0 1 := hT9
      show OO (t_comp (cx a q)) _
      rw [j1]
      rcases hv with ⟨v1, v2, k', q', v3, v4, v5⟩ | ⟨φ2, p2, cn2, e2, v1, v2, v3, v4, v5, v6, v7, v8⟩
      · dsimp only at v1 v2 v3 v4 v5
        subst v1
        exact OO.ret (Or.inl ⟨rfl, by show c4 + p ≤ tp; omega, y2, hT9.trans (T9_dead v5 (by omega)), k', q', v3, v4, v5⟩)
      · dsimp only at v1 v2 v3
        subst v1
        exact OO.ret (Or.inr ⟨φ2, p2, cn2, e2, n, y2, rfl, by show c4 + p ≤ p2; omega, by omega, hT9, kq.tr v4 (Nat.le_refl _) (Nat.le_refl _), 0, φ2, by omega, v3, fun i hi => absurd hi (Nat.not_lt_zero i), v6, rfl, by omega⟩)
theorem f_all (hU : UB B tp σx σm r) : ∀ N, UFC σx σm r tp M N := by
  intro N
  induction N with
  | zero =>
    intro a b p dx cn e o n h hN hn ho4
    have := h.2.1.1
    omega
  | succ N ih => exact f_step hU ih (t_all hU (p_all hU ih))
theorem tt_all (hU : UB B tp σx σm r) : UTC B σx σm r tp M 12 := t_all hU (p_all hU (f_all hU 12))
end UF
