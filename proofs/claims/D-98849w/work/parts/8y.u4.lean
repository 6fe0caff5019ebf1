/-! PURE LAW: a value of a rule -/
set_option maxRecDepth 100000
section UV
variable {B : Nat → Int32} {tp p p' q w k r dx dm cn e e1 o o1 : Nat} {σ β σ' β' σx σm a b y z a' b' : cS} {lo hi M v : Int32}
theorem addc_s {ρ : Type} {k c : Nat} {σ : cS} {o : Option ρ} : addc k (some (σ, c, o)) = some (σ, c + k, o) := rfl
theorem JJ.add {ρ κ : Type} {k : Nat} {o1 : Option (cS × Nat × Option ρ)} {o2 : Option κ} {Q P : cS × Nat × Option ρ → κ → Prop} (h : JJ o1 o2 Q) (f : ∀ x y, Q x y → P (x.1, x.2.1 + k, x.2.2) y) : JJ (addc k o1) o2 P := by
  obtain ⟨x, y, rfl, e2, q⟩ := h
  exact ⟨_, y, rfl, e2, f x y q⟩
theorem OO.add {ρ : Type} {k : Nat} {o1 : Option (cS × Nat × Option ρ)} {Q P : cS × Nat × Option ρ → Prop} (h : OO o1 Q) (f : ∀ x, Q x → P (x.1, x.2.1 + k, x.2.2)) : OO (addc k o1) P := by
  obtain ⟨x, rfl, q⟩ := h
  exact ⟨_, rfl, f x q⟩
theorem si_cm {k i j : Nat} {v w : Int32} (h : i ≠ j) : si (si σ k i v) k j w = si (si σ k j w) k i v := by
  refine Prod.ext (funext fun l => funext fun m => ?_) rfl
  by_cases e1 : l = k
  · subst e1
    rw [si_s, si_s, si_s, si_s]
    unfold upd
    by_cases e2 : m = i
    · have e3 : m ≠ j := by omega
      rw [if_neg e3, if_pos e2, if_pos e2]
    · by_cases e3 : m = j
      · rw [if_pos e3, if_neg e2, if_pos e3]
      · rw [if_neg e3, if_neg e2, if_neg e2, if_neg e3]
  · rw [si_o e1, si_o e1, si_o e1, si_o e1]
/-- made in the class, counted in the model -/
theorem t_makes_eq (h : a.1 997 4 = nI cn) (hc : cn ≤ 60) : t_makes a (nI q) = if cn = 60 then some (fx a 3 q, none) else some (si a 997 4 (nI (cn + 1)), some ()) := by
  unfold t_makes
  rw [h]
  by_cases c : cn = 60
  · rw [if_pos (show (60 : Int32) ≤ nI cn from nI_le (a := 60) (by omega) (by omega)), if_pos c]
    rfl
  · rw [if_neg (show ¬ (60 : Int32) ≤ nI cn from nI_ge (a := cn) (b := 60) (by omega) (by decide)), if_neg c]
    show some (si a 997 4 (a.1 997 4 + 1), some ()) = _
    rw [h, nI_1]
theorem m_isC_eq (h : b.1 999 34 = nI cn) (hc : cn ≤ 60) (h29 : b.1 999 29 = 0) : m_isCounted b (nI q) = if cn = 60 then some (si (fm b 3 q) 999 34 (nI 61)) else some (si b 999 34 (nI (cn + 1))) := by
  unfold m_isCounted
  rw [h]
  by_cases c : cn = 60
  · subst c
    rw [if_pos (show nI 60 = 60 from rfl), if_pos rfl, show (3 : Int32) = nI 3 from rfl, m_fails_0 h29]
    show some (si (fm b 3 q) 999 34 ((fm b 3 q).1 999 34 + 1)) = _
    rw [show (fm b 3 q).1 999 34 = nI 60 from (si_p (by decide)).trans h, nI_1]
  · rw [if_neg (show ¬ nI cn = 60 from fun x => c ((nI_eq (b := 60) (by omega) (by decide)).mp x)), if_neg c]
    show some (si b 999 34 (b.1 999 34 + 1)) = _
    rw [h, nI_1]
theorem m_digits_eq (hB : TB B tp) (hM : TM B tp β) (h29 : β.1 999 29 = 0) (c : nd B tp q ≠ 0) : m_digits (mx β q) 99999 = if 5 < nd B tp q then some (fm (mx β (q + nd B tp q)) 1 q, nI (nv B tp q)) else some (mx β (q + nd B tp q), nI (nv B tp q)) := by
  have h4 := hB.1
  have hnd := nd_le (B := B) (tp := tp) (q := q)
  have hz : ∀ p, (mx β p).1 999 29 = 0 := fun p => (mx_p (by decide)).trans h29
  unfold m_digits
  have c1 : (decide (q < tp) && isD (B q)) = true := by
    cases hc : (decide (q < tp) && isD (B q)) with
    | true => rfl
    | false => exact absurd (nd_0.mpr hc) c
  have hqt : q < tp := by
    rw [Bool.and_eq_true_iff, decide_eq_true_eq] at c1
    exact c1.1
  rw [m_isDigit_eq hB hM (by omega), c1]
  show m_digits_25 99999 ((mx β q).1 999 28) _ FU (mx β (q + 0)) (nI 0) = _
  rw [mx_n, m_num25 hB hM (tp - q) 0 0 FU (by omega) (by omega) (FU_gt (by omega)) (by decide)]
  show (if 5 < (mx β (q + nd B tp q)).1 999 28 - nI q then (m_fails (mx β (q + nd B tp q)) 1 (nI q)).bind _ else (if nI (nv B tp q) ≤ nI 99999 then _ else (m_fails (mx β (q + nd B tp q)) 1 (nI q)).bind _)) = _
  rw [mx_n, pk_sub (by omega), show q + nd B tp q - q = nd B tp q by omega]
  by_cases c5 : 5 < nd B tp q
  · rw [if_pos (show (5 : Int32) < nI (nd B tp q) from nI_lt (a := 5) c5 (by omega)), if_pos c5, show (1 : Int32) = nI 1 from rfl, m_fails_0 (hz _)]
    rfl
  · rw [if_neg (show ¬ (5 : Int32) < nI (nd B tp q) from nI_nlt (a := 5) (by omega) (by decide)), if_pos (nI_le hnd.2 (by omega)), if_neg c5]
    rfl
theorem nok_9 : nok B tp q 0 99999 = decide (nd B tp q ≠ 0 ∧ nd B tp q ≤ 5) := by
  have hnd := nd_le (B := B) (tp := tp) (q := q)
  have h1 : ib (nI (nv B tp q)) 0 99999 = 1 := ib_1 ⟨nI_pos' (by omega), nI_le (b := 99999) hnd.2 (by decide)⟩
  unfold nok
  rw [h1]
  by_cases x : nd B tp q ≠ 0 ∧ nd B tp q ≤ 5
  · rw [decide_eq_true x, decide_eq_true ⟨x.1, x.2, rfl⟩]
  · rw [decide_eq_false x, decide_eq_false (fun y => x ⟨y.1, y.2.1⟩)]
/-- a number or a word that is read -/
theorem Ul.leaf {c x : Int32} {V : Wds → Int64} (hr : r < 6) (h : Ul σx σm r tp M p dx dm cn e o a b) (h1 : p' ≤ tp) (h2 : p < p') (h3 : cn < 60) (hV : (c = 0 ∧ ∀ ws, V ws = x.toInt64) ∨ (c = 1 ∧ ∃ i, i < 12 ∧ x = nI i ∧ ∀ ws, V ws = ws i)) : ∃ y, y = en (mx (si b 999 34 (nI (cn + 1))) p') r e c x ∧ Ul σx σm r tp M p' dx dm (cn + 1) (e + 1) o (cx (si a 997 4 (nI (cn + 1))) p') y ∧ Kf r e o b y ∧ Ev r y e (e + 1) V := by
  have he := h.2.2.2.1.1
  have ho := h.2.2.2.2.1.1
  refine ⟨_, rfl, ((h.cnt h3).mv h1 (by omega)).wr (by omega), (((Kf.rf (r := r) (e := e) (o := o) (b := b)).st (Or.inl rfl)).st (Or.inl rfl)).wr (Nat.le_refl _), Ev.leaf hr (by omega) ?_⟩
  rw [en_c, en_v]
  exact hV
theorem j_value (hU : UB B tp σx σm r) (h : Ul σx σm r tp M p dx dm cn e o a b) : JJ (t_value a) (m_value b) (UP σx σm r tp M p dx dm e o b (fun p' cn' e' y (φ : Wds → Int64) => p < p' ∧ cn' = cn + 1 ∧ e' = e + 1 ∧ Ev r y e e' φ)) := by
  obtain ⟨hB, hC, hM, h30, hr, h36⟩ := hU
  have h4 := hB.1
  have hl := h.ids
  have hX := h.2.2.2.2.2.2.1
  have hS := h.2.2.2.2.2.2.2
  have hp := h.1.1
  have hcn := h.2.2.1
  have h29 := h.2.2.2.2.2.1.1
  have ho := h.2.2.2.2.1.1
  have hTx := hX.tc hC
  have hTm := hS.tm hM
  have hk := sk_le (B := B) (tp := tp) (p := p)
  have hq := hk.2.1 hp
  have b36 : b.1 999 36 = 12 := (hS.2.2.2.2 36 (by decide) (by decide) (by decide) (by decide) (by decide) (by decide)).trans h36
  have hsee := t_see_eq hB hTx hp
  rw [← hl.1] at hsee
  have hbl := m_blanks_eq hB hTm (show p ≤ 1000 by omega)
  rw [← hl.2] at hbl
  have hsk : sk B tp (sk B tp p) = sk B tp p := sk_sk
  have hpq := hk.1
  unfold t_value m_value
  refine JJ.bl hsee (JJ.br hbl ?_)
  generalize sk B tp p = q at *
  have hL := h.mv (p' := q) hq (by omega)
  have hz : ∀ p, (mx b p).1 999 29 = 0 := fun p => (mx_p (by decide)).trans h29
  have hc1 : ∀ p, (cx a p).1 997 4 = nI cn := fun p => (cx_p (by decide)).trans hcn.2.1
  have hc2 : ∀ p, (mx b p).1 999 34 = nI cn := fun p => (mx_p (by decide)).trans hcn.2.2
  have hnd := nd_le (B := B) (tp := tp) (q := q)
  have xfx : ∀ {k s}, Ux σx (fx (cx a s) k q) := (hX.st (Or.inl rfl)).fxx
  have ffx : ∀ {k : Nat} {s : cS}, (fx s k q).1 998 6 = nI k ∧ (fx s k q).1 998 7 = nI q := ⟨(si_p (by decide)).trans si_a, si_a⟩
  refine JJ.bl (show t_isDigit (cx a q) ((cx a q).1 997 2) = _ by rw [cx_n, t_isDigit_eq hB hTx.cx hq]) (JJ.br (m_isDigit_eq hB hTm (by omega)) ?_)
  have swp : ∀ s : Nat, si (cx a s) 997 4 (nI (cn + 1)) = cx (si a 997 4 (nI (cn + 1))) s := fun s => si_cm (by decide)
  have swm : ∀ s : Nat, si (mx b s) 999 34 (nI (cn + 1)) = mx (si b 999 34 (nI (cn + 1))) s := fun s => si_cm (by decide)
  cases hd : (decide (q < tp) && isD (B q)) with
  | false =>
    refine JJ.tl rfl (JJ.tr rfl (JJ.bl (t_oneOf_13_eq hB hTx hq hsk) ?_))
    show JJ _ (m_value_38 (mx b q) _ _ FU 0) _
    rw [m_val38 hB hTm b36 (by omega), show (mx b q).1 999 36 = nI 12 from (mx_p (by decide)).trans b36]
    have hf := fww_le (B := B) (tp := tp) (p := q)
    by_cases f12 : fww B tp q = 12
    · rw [if_pos f12, if_pos (show nI (fww B tp q) = nI 12 by rw [f12])]
      refine JJ.tl rfl ?_
      show JJ ((t_demand (cx a q) 0 (nI 0) ((cx a q).1 997 2)).bind _) ((m_fails (mx b q) (nI 0) ((mx b q).1 999 28)).bind _) _
      rw [cx_n, mx_n, t_demand_0, m_fails_0 (hz q)]
      exact JJ.ret (Or.inl ⟨rfl, by show 0 + p ≤ tp; omega, 0, q, ffx, xfx, hS.dd (by omega) (by omega) (by omega)⟩)
    · have f12' : fww B tp q < 12 := by omega
      have hlen := wd_len (hf.2 f12') (wn_e _ f12').2.2
      rw [if_neg f12, if_neg (fun x => f12 ((nI_eq (by omega) (by decide)).mp x))]
      refine JJ.el (nI_nm1 (by omega)) ?_
      show JJ ((t_demand (cx a q) 1 0 ((cx a q).1 997 2)).bind _) ((m_isCounted (mx b q) ((mx b q).1 999 28)).bind _) _
      rw [t_demand_1, cx_n, mx_n, m_isC_eq (hc2 q) hcn.1 (hz q)]
      show JJ ((t_makes (cx a q) (nI q)).bind _) _ _
      rw [t_makes_eq (hc1 q) hcn.1]
      by_cases c60 : cn = 60
      · rw [if_pos c60, if_pos c60]
        have hdd : Dm r σm 3 q (si (fm (mx b q) 3 q) 999 34 (nI 61)) := (hS.dd (by omega) (by omega) (by omega)).st (by omega)
        have hdd2 := hdd.mv (p := q + (stC (22 + fww B tp q)).length) (by omega)
        show JJ (some (fx (cx a q) 3 q, 0, none)) ((m_wordOf (nI (fww B tp q))).bind _) _
        rw [m_wordOf_eq _ f12']
        show JJ _ (gd (decide (22 + fww B tp q < 43)) ((m_entry (si (si (fm (mx b q) 3 q) 999 34 (nI 61)) 999 28 ((si (fm (mx b q) 3 q) 999 34 (nI 61)).1 999 28 + nI (stC (22 + fww B tp q)).length)) 1 _).bind _)) _
        rw [decide_eq_true (by omega), si_p (by decide : 28 ≠ 34), show (fm (mx b q) 3 q).1 999 28 = nI q from (si_p (by decide)).trans mx_n, nI_add]
        have hdd2' : Dm r σm 3 q (si (si (fm (mx b q) 3 q) 999 34 (nI 61)) 999 28 (nI (q + (stC (22 + fww B tp q)).length))) := hdd2
        rw [m_entry_d hdd2'.nz]
        exact JJ.ret (Or.inl ⟨rfl, by show 0 + p ≤ tp; omega, 3, q, ffx, xfx, hdd2'⟩)
      · rw [if_neg c60, if_neg c60]
        show JJ (gd (inb (nI (fww B tp q)) 12) (gd (decide (wnL.getD (ix (nI (fww B tp q))) 0 < 43)) (addc 1 (some (si (si (cx a q) 997 4 (nI (cn + 1))) 997 2 ((si (cx a q) 997 4 (nI (cn + 1))).1 997 2 + nI (stC (wnL.getD (ix (nI (fww B tp q))) 0)).length), 0, some (fun ws : Wds => ws (ix (nI (fww B tp q))))))))) ((m_wordOf (nI (fww B tp q))).bind _) _
        rw [m_wordOf_eq _ f12', inbn f12' (by decide), ixn (by omega), decide_eq_true (wn_lt _ f12'), (wn_e _ f12').1, si_p (by decide : 2 ≠ 4), cx_n, nI_add]
        show JJ _ (gd (decide (22 + fww B tp q < 43)) ((m_entry (si (si (mx b q) 999 34 (nI (cn + 1))) 999 28 ((si (mx b q) 999 34 (nI (cn + 1))).1 999 28 + nI (stC (22 + fww B tp q)).length)) 1 (nI (fww B tp q))).bind _)) _
        rw [decide_eq_true (by omega), si_p (by decide : 28 ≠ 34), mx_n, nI_add, swm, swp]
        have hlf := h.leaf (c := 1) (x := nI (fww B tp q)) (V := fun ws => ws (fww B tp q)) (p' := q + (stC (22 + fww B tp q)).length) hr hlen (by have := (wn_e _ f12').2.2; omega) (by omega) (Or.inr ⟨rfl, _, f12', rfl, fun _ => rfl⟩)
        obtain ⟨y, ey, hy, hK, hE⟩ := hlf
        have hen := ((h.cnt (show cn < 60 by omega)).mv (p' := q + (stC (22 + fww B tp q)).length) hlen (by omega)).ent (c := 1) (v := nI (fww B tp q)) ⟨hB, hC, hM, h30, hr, h36⟩ (by have := h.2.2.2.1.1; omega)
        rw [← ey] at hen
        show JJ (some (cx (cx (si a 997 4 (nI (cn + 1))) q) (q + (stC (22 + fww B tp q)).length), 1, some (fun ws : Wds => ws (fww B tp q)))) ((m_entry (mx (mx (si b 999 34 (nI (cn + 1))) q) (q + (stC (22 + fww B tp q)).length)) 1 (nI (fww B tp q))).bind _) _
        rw [cx_cx, mx_mx, hen]
        exact JJ.ret (Or.inr ⟨_, _, _, _, rfl, by have := (wn_e _ f12').2.2; show 1 + p ≤ _; omega, hy, hK, by have := (wn_e _ f12').2.2; omega, rfl, rfl, hE⟩)
  | true =>
    have hn0 : nd B tp q ≠ 0 := fun x => by rw [nd_0.mp x] at hd; cases hd
    refine JJ.el (by decide) (JJ.er (by decide) ?_)
    rw [t_number_eq hB hTx hq, hsk, nok_9, m_digits_eq hB hTm h29 hn0]
    by_cases c5 : 5 < nd B tp q
    · rw [if_neg (by rw [decide_eq_true_eq]; omega), if_pos c5]
      have hnk : nfk B tp q = 1 := if_neg hn0
      rw [hnk]
      have hdd : Dm r σm 1 q (fm (mx b (q + nd B tp q)) 1 q) := hS.dd (by omega) (by omega) (by omega)
      show JJ (some (fx (cx a (q + nd B tp q)) 1 q, 0, none)) ((m_isCounted (fm (mx b (q + nd B tp q)) 1 q) _).bind _) _
      refine JJ.or (om_isC hdd) (fun b2 h2 => ?_)
      rw [m_entry_d h2.nz]
      exact JJ.ret (Or.inl ⟨rfl, by show 0 + p ≤ tp; omega, 1, q, ffx, xfx, h2⟩)
    · rw [if_pos (by rw [decide_eq_true_eq]; omega), if_neg c5]
      show JJ ((t_makes (cx a (q + nd B tp q)) ((cx a q).1 997 2)).bind _) ((m_isCounted (mx b (q + nd B tp q)) ((mx b q).1 999 28)).bind _) _
      rw [cx_n, mx_n, t_makes_eq (hc1 _) hcn.1, m_isC_eq (hc2 _) hcn.1 (hz _)]
      by_cases c60 : cn = 60
      · rw [if_pos c60, if_pos c60]
        have hdd : Dm r σm 3 q (si (fm (mx b (q + nd B tp q)) 3 q) 999 34 (nI 61)) := (hS.dd (by omega) (by omega) (by omega)).st (by omega)
        show JJ (some (fx (cx a (q + nd B tp q)) 3 q, 0, none)) ((m_entry (si (fm (mx b (q + nd B tp q)) 3 q) 999 34 (nI 61)) 0 (nI (nv B tp q))).bind _) _
        rw [m_entry_d hdd.nz]
        exact JJ.ret (Or.inl ⟨rfl, by show 0 + p ≤ tp; omega, 3, q, ffx, xfx, hdd⟩)
      · rw [if_neg c60, if_neg c60]
        show JJ (some (si (cx a (q + nd B tp q)) 997 4 (nI (cn + 1)), 1, some (fun _ : Wds => (nI (nv B tp q)).toInt64))) ((m_entry (si (mx b (q + nd B tp q)) 999 34 (nI (cn + 1))) 0 (nI (nv B tp q))).bind _) _
        rw [swm, swp]
        have hlf := h.leaf (c := 0) (x := nI (nv B tp q)) (V := fun _ => (nI (nv B tp q)).toInt64) (p' := q + nd B tp q) hr (by omega) (by omega) (by omega) (Or.inl ⟨rfl, fun _ => rfl⟩)
        obtain ⟨y, ey, hy, hK, hE⟩ := hlf
        have hen := ((h.cnt (show cn < 60 by omega)).mv (p' := q + nd B tp q) (by omega) (by omega)).ent (c := 0) (v := nI (nv B tp q)) ⟨hB, hC, hM, h30, hr, h36⟩ (by have := h.2.2.2.1.1; omega)
        rw [← ey] at hen
        rw [hen]
        exact JJ.ret (Or.inr ⟨_, _, _, _, rfl, by show 1 + p ≤ _; omega, hy, hK, by omega, rfl, rfl, hE⟩)
end UV
