/-! PURE LAW: a strip's head, villages, wants -/
set_option maxRecDepth 100000
section LH
variable {B : Nat → Int32} {tp p q w c k mm vv ww : Nat} {σ β σ' β' σx σm a b a' b' : cS} {lo hi M : Int32}
theorem j_head (hB : TB B tp) (hC : TC B tp σx) (hM : TM B tp σm) (h : Lvv σx σm tp M 0 vv ww σ β) : JJ (t_line σ 0) (m_stripPart β 0) (Lpp σx σm tp M) := by
  obtain ⟨hp, ⟨h29, hMy⟩, hX, hS, hR⟩ := h
  unfold t_line m_stripPart
  refine JJ.tl rfl (JJ.tr rfl ?_)
  refine JJ.mono (Q := Lpp σx σm tp M) ?_ (fun _ _ h => h)
  have key : JJ (t_stripHere σ) ((m_amount β 2 10).bind fun (σ_4, r_3) => ((m_amount (si σ_4 17 (ix 0) r_3) 0 3).bind fun (σ_7, r_6) => some (si σ_7 17 (ix 1) r_6))) (Lpp σx σm tp M) := by
    unfold t_stripHere
    refine JJ.num hB hC hM hp h29 hX hS (fun r p1 hp1 hr2 hr _ => ?_) (fun a' b' r hL => ?_)
    · have hr := nI_leZ (m := 10) (by omega) (by decide) hr
      have hr2 := nI_leZ (n := 2) (by decide) (by omega) hr2
      refine JJ.num (a := si (cx σ p1) 8999 0 (nI r)) (b := si (mx β p1) 17 0 (nI r)) hB hC hM ((Lp.cm hp1).st (by decide) (by decide)) (by rw [si_o (by decide), mx_p (by decide)]; exact h29) ((hX.st (by omega)).st (by omega)) ((hS.st (by omega)).st (by omega)) (fun n p2 hp2 _ hn _ => ?_) (fun a' b' r hL => ?_)
      · have e0 : (∀ k, k ≠ 997 → k ≠ 8999 → k ≠ 8017 → (si (cx (si (cx σ p1) 8999 0 (nI r)) p2) 8999 1 (nI n)).1 k = σ.1 k) ∧ (si (cx (si (cx σ p1) 8999 0 (nI r)) p2) 8999 1 (nI n)).1 8999 = upd (upd (σ.1 8999) 0 (nI r)) 1 (nI n) ∧ (si (cx (si (cx σ p1) 8999 0 (nI r)) p2) 8999 1 (nI n)).1 997 5 = M ∧ (si (cx (si (cx σ p1) 8999 0 (nI r)) p2) 8999 1 (nI n)).1 997 2 = nI p2 ∧ Sx σx (si (cx (si (cx σ p1) 8999 0 (nI r)) p2) 8999 1 (nI n)) := by
          refine ⟨fun k k1 k2 k3 => ?_, ?_, ?_, ?_, (((hX.st (by omega)).st (by omega)).st (by omega)).st (by omega)⟩
          · rw [si_o k2, cx_o k1, si_o k2, cx_o k1]
          · rw [si_s, cx_o (by decide), si_s, cx_o (by decide)]
          · rw [si_o (by decide), cx_p (by decide), si_o (by decide), cx_p (by decide)]; exact hMy
          · rw [si_o (by decide), cx_n]
        have k0 : OO (t_stripHere_29 (fun σ_11 => some (σ_11, some ())) FU (si (cx (si (cx σ p1) 8999 0 (nI r)) p2) 8999 1 (nI n)) 0) (fun z => z.2 = some () ∧ ((∀ k, k ≠ 997 → k ≠ 8999 → k ≠ 8017 → z.1.1 k = σ.1 k) ∧ z.1.1 8999 = upd (upd (σ.1 8999) 0 (nI r)) 1 (nI n) ∧ z.1.1 997 5 = M ∧ z.1.1 997 2 = nI p2 ∧ Sx σx z.1) ∧ ∀ i, i < 10 → z.1.1 8017 i = 10) := by
          refine OO.loop (L := fun f s i => t_stripHere_29 (fun σ_11 => some (σ_11, some ())) f s i) (I := fun j a => ((∀ k, k ≠ 997 → k ≠ 8999 → k ≠ 8017 → a.1 k = σ.1 k) ∧ a.1 8999 = upd (upd (σ.1 8999) 0 (nI r)) 1 (nI n) ∧ a.1 997 5 = M ∧ a.1 997 2 = nI p2 ∧ Sx σx a) ∧ ∀ i, i < j → a.1 8017 i = 10) (N := 10) ?_ ?_ 10 0 (by decide) FU (FU_gt (by decide)) _ ⟨e0, fun i hi => absurd hi (by omega)⟩
          · intro f j s hj ⟨⟨i1, i2, i3, i4, i5⟩, i6⟩ kk
            show OO (t_stripHere_29 _ (f + 1) s (nI j)) _
            rw [t_stripHere_29, nI_1, ixn (by omega)]
            refine OO.e (nI_ge (a := j) (b := 10) hj (by decide)) (OO.g (inbn hj (by decide)) (kk _ ⟨⟨fun k k1 k2 k3 => by rw [si_o k3]; exact i1 k k1 k2 k3, by rw [si_o (by decide)]; exact i2, by rw [si_o (by decide)]; exact i3, by rw [si_o (by decide)]; exact i4, i5.st (by omega)⟩, fun i hi => ?_⟩))
            by_cases e : i = j
            · subst e; exact si_a
            · rw [si_p e]; exact i6 i (by omega)
          · intro f s ⟨i1, i6⟩
            show OO (t_stripHere_29 _ (f + 1) s (nI 10)) _
            rw [t_stripHere_29]
            exact OO.t (nI_le (a := 10) (b := 10) (Nat.le_refl _) (by decide)) (OO.ret ⟨rfl, i1, i6⟩)
        obtain ⟨⟨a, o⟩, ez, rfl, ⟨i1, i2, i3, i4, i5⟩, i6⟩ := k0
        refine ⟨_, _, ez, rfl, Or.inr ⟨rfl, r, 0, 0, hr2, ⟨p2, hp2, i4, ?_⟩, ⟨?_, i3⟩, i5, (((hS.st (by omega)).st (by omega)).st (by omega)).st (by omega), ?_⟩⟩
        · rw [si_o (by decide), mx_n]
        · rw [si_o (by decide), mx_p (by decide), si_o (by decide), mx_p (by decide)]; exact h29
        · refine hR.head (x := nI n) ⟨hr2, hr⟩ (fun k k1 k2 k3 k4 => i1 k (by omega) k4 k3) (fun k k1 k2 k3 => ?_) i2 i6 ?_
          · rw [si_o k3, mx_o (by omega), si_o k3, mx_o (by omega)]
          · rw [si_s, mx_o (by decide), si_s, mx_o (by decide)]; rfl
      · obtain ⟨k, q, e, x, hd⟩ := hL
        exact ⟨_, _, rfl, rfl, Or.inl ⟨rfl, k, q, e, x, hd.st (by omega)⟩⟩
    · obtain ⟨k, q, e, x, hd⟩ := hL
      show JJ (some (a', none)) _ _
      exact JJ.or (om_dead hB hM (hd.st (by omega))) (fun z hd => ⟨_, _, rfl, rfl, Or.inl ⟨rfl, k, q, e, x, hd.st (by omega)⟩⟩)
  obtain ⟨⟨a, o⟩, b, h1, h2, h3⟩ := key
  rw [h1]
  refine ⟨(a, o), b, ?_, h2, h3⟩
  rcases h3 with ⟨e, -⟩ | ⟨e, -⟩
  · dsimp only at e; subst e; rfl
  · dsimp only at e; subst e; rfl
theorem j_vill (hB : TB B tp) (hC : TC B tp σx) (hM : TM B tp σm) (h : Lvv σx σm tp M mm vv ww σ β) (h0 : 2 ≤ mm) (hv : vv < 8) : JJ (t_line σ 4) (m_stripPart β 4) (Lpp σx σm tp M) := by
  obtain ⟨hp, ⟨h29, hMy⟩, hX, hS, hR⟩ := h
  unfold t_line m_stripPart
  refine JJ.el (by decide) (JJ.el (by decide) (JJ.el (by decide) (JJ.el (by decide) (JJ.tl rfl (JJ.er (by decide) (JJ.er (by decide) (JJ.er (by decide) (JJ.er (by decide) (JJ.tr rfl ?_)))))))))
  unfold t_mileHere m_readsVillage m_oneMile
  have em : σ.1 8999 0 - 1 = nI (mm - 1) := by rw [hR.1.1.1]; exact nI_m1 (by omega)
  have em2 : β.1 17 (ix 0) - 1 = nI (mm - 1) := by rw [show ix 0 = 0 from rfl, hR.1.1.2]; exact nI_m1 (by omega)
  have ev : σ.1 8999 2 = nI vv := hR.1.2.2.1.1
  have ev2 : β.1 17 (ix 2) = nI vv := hR.1.2.2.1.2
  rw [em, em2, ev, ev2]
  have m10 := hR.2.2.2.2.2.2.1
  have gv : inb (nI vv) 8 = true := inbn hv (by decide)
  simp only [Option.bind_assoc]
  refine JJ.num hB hC hM hp h29 hX hS (fun r p1 hp1 _ hr _ => ?_) (fun a' b' r hL => ?_)
  · have hr := nI_leZ (by omega) (by omega) hr
    refine JJ.br rfl ?_
    show JJ (gd (inb (nI vv) 8) ((t_number (si (cx σ p1) 8011 (ix (nI vv)) (nI r)) 0 40).bind _)) ((gd (inb (nI vv) 8) ((m_amount (si (mx β p1) 22 (ix (nI vv)) (nI r)) 0 40).bind _)).bind _) _
    rw [gv, ixn (by omega)]
    show JJ ((t_number (si (cx σ p1) 8011 vv (nI r)) 0 40).bind _) (((m_amount (si (mx β p1) 22 vv (nI r)) 0 40).bind _).bind _) _
    rw [Option.bind_assoc]
    refine JJ.num hB hC hM ((Lp.cm hp1).st (by decide) (by decide)) (by rw [si_o (by decide), mx_p (by decide)]; exact h29) ((hX.st (by omega)).st (by omega)) ((hS.st (by omega)).st (by omega)) (fun n p2 hp2 _ hn _ => ?_) (fun a' b' r hL => ?_)
    · have hn := nI_leZ (m := 40) (by omega) (by decide) hn
      show JJ ((t_number (si (cx (si (cx σ p1) 8011 vv (nI r)) p2) 8012 vv (nI n - 20)) 0 1).bind _) (((m_amount (si (mx (si (mx β p1) 22 vv (nI r)) p2) 23 vv (nI n - 20)) 0 1).bind _).bind _) _
      rw [Option.bind_assoc]
      refine JJ.num hB hC hM ((Lp.cm hp2).st (by decide) (by decide)) (by rw [si_o (by decide), mx_p (by decide), si_o (by decide), mx_p (by decide)]; exact h29) ((((hX.st (by omega)).st (by omega)).st (by omega)).st (by omega)) ((((hS.st (by omega)).st (by omega)).st (by omega)).st (by omega)) (fun s p3 hp3 _ _ _ => ?_) (fun a' b' r hL => ?_)
      · generalize ha : si (cx (si (cx (si (cx σ p1) 8011 vv (nI r)) p2) 8012 vv (nI n - 20)) p3) 8013 vv (nI s) = a3
        generalize hb : si (mx (si (mx (si (mx β p1) 22 vv (nI r)) p2) 23 vv (nI n - 20)) p3) 24 vv (nI s) = b3
        have x2 : a3.1 8999 2 = nI vv := by rw [← ha, si_o (by decide), cx_o (by decide), si_o (by decide), cx_o (by decide), si_o (by decide), cx_o (by decide)]; exact ev
        have y2 : b3.1 17 2 = nI vv := by rw [← hb, si_o (by decide), mx_o (by decide), si_o (by decide), mx_o (by decide), si_o (by decide), mx_o (by decide)]; exact ev2
        have ex : (nI vv : Int32) + 1 = nI (vv + 1) := nI_1 _
        refine ⟨(si a3 8999 2 (nI (vv + 1)), some ()), si b3 17 2 (nI (vv + 1)), ?_, ?_, Or.inr ⟨rfl, mm, vv + 1, ww, h0, ?_, ⟨?_, ?_⟩, ?_, ?_, ?_⟩⟩
        · show some (si (si (cx (si (cx (si (cx σ p1) 8011 vv (nI r)) p2) 8012 vv (nI n - 20)) p3) 8013 vv (nI s)) 8999 2 ((si (cx (si (cx (si (cx σ p1) 8011 vv (nI r)) p2) 8012 vv (nI n - 20)) p3) 8013 vv (nI s)).1 8999 2 + 1), some ()) = _
          rw [ha, x2, ex]
        · show some (si b3 17 2 (b3.1 17 2 + 1)) = _
          rw [y2, ex]
        · rw [← ha, ← hb]
          exact ((Lp.cm hp3).st (by decide) (by decide)).st (by decide) (by decide)
        · rw [si_o (by decide), ← hb, si_o (by decide), mx_p (by decide), si_o (by decide), mx_p (by decide), si_o (by decide), mx_p (by decide)]; exact h29
        · rw [si_o (by decide), ← ha, si_o (by decide), cx_p (by decide), si_o (by decide), cx_p (by decide), si_o (by decide), cx_p (by decide)]; exact hMy
        · rw [← ha]; exact ((((((hX.st (by omega)).st (by omega)).st (by omega)).st (by omega)).st (by omega)).st (by omega)).st (by omega)
        · rw [← hb]; exact ((((((hS.st (by omega)).st (by omega)).st (by omega)).st (by omega)).st (by omega)).st (by omega)).st (by omega)
        · rw [← ha, ← hb]
          refine hR.vill (r := r) (x := nI n - 20) (y := nI s) (by omega) (by omega) hv (fun k k1 k2 k3 k4 k5 k6 => ?_) (fun k k1 k2 k3 k4 k5 k6 => ?_) ?_ ?_ ?_ ?_ ?_ ?_ ?_ ?_
          · rw [si_o k3, si_o k6, cx_o (by omega), si_o k5, cx_o (by omega), si_o k4, cx_o (by omega)]
          · rw [si_o k3, si_o k6, mx_o (by omega), si_o k5, mx_o (by omega), si_o k4, mx_o (by omega)]
          · rw [si_s, si_o (by decide), cx_o (by decide), si_o (by decide), cx_o (by decide), si_o (by decide), cx_o (by decide)]
          · rw [si_o (by decide), si_o (by decide), cx_o (by decide), si_o (by decide), cx_o (by decide), si_s, cx_o (by decide)]
          · rw [si_o (by decide), si_o (by decide), cx_o (by decide), si_s, cx_o (by decide), si_o (by decide), cx_o (by decide)]
          · rw [si_o (by decide), si_s, cx_o (by decide), si_o (by decide), cx_o (by decide), si_o (by decide), cx_o (by decide)]
          · rw [si_s, si_o (by decide), mx_o (by decide), si_o (by decide), mx_o (by decide), si_o (by decide), mx_o (by decide)]
          · rw [si_o (by decide), si_o (by decide), mx_o (by decide), si_o (by decide), mx_o (by decide), si_s, mx_o (by decide)]
          · rw [si_o (by decide), si_o (by decide), mx_o (by decide), si_s, mx_o (by decide), si_o (by decide), mx_o (by decide)]
          · rw [si_o (by decide), si_s, mx_o (by decide), si_o (by decide), mx_o (by decide), si_o (by decide), mx_o (by decide)]
      · obtain ⟨k, q, e, x, hd⟩ := hL
        exact ⟨_, _, rfl, rfl, Or.inl ⟨rfl, k, q, e, x, (hd.st (by omega)).st (by omega)⟩⟩
    · obtain ⟨k, q, e, x, hd⟩ := hL
      show JJ (some (a', none)) (((m_amount (si b' 23 vv _) 0 1).bind _).bind _) _
      rw [Option.bind_assoc]
      exact JJ.or (om_dead hB hM (hd.st (by omega))) (fun z hd => ⟨_, _, rfl, rfl, Or.inl ⟨rfl, k, q, e, x, (hd.st (by omega)).st (by omega)⟩⟩)
  · obtain ⟨k, q, e, x, hd⟩ := hL
    refine JJ.br rfl ?_
    show JJ (some (a', none)) ((gd (inb (nI vv) 8) ((m_amount (si b' 22 (ix (nI vv)) r) 0 40).bind _)).bind _) _
    rw [gv]
    show JJ _ (((m_amount (si b' 22 (ix (nI vv)) r) 0 40).bind _).bind _) _
    rw [Option.bind_assoc]
    refine JJ.or (om_dead hB hM (hd.st (by omega))) (fun z hd => ?_)
    show JJ (some (a', none)) (((m_amount (si z.1 23 (ix (nI vv)) _) 0 1).bind _).bind _) _
    rw [Option.bind_assoc]
    exact JJ.or (om_dead hB hM (hd.st (by omega))) (fun z hd => ⟨_, _, rfl, rfl, Or.inl ⟨rfl, k, q, e, x, (hd.st (by omega)).st (by omega)⟩⟩)
theorem j_want (hB : TB B tp) (hC : TC B tp σx) (hM : TM B tp σm) (h : Lvv σx σm tp M mm vv ww σ β) (h0 : 2 ≤ mm) (hw : ww < 8) : JJ (t_line σ 5) (m_stripPart β 5) (Lpp σx σm tp M) := by
  obtain ⟨hp, ⟨h29, hMy⟩, hX, hS, hR⟩ := h
  unfold t_line m_stripPart
  refine JJ.el (by decide) (JJ.el (by decide) (JJ.el (by decide) (JJ.el (by decide) (JJ.el (by decide) (JJ.er (by decide) (JJ.er (by decide) (JJ.er (by decide) (JJ.er (by decide) (JJ.er (by decide) ?_)))))))))
  have ev : σ.1 8999 2 = nI vv := hR.1.2.2.1.1
  have ev2 : β.1 17 (ix 2) = nI vv := hR.1.2.2.1.2
  have ew : σ.1 8999 3 = nI ww := hR.1.2.2.2.1.1
  have ew2 : β.1 17 (ix 3) = nI ww := hR.1.2.2.2.1.2
  rw [ev, ev2, ew, ew2]
  have v8 := hR.2.2.2.2.2.2.2.2.1
  have e2w : 2 * nI ww = nI (2 * ww) := by rw [show (2 : Int32) = nI 2 from rfl, pk_mul]
  rw [e2w, nI_1, ixn (show 2 * ww < 2 ^ 31 by omega), ixn (show 2 * ww + 1 < 2 ^ 31 by omega), ixn (show ww < 2 ^ 31 by omega), inbn (show 2 * ww < 16 by omega) (by decide), inbn (show 2 * ww + 1 < 16 by omega) (by decide), inbn (show ww < 8 by omega) (by decide)]
  refine JJ.num hB hC hM hp h29 hX hS (fun r p1 hp1 _ hr _ => ?_) (fun a' b' r hL => ?_)
  · have hr := nI_leM (by omega) (by omega) hr
    show JJ ((t_number (si (cx σ p1) 8014 (2 * ww) (nI r)) 0 1).bind _) ((m_amount (si (mx β p1) 25 ww (nI r)) 0 1).bind _) _
    refine JJ.num hB hC hM ((Lp.cm hp1).st (by decide) (by decide)) (by rw [si_o (by decide), mx_p (by decide)]; exact h29) ((hX.st (by omega)).st (by omega)) ((hS.st (by omega)).st (by omega)) (fun n p2 hp2 _ hn _ => ?_) (fun a' b' r hL => ?_)
    · generalize ha : si (cx (si (cx σ p1) 8014 (2 * ww) (nI r)) p2) 8014 (2 * ww + 1) (nI n) = a3
      generalize hb : si (mx (si (mx β p1) 25 ww (nI r)) p2) 26 ww (nI n) = b3
      have x2 : a3.1 8999 3 = nI ww := by rw [← ha, si_o (by decide), cx_o (by decide), si_o (by decide), cx_o (by decide)]; exact ew
      have y2 : b3.1 17 3 = nI ww := by rw [← hb, si_o (by decide), mx_o (by decide), si_o (by decide), mx_o (by decide)]; exact ew2
      have ex : (nI ww : Int32) + 1 = nI (ww + 1) := nI_1 _
      refine ⟨(si a3 8999 3 (nI (ww + 1)), some ()), si b3 17 3 (nI (ww + 1)), ?_, ?_, Or.inr ⟨rfl, mm, vv, ww + 1, h0, ?_, ⟨?_, ?_⟩, ?_, ?_, ?_⟩⟩
      · show some (si (si (cx (si (cx σ p1) 8014 (2 * ww) (nI r)) p2) 8014 (2 * ww + 1) (nI n)) 8999 3 ((si (cx (si (cx σ p1) 8014 (2 * ww) (nI r)) p2) 8014 (2 * ww + 1) (nI n)).1 8999 3 + 1), some ()) = _
        rw [ha, x2, ex]
      · show some (si (si (mx (si (mx β p1) 25 ww (nI r)) p2) 26 ww (nI n)) 17 3 ((si (mx (si (mx β p1) 25 ww (nI r)) p2) 26 ww (nI n)).1 17 3 + 1)) = _
        rw [hb, y2, ex]
      · rw [← ha, ← hb]
        exact ((Lp.cm hp2).st (by decide) (by decide)).st (by decide) (by decide)
      · rw [si_o (by decide), ← hb, si_o (by decide), mx_p (by decide), si_o (by decide), mx_p (by decide)]; exact h29
      · rw [si_o (by decide), ← ha, si_o (by decide), cx_p (by decide), si_o (by decide), cx_p (by decide)]; exact hMy
      · rw [← ha]; exact ((((hX.st (by omega)).st (by omega)).st (by omega)).st (by omega)).st (by omega)
      · rw [← hb]; exact ((((hS.st (by omega)).st (by omega)).st (by omega)).st (by omega)).st (by omega)
      · rw [← ha, ← hb]
        refine hR.want (r := r) (x := nI n) (by omega) hr hw (fun k k1 k2 k3 k4 => ?_) (fun k k1 k2 k3 k4 k5 => ?_) ?_ ?_ ?_ ?_ ?_
        · rw [si_o k3, si_o k4, cx_o (by omega), si_o k4, cx_o (by omega)]
        · rw [si_o k3, si_o k5, mx_o (by omega), si_o k4, mx_o (by omega)]
        · rw [si_s, si_o (by decide), cx_o (by decide), si_o (by decide), cx_o (by decide)]
        · rw [si_o (by decide), si_s, cx_o (by decide), si_s, cx_o (by decide)]
        · rw [si_s, si_o (by decide), mx_o (by decide), si_o (by decide), mx_o (by decide)]
        · rw [si_o (by decide), si_o (by decide), mx_o (by decide), si_s, mx_o (by decide)]
        · rw [si_o (by decide), si_s, mx_o (by decide), si_o (by decide), mx_o (by decide)]
    · obtain ⟨k, q, e, x, hd⟩ := hL
      exact ⟨_, _, rfl, rfl, Or.inl ⟨rfl, k, q, e, x, (hd.st (by omega)).st (by omega)⟩⟩
  · obtain ⟨k, q, e, x, hd⟩ := hL
    show JJ (some (a', none)) ((m_amount (si b' 25 ww r) 0 1).bind _) _
    exact JJ.or (om_dead hB hM (hd.st (by omega))) (fun z hd => ⟨_, _, rfl, rfl, Or.inl ⟨rfl, k, q, e, x, (hd.st (by omega)).st (by omega)⟩⟩)
end LH
