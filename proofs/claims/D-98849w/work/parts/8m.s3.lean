/-! PURE LAW: a strip's lines -/
set_option maxRecDepth 100000
/-- what the reading of a strip leaves as it is -/
def Sx (σx a : cS) : Prop := ∀ k, k ≠ 997 → k ≠ 998 → ¬ (8000 ≤ k ∧ k < 9000) → a.1 k = σx.1 k
def Sm (σm b : cS) : Prop := (∀ k, ¬ (17 ≤ k ∧ k ≤ 26) → k ≠ 999 → b.1 k = σm.1 k) ∧ ∀ i, i ≠ 28 → i ≠ 29 → i ≠ 32 → i ≠ 33 → i ≠ 34 → b.1 999 i = σm.1 999 i
/-- the strip that is read -/
def RX (mm vv ww : Nat) (σ β : cS) : Prop := ((σ.1 8999 0 = nI mm ∧ β.1 17 0 = nI mm) ∧ σ.1 8999 1 = β.1 17 1 ∧ (σ.1 8999 2 = nI vv ∧ β.1 17 2 = nI vv) ∧ (σ.1 8999 3 = nI ww ∧ β.1 17 3 = nI ww) ∧ σ.1 8999 7 = β.1 17 4 ∧ σ.1 8999 4 = 0 ∧ σ.1 8999 5 = 0 ∧ σ.1 8999 8 = 0) ∧ (∀ i, i < 10 → (σ.1 8016 i = β.1 18 i ∧ lk (β.1 18 i)) ∧ ((mm = 0 → β.1 19 i = 10) ∧ (mm ≠ 0 → σ.1 8017 i = β.1 19 i) ∧ ∃ d, d ≤ 99 ∧ β.1 19 i = nI d) ∧ σ.1 8018 i = β.1 20 i ∧ ∃ s, s ≤ 9 ∧ β.1 20 i = nI s) ∧ (∀ i, i < 100 → σ.1 8010 i = β.1 21 i ∧ ∃ w, w ≤ 9 ∧ β.1 21 i = nI w) ∧ ((∀ v, v < vv → (∃ m, m < mm ∧ σ.1 8011 v = nI m ∧ β.1 22 v = nI m) ∧ σ.1 8012 v = β.1 23 v ∧ σ.1 8013 v = β.1 24 v) ∧ ∀ v, v < 8 → σ.1 8019 v = 0) ∧ (∀ w, w < ww → (∃ v, v < vv ∧ σ.1 8014 (2 * w) = nI v ∧ β.1 25 w = nI v) ∧ σ.1 8014 (2 * w + 1) = β.1 26 w) ∧ (mm = 0 → vv = 0 ∧ ww = 0) ∧ mm ≤ 10 ∧ (mm = 0 ∨ 2 ≤ mm) ∧ vv ≤ 8 ∧ ww ≤ 8
def Lp (tp : Nat) (a b : cS) : Prop := ∃ p, p ≤ tp ∧ a.1 997 2 = nI p ∧ b.1 999 28 = nI p
/-- both read on -/
def Lvv (σx σm : cS) (tp : Nat) (M : Int32) (mm vv ww : Nat) (a b : cS) : Prop := Lp tp a b ∧ (b.1 999 29 = 0 ∧ a.1 997 5 = M) ∧ Sx σx a ∧ Sm σm b ∧ RX mm vv ww a b
/-- the model's first fault is told -/
def Dd (σm : cS) (k q : Nat) (b : cS) : Prop := (b.1 999 29 = nI (1 + 8 * q + k) ∧ k ≤ 7 ∧ q ≤ 400) ∧ Sm σm b ∧ ∃ p, p ≤ 500 ∧ b.1 999 28 = nI p
/-- the class has thrown -/
def Ld (σx σm a b : cS) : Prop := ∃ k q, (a.1 998 6 = nI k ∧ a.1 998 7 = nI q) ∧ Sx σx a ∧ Dd σm k q b
def Lpp (σx σm : cS) (tp : Nat) (M : Int32) (a : cS × Option Unit) (b : cS) : Prop := (a.2 = none ∧ Ld σx σm a.1 b) ∨ (a.2 = some () ∧ ∃ mm vv ww, 2 ≤ mm ∧ Lvv σx σm tp M mm vv ww a.1 b)
section LN
variable {B : Nat → Int32} {tp p q w c k mm vv ww : Nat} {σ β σ' β' σx σm a b a' b' : cS} {lo hi M : Int32}
theorem Sx.tc (h : Sx σx a) (hT : TC B tp σx) : TC B tp a := hT.of (by rw [h 999 (by decide) (by decide) (by omega)]) (h 9 (by decide) (by decide) (by omega))
theorem Sm.tm (h : Sm σm b) (hT : TM B tp σm) : TM B tp b := hT.of (h.2 27 (by decide) (by decide) (by decide) (by decide) (by decide)) (h.1 37 (by omega) (by decide))
theorem Sx.st {k i : Nat} {v : Int32} (h : Sx σx a) (hk : k = 997 ∨ k = 998 ∨ (8000 ≤ k ∧ k < 9000)) : Sx σx (si a k i v) := fun j h1 h2 h3 => by rw [si_o (by omega)]; exact h j h1 h2 h3
theorem Sm.st {k i : Nat} {v : Int32} (h : Sm σm b) (hk : (17 ≤ k ∧ k ≤ 26) ∨ (k = 999 ∧ (i = 28 ∨ i = 29 ∨ i = 32 ∨ i = 33 ∨ i = 34))) : Sm σm (si b k i v) := by
  refine ⟨fun j h1 h2 => by rw [si_o (by omega)]; exact h.1 j h1 h2, fun j h1 h2 h3 h4 h5 => ?_⟩
  by_cases e : k = 999
  · subst e
    rw [si_p (by omega)]
    exact h.2 j h1 h2 h3 h4 h5
  · rw [si_o (fun x => e x.symm)]
    exact h.2 j h1 h2 h3 h4 h5
theorem Dd.nz (h : Dd σm k q b) : ¬ b.1 999 29 = 0 := by
  have := h.1.2
  rw [h.1.1]
  exact nI_ne0 (by omega) (by omega)
theorem Dd.st {j i : Nat} {v : Int32} (h : Dd σm k q b) (hk : 17 ≤ j ∧ j ≤ 26) : Dd σm k q (si b j i v) := ⟨⟨by rw [si_o (by omega)]; exact h.1.1, h.1.2⟩, h.2.1.st (Or.inl hk), by rw [si_o (by omega)]; exact h.2.2⟩
theorem om_dead (hB : TB B tp) (hT : TM B tp σm) (h : Dd σm k q b) : OO (m_amount b lo hi) (fun z => Dd σm k q z.1) := by
  have h4 := hB.1
  obtain ⟨p, hp, ep⟩ := h.2.2
  have hs := sk_le (B := B) (tp := tp) (p := p)
  have hs2 : sk B tp p ≤ 500 := by
    by_cases x : p ≤ tp
    · have := hs.2.1 x; omega
    · rw [sk_ge (by omega)]; exact hp
  rw [mx_id ep, m_amount_d hB (h.2.1.tm hT) h.nz (by omega)]
  exact OO.ret ⟨⟨by dsimp only; rw [mx_p (by decide)]; exact h.1.1, h.1.2⟩, h.2.1.st (by omega), _, hs2, mx_n⟩
theorem JJ.num {γ κ : Type} {kx : cS × Option Int32 → Option γ} {km : cS × Int32 → Option κ} {P : γ → κ → Prop} (hB : TB B tp) (hC : TC B tp σx) (hM : TM B tp σm) (hp : Lp tp a b) (h29 : b.1 999 29 = 0) (hX : Sx σx a) (hS : Sm σm b) (ok : ∀ n p', p' ≤ tp → lo ≤ nI n → nI n ≤ hi → n ≤ 99999 → JJ (kx (cx a p', some (nI n))) (km (mx b p', nI n)) P) (bad : ∀ a' b' r, Ld σx σm a' b' → JJ (kx (a', none)) (km (b', r)) P) : JJ ((t_number a lo hi).bind kx) ((m_amount b lo hi).bind km) P := by
  have h4 := hB.1
  obtain ⟨p, hpt, e1, e2⟩ := hp
  have hs := (sk_le (B := B) (tp := tp) (p := p)).2.1 hpt
  have hnd := nd_le (B := B) (tp := tp) (q := sk B tp p)
  obtain ⟨r, hr⟩ := m_amount_eq (lo := lo) (hi := hi) hB (hS.tm hM) h29 hpt
  rw [← mx_id e2] at hr
  have hx := t_number_eq (lo := lo) (hi := hi) hB (hX.tc hC) hpt
  rw [← cx_id e1] at hx
  rw [hr, hx]
  by_cases c : nok B tp (sk B tp p) lo hi = true
  · rw [if_pos c, if_pos c]
    have c' : _ ∧ _ ∧ ib (nI (nv B tp (sk B tp p))) lo hi = 1 := of_decide_eq_true c
    rcases ib_e (v := nI (nv B tp (sk B tp p))) (a := lo) (b := hi) with y | ⟨-, y1, y2⟩
    · rw [y] at c'; exact absurd c'.2.2 (by decide)
    · exact ok _ _ (by omega) y1 y2 hnd.2
  · rw [if_neg c, if_neg c]
    refine bad _ _ r ⟨nfk B tp (sk B tp p), sk B tp p, ⟨?_, ?_⟩, ?_, ⟨si_a, ?_, by omega⟩, ?_, sk B tp p + nd B tp (sk B tp p), by omega, ?_⟩
    · exact (si_p (by decide)).trans si_a
    · exact si_a
    · exact ((hX.st (by omega)).st (by omega)).st (by omega)
    · unfold nfk; split <;> decide
    · exact (hS.st (by omega)).st (by omega)
    · exact (si_p (by decide)).trans mx_n
/-- a write to both -/
theorem Lp.st {k i k' i' : Nat} {v v' : Int32} (h : Lp tp a b) (h1 : k ≠ 997) (h2 : k' ≠ 999) : Lp tp (si a k i v) (si b k' i' v') := by
  obtain ⟨p, h3, h4, h5⟩ := h
  exact ⟨p, h3, by rw [si_o (fun e => h1 e.symm)]; exact h4, by rw [si_o (fun e => h2 e.symm)]; exact h5⟩
theorem Lp.sx {k i : Nat} {v : Int32} (h : Lp tp a b) (h1 : k ≠ 997) : Lp tp (si a k i v) b := by
  obtain ⟨p, h3, h4, h5⟩ := h
  exact ⟨p, h3, by rw [si_o (fun e => h1 e.symm)]; exact h4, h5⟩
theorem Lp.sm {k i : Nat} {v : Int32} (h : Lp tp a b) (h1 : k ≠ 999) : Lp tp a (si b k i v) := by
  obtain ⟨p, h3, h4, h5⟩ := h
  exact ⟨p, h3, h4, by rw [si_o (fun e => h1 e.symm)]; exact h5⟩
theorem Lp.cm (h : p ≤ tp) : Lp tp (cx a p) (mx b p) := ⟨p, h, cx_n, mx_n⟩
/-- the parts of a strip that is read, by what they hang on -/
theorem RX.of (h : RX mm vv ww σ β) (e1 : ∀ k, 8000 ≤ k → k < 9000 → a.1 k = σ.1 k) (e2 : ∀ k, 17 ≤ k → k ≤ 26 → b.1 k = β.1 k) : RX mm vv ww a b := by
  unfold RX at *
  rw [e1 8999 (by decide) (by decide), e1 8016 (by decide) (by decide), e1 8017 (by decide) (by decide), e1 8018 (by decide) (by decide), e1 8010 (by decide) (by decide), e1 8011 (by decide) (by decide), e1 8012 (by decide) (by decide), e1 8013 (by decide) (by decide), e1 8014 (by decide) (by decide), e1 8019 (by decide) (by decide), e2 17 (by decide) (by decide), e2 18 (by decide) (by decide), e2 19 (by decide) (by decide), e2 20 (by decide) (by decide), e2 21 (by decide) (by decide), e2 22 (by decide) (by decide), e2 23 (by decide) (by decide), e2 24 (by decide) (by decide), e2 25 (by decide) (by decide), e2 26 (by decide) (by decide)]
  exact h
/-- a mile's line -/
theorem RX.mile {r d s : Nat} {x : Int32} (h : RX mm vv ww σ β) (h0 : mm ≠ 0) (hx : lk x) (hd : d ≤ 99) (hs : s ≤ 9) (e1 : ∀ k, 8000 ≤ k → k < 9000 → k ≠ 8016 → k ≠ 8017 → k ≠ 8018 → a.1 k = σ.1 k) (e2 : ∀ k, 17 ≤ k → k ≤ 26 → k ≠ 18 → k ≠ 19 → k ≠ 20 → b.1 k = β.1 k) (x1 : a.1 8016 = upd (σ.1 8016) r x) (x2 : a.1 8017 = upd (σ.1 8017) r (nI d)) (x3 : a.1 8018 = upd (σ.1 8018) r (nI s)) (m1 : b.1 18 = upd (β.1 18) r x) (m2 : b.1 19 = upd (β.1 19) r (nI d)) (m3 : b.1 20 = upd (β.1 20) r (nI s)) : RX mm vv ww a b := by
  unfold RX at *
  rw [e1 8999 (by decide) (by decide) (by decide) (by decide) (by decide), e1 8010 (by decide) (by decide) (by decide) (by decide) (by decide), e1 8011 (by decide) (by decide) (by decide) (by decide) (by decide), e1 8012 (by decide) (by decide) (by decide) (by decide) (by decide), e1 8013 (by decide) (by decide) (by decide) (by decide) (by decide), e1 8014 (by decide) (by decide) (by decide) (by decide) (by decide), e1 8019 (by decide) (by decide) (by decide) (by decide) (by decide), e2 17 (by decide) (by decide) (by decide) (by decide) (by decide), e2 21 (by decide) (by decide) (by decide) (by decide) (by decide), e2 22 (by decide) (by decide) (by decide) (by decide) (by decide), e2 23 (by decide) (by decide) (by decide) (by decide) (by decide), e2 24 (by decide) (by decide) (by decide) (by decide) (by decide), e2 25 (by decide) (by decide) (by decide) (by decide) (by decide), e2 26 (by decide) (by decide) (by decide) (by decide) (by decide), x1, x2, x3, m1, m2, m3]
  refine ⟨h.1, fun i hi => ?_, h.2.2⟩
  obtain ⟨⟨l1, l2⟩, ⟨d0, d1, d2⟩, s1, s2⟩ := h.2.1 i hi
  refine ⟨⟨upd_c l1, upd_P l2 hx⟩, ⟨fun e => absurd e h0, fun _ => upd_c (d1 h0), upd_P (P := fun y => ∃ d, d ≤ 99 ∧ y = nI d) d2 ⟨d, hd, rfl⟩⟩, upd_c s1, upd_P (P := fun y => ∃ s, s ≤ 9 ∧ y = nI s) s2 ⟨s, hs, rfl⟩⟩
theorem lk_40 {n : Nat} (h : n ≤ 40) : lk (nI n - 20) := by
  have e : (nI n - 20).toInt = (n : Int) - 20 := pk_sub_toInt (b := 20) (by omega) (by decide)
  unfold lk
  rw [e]
  omega
theorem nI_leZ {n m : Nat} (hn : n < 2 ^ 31) (hm : m < 2 ^ 31) (h : nI n ≤ nI m) : n ≤ m := (nI_leI hn hm).mp h
theorem j_mile (hB : TB B tp) (hC : TC B tp σx) (hM : TM B tp σm) (h : Lvv σx σm tp M mm vv ww σ β) (h0 : 2 ≤ mm) : JJ (t_line σ 1) (m_stripPart β 1) (Lpp σx σm tp M) := by
  obtain ⟨hp, ⟨h29, hMy⟩, hX, hS, hR⟩ := h
  unfold t_line m_stripPart
  refine JJ.el (by decide) (JJ.tl rfl (JJ.er (by decide) (JJ.tr rfl ?_)))
  unfold t_mileHere m_readsMile m_oneMile
  have em : σ.1 8999 0 - 1 = nI (mm - 1) := by rw [hR.1.1.1]; exact nI_m1 (by omega)
  have em2 : β.1 17 (ix 0) - 1 = nI (mm - 1) := by rw [show ix 0 = 0 from rfl, hR.1.1.2]; exact nI_m1 (by omega)
  rw [em, em2]
  have m10 := hR.2.2.2.2.2.2.1
  simp only [Option.bind_assoc]
  refine JJ.num hB hC hM hp h29 hX hS (fun r p1 hp1 _ hr _ => ?_) (fun a' b' r hL => ?_)
  · have hr := nI_leZ (by omega) (by omega) hr
    refine JJ.num (a := cx σ p1) (b := mx β p1) hB hC hM (Lp.cm hp1) ((mx_p (by decide)).trans h29) (hX.st (by omega)) (hS.st (by omega)) (fun n p2 hp2 _ hn _ => ?_) (fun a' b' r hL => ?_)
    · have hn := nI_leZ (m := 40) (by omega) (by decide) hn
      show JJ (gd (inb (nI r) 10) _) _ _
      refine JJ.gl (inbn (by omega) (by decide)) ?_
      rw [ixn (by omega), cx_cx, mx_mx]
      refine JJ.num (a := si (cx σ p2) 8016 r (nI n - 20)) (b := mx β p2) hB hC hM ((Lp.cm hp2).sx (by decide)) ((mx_p (by decide)).trans h29) ((hX.st (by omega)).st (by omega)) (hS.st (by omega)) (fun d p3 hp3 _ hd _ => ?_) (fun a' b' r hL => ?_)
      · have hd := nI_leZ (m := 99) (by omega) (by decide) hd
        rw [mx_mx]
        refine JJ.num (a := si (cx (si (cx σ p2) 8016 r (nI n - 20)) p3) 8017 r (nI d)) (b := mx β p3) hB hC hM ((Lp.cm hp3).sx (by decide)) ((mx_p (by decide)).trans h29) (((hX.st (by omega)).st (by omega) |>.st (by omega)) |>.st (by omega)) (hS.st (by omega)) (fun s p4 hp4 _ hs _ => ?_) (fun a' b' r hL => ?_)
        · have hs := nI_leZ (m := 9) (by omega) (by decide) hs
          rw [mx_mx]
          have hb : inb (nI r) 10 = true := inbn (by omega) (by decide)
          refine JJ.br (a := si (si (si (mx β p4) 18 r (nI n - 20)) 19 r (nI d)) 20 r (nI s)) ((if_pos (show (mx β p4).1 999 29 = 0 from (mx_p (by decide)).trans h29)).trans (by show gd (inb (nI r) 10) _ = _; rw [hb]; rfl)) ?_
          refine JJ.ret (Or.inr ⟨rfl, mm, vv, ww, h0, ?_⟩)
          refine ⟨(((Lp.cm hp4).st (by decide) (by decide)).sm (by decide)).sm (by decide), ⟨?_, ?_⟩, ?_, ?_, ?_⟩
          · rw [si_o (by decide), si_o (by decide), si_o (by decide), mx_p (by decide)]; exact h29
          · rw [si_o (by decide), cx_p (by decide), si_o (by decide), cx_p (by decide), si_o (by decide), cx_p (by decide)]; exact hMy
          · exact ((((((hX.st (by omega)).st (by omega)).st (by omega)).st (by omega)).st (by omega))).st (by omega)
          · exact (((hS.st (by omega)).st (by omega)).st (by omega)).st (by omega)
          · refine hR.mile (r := r) (d := d) (s := s) (x := nI n - 20) (by omega) (lk_40 hn) hd hs (fun k k1 k2 k3 k4 k5 => ?_) (fun k k1 k2 k3 k4 k5 => ?_) ?_ ?_ ?_ ?_ ?_ ?_
            · rw [si_o k5, cx_o (by omega), si_o k4, cx_o (by omega), si_o k3, cx_o (by omega)]
            · rw [si_o k5, si_o k4, si_o k3, mx_o (by omega)]
            · rw [si_o (by decide), cx_o (by decide), si_o (by decide), cx_o (by decide), si_s, cx_o (by decide)]
            · rw [si_o (by decide), cx_o (by decide), si_s, cx_o (by decide), si_o (by decide), cx_o (by decide)]
            · rw [si_s, cx_o (by decide), si_o (by decide), cx_o (by decide), si_o (by decide), cx_o (by decide)]
            · rw [si_o (by decide), si_o (by decide), si_s, mx_o (by decide)]
            · rw [si_o (by decide), si_s, si_o (by decide), mx_o (by decide)]
            · rw [si_s, si_o (by decide), si_o (by decide), mx_o (by decide)]
        · obtain ⟨k, q, e, x, hd⟩ := hL
          show JJ (some (a', none)) _ _
          exact JJ.br (if_neg hd.nz) (JJ.ret (Or.inl ⟨rfl, k, q, e, x, hd⟩))
      · obtain ⟨k, q, e, x, hd⟩ := hL
        show JJ (some (a', none)) _ _
        exact JJ.or (om_dead hB hM hd) (fun z hd => JJ.br (if_neg hd.nz) (JJ.ret (Or.inl ⟨rfl, k, q, e, x, hd⟩)))
    · obtain ⟨k, q, e, x, hd⟩ := hL
      show JJ (some (a', none)) _ _
      exact JJ.or (om_dead hB hM hd) (fun z hd => JJ.or (om_dead hB hM hd) (fun z hd => JJ.br (if_neg hd.nz) (JJ.ret (Or.inl ⟨rfl, k, q, e, x, hd⟩))))
  · obtain ⟨k, q, e, x, hd⟩ := hL
    show JJ (some (a', none)) _ _
    exact JJ.br rfl (JJ.or (om_dead hB hM hd) (fun z hd => JJ.or (om_dead hB hM hd) (fun z hd => JJ.or (om_dead hB hM hd) (fun z hd => JJ.br (if_neg hd.nz) (JJ.ret (Or.inl ⟨rfl, k, q, e, x, hd⟩))))))
end LN
