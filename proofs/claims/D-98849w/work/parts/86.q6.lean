/-! PURE LAW: summers -/
set_option maxRecDepth 100000
/-- what nights don't change of a Dough is the same -/
def CC (c o : cS) : Prop := (∀ i, i < 9 → i ≠ 7 → i ≠ 8 → o.1 999 i = c.1 999 i) ∧ ∀ k, 10 ≤ k → k ≤ 14 → ∀ i, i < zD.getD k 0 → o.1 k i = c.1 k i
theorem CC.fx {c o o' : cS} (h : CC c o) (hF : Fx o o') : CC c o' := ⟨fun i h1 h2 h3 => (hF.2 i h3).trans (h.1 i h1 h2 h3), fun k h1 h2 i hi => by rw [hF.1 k (by omega) (by omega) (by omega) (by omega) (by omega) (by omega)]; exact h.2 k h1 h2 i hi⟩
theorem CC.eq {c o : cS} (h : eqD o c) : CC c o := ⟨fun i h1 _ _ => h.1 i h1, fun k h1 h2 i hi => h.2 k (by omega) (by omega) i hi⟩
theorem CC.sta {c o a d : cS} (h : CC c o) (hs : StA o a d) : CC c a := ⟨fun i h1 h2 h3 => (hs.1 i h2 h3).trans (h.1 i h1 h2 h3), fun k h1 h2 i hi => by rw [hs.2.2.1 k (by omega) (by omega)]; exact h.2 k h1 h2 i hi⟩
theorem CC.sw {c o d : cS} (h : CC c o) (h2 : CC c d) : CC o d := ⟨fun i h1 h3 h4 => (h2.1 i h1 h3 h4).trans (h.1 i h1 h3 h4).symm, fun k h1 h3 i hi => (h2.2 k h1 h3 i hi).trans (h.2 k h1 h3 i hi).symm⟩
theorem CC.of {c o o' : cS} (h : CC c o) (e : ∀ k, k < 1000 → o'.1 k = o.1 k) : CC c o' := ⟨fun i h1 h2 h3 => by rw [e 999 (by decide)]; exact h.1 i h1 h2 h3, fun k h1 h2 i hi => by rw [e k (by omega)]; exact h.2 k h1 h2 i hi⟩
theorem Rm.sta {cz mm vv ww t u : Nat} {c o a τ : cS} (h : Rm cz mm vv ww t u c τ) (hC : CC c o) (hs : StA o a c) : Rm cz mm vv ww t u a τ := by
  obtain ⟨s1, ⟨s2, s3⟩, s4, s5⟩ := hs
  have n9 : ∀ i, i < 9 → a.1 999 i = c.1 999 i := by
    intro i hi
    by_cases e7 : i = 7
    · subst e7; exact s2
    by_cases e8 : i = 8
    · subst e8; exact s3
    exact (s1 i e7 e8).trans (hC.1 i hi e7 e8)
  have r14 : ∀ k, 10 ≤ k → k ≤ 14 → ∀ i, i < zD.getD k 0 → a.1 k i = c.1 k i := fun k h1 h2 i hi => by rw [s4 k (by omega) (by omega)]; exact hC.2 k h1 h2 i hi
  obtain ⟨⟨⟨h1, h2⟩, h3, ⟨h4, h5⟩, ⟨h6, h7⟩, h8, h9, h10⟩, hl, ⟨hv, hc⟩, hw, ht, hb⟩ := h
  have v8 : vv ≤ 8 := hb.2.2.1
  have w8 : ww ≤ 8 := hb.2.2.2.1
  have c8 : cz ≤ 8 := hb.2.2.2.2.2.2
  refine ⟨⟨⟨(n9 0 (by decide)).trans h1, h2⟩, (n9 1 (by decide)).trans h3, ⟨(n9 2 (by decide)).trans h4, h5⟩, ⟨(n9 3 (by decide)).trans h6, h7⟩, (n9 7 (by decide)).trans h8, (n9 8 (by decide)).trans h9, h10⟩, fun i hi => ?_, ⟨fun v hv' => ?_, fun v hv' => (s5 19 (by decide) (by decide) v (by show v < 8; omega)).trans (hc v hv')⟩, fun w hw' => ?_, fun i hi => (r14 10 (by decide) (by decide) i hi).trans (ht i hi), hb⟩
  · obtain ⟨a1, a2, a3, a4⟩ := hl i hi
    rw [s5 16 (by decide) (by decide) i hi, s5 17 (by decide) (by decide) i hi, s5 18 (by decide) (by decide) i hi]
    exact ⟨a1, a2, a3, a4⟩
  · obtain ⟨a1, a2, a3⟩ := hv v hv'
    have hv8 : v < 8 := by omega
    rw [r14 11 (by decide) (by decide) v hv8, r14 12 (by decide) (by decide) v hv8, r14 13 (by decide) (by decide) v hv8]
    exact ⟨a1, a2, a3⟩
  · obtain ⟨a1, a2⟩ := hw w hw'
    rw [r14 14 (by decide) (by decide) (2 * w) (by show 2 * w < 16; omega), r14 14 (by decide) (by decide) (2 * w + 1) (by show 2 * w + 1 < 16; omega)]
    exact ⟨a1, a2⟩
theorem Kp.back2 {σ a : cS} (h : Kp σ a) : OO (m_laysBack a) (fun b => (Em σ b ∧ Kp σ b) ∧ ∀ k, k ∉ imB → k ≠ 50 → k ≠ 999 → b.1 k = a.1 k) := by
  obtain ⟨b, hb, q⟩ := h.back
  obtain ⟨b', hb', g⟩ := om_lays a
  rw [hb] at hb'
  cases hb'
  exact ⟨b, hb, q, g.2.2.2.2.1⟩
theorem om_copies {σ : cS} {p q N : Nat} (hp : (mK p).2 = N) (hq : (mK q).2 = N) (hN : N < 1000) (hpq : p ≠ q) : OO (m_copies σ p q) (fun b => (∀ k, k ≠ q → b.1 k = σ.1 k) ∧ ∀ i, i < N → b.1 q i = σ.1 p i) := by
  unfold m_copies
  refine OO.loop (L := fun n s i => m_copies_2 p q (fun s => some s) n s i) (I := fun j b => (∀ k, k ≠ q → b.1 k = σ.1 k) ∧ ∀ i, i < j → b.1 q i = σ.1 p i) (N := N) ?_ ?_ N 0 (by omega) FU (FU_gt (by omega)) σ ⟨fun _ _ => rfl, fun i hi => absurd hi (by omega)⟩
  · intro n j b hj ⟨h1, h2⟩ kk
    show OO (m_copies_2 p q _ (n + 1) b (nI j)) _
    rw [m_copies_2, hp, hq, nI_1, ixn (by omega)]
    refine OO.e (nI_ge hj (by omega)) (OO.g (inbn hj (by omega)) (OO.g (inbn hj (by omega)) (kk _ ⟨fun k hk => by rw [si_o hk]; exact h1 k hk, fun i hi => ?_⟩)))
    by_cases e : i = j
    · subst e; rw [si_a, h1 p hpq]
    · rw [si_p e]; exact h2 i (by omega)
  · intro n b h
    show OO (m_copies_2 p q _ (n + 1) b (nI N)) _
    rw [m_copies_2, hp]
    exact OO.t (nI_le (Nat.le_refl _) (by omega)) (OO.ret h)
section SU
variable {σx σm σx' σm' : cS} {rs : List RS} {im : IM} {mm vv ww t u lg un un' : Nat} {δ σ δ' σ' z w a b c : cS} {R : Option RS}
/-- all but the spare Dough and the drawn number stand -/
def Cs (σx a : cS) : Prop := (∀ k, ¬ (2000 ≤ k ∧ k < 3000) → k ≠ 999 → a.1 k = σx.1 k) ∧ ∀ i, i ≠ 23 → a.1 999 i = σx.1 999 i
theorem Cs.ch (h : Cs σx a) (h2 : Ch 2000 a b) : Cs σx b := ⟨fun k h1 h3 => (h2 k (by omega)).trans (h.1 k h1 h3), fun i hi => by rw [h2 999 (by omega)]; exact h.2 i hi⟩
theorem Cs.s23 {v : Int32} (h : Cs σx a) : Cs σx (si a 999 23 v) := ⟨fun k h1 h3 => by rw [si_o h3]; exact h.1 k h1 h3, fun i hi => by rw [si_p hi]; exact h.2 i hi⟩
theorem Cs.ex (h : Cs σx a) : Ex σx a := ⟨fun k hk => h.1 k (by omega) (by omega), fun i hi => h.2 i (by omega)⟩
theorem Cs.law (h : Cs σx a) (hR : x_law σx rs = some R) : x_law a rs = some R := by
  rw [law_eq (a := σx) (h.2 7 (by decide))]; exact hR
def W3 (mm vv ww : Nat) (R : Option RS) (σx σm : cS) (t : Nat) (a b : cS) : Prop := Cs σx a ∧ Kp σm b ∧ LawR R b ∧ Rn mm vv ww t t (vw a 2000) b ∧ (∀ i, i < 10 → b.1 63 i = σm.1 2 i) ∧ a.1 999 23 = b.1 1 7 ∧ CC (vw σx 1000) (vw a 2000)
theorem jabs_d {x y : Int32} (hx : lk x) (hy : lk y) : jabs (x - y) = if x ≤ y then y - x else x - y := by
  unfold lk at hx hy
  have e1 : (x - y).toInt = x.toInt - y.toInt := b_sub (by omega) (by omega)
  have e2 : (y - x).toInt = y.toInt - x.toInt := b_sub (by omega) (by omega)
  have c0 : (0 : Int32).toInt = 0 := by decide
  unfold jabs
  by_cases h : 0 ≤ x - y
  · rw [if_pos h]
    rw [i_le, c0, e1] at h
    by_cases h2 : x ≤ y
    · rw [if_pos h2]
      rw [i_le] at h2
      exact (i_eq _ _).mpr (by omega)
    · rw [if_neg h2]
  · rw [if_neg h]
    rw [i_le, c0, e1] at h
    rw [if_pos ((i_le _ _).mpr (by omega))]
    exact (i_eq _ _).mpr (by rw [b_sub (by rw [c0]; omega) (by rw [c0]; omega), c0, e1, e2]; omega)
theorem js_feet {v1 v2 v3 v4 v7 w4 : Int32} {ρ τ : Type} {P : ρ → τ → Prop} {Kx : Int32 → Option ρ} {Km : Int32 → Option τ} (h : W3 mm vv ww R σx σm t a b) (h1 : σx.1 999 0 = 1) (hn : Rn mm vv ww u u (vw σx 1000) σm) (f : Int32) (hK : ∀ g, JJ (Kx g) (Km g) P) : JJ (x_summers_127 rs a v1 v2 v3 v4 v7 Kx FU f 0) (m_summers_128 b v1 v2 v3 w4 v4 v7 Km FU f 0) P := by
  obtain ⟨q1, q2, q3, q4, q5, q6, q7⟩ := h
  have h10 := hn.m10
  have dm : a.1 1999 0 = nI mm := (congrFun (q1.1 1999 (by decide) (by decide)) 0).trans hn.dm
  refine JJ.loop (S := Int32) (T := Int32) (Lx := fun n s i => x_summers_127 rs a v1 v2 v3 v4 v7 Kx n s i) (Lm := fun n s i => m_summers_128 b v1 v2 v3 w4 v4 v7 Km n s i) (I := fun _ x y => x = y) (N := mm) ?_ ?_ mm 0 (by omega) FU FU (FU_gt (by omega)) (FU_gt (by omega)) f f rfl
  · intro n n' j x y hj hI kk
    subst hI
    show JJ (x_summers_127 _ _ _ _ _ _ _ _ (n + 1) x (nI j)) (m_summers_128 _ _ _ _ _ _ _ _ (n' + 1) x (nI j)) _
    rw [x_summers_127, m_summers_128, nI_1]
    refine JJ.gl (by rw [q1.2 0 (by decide), h1]; rfl) (JJ.el (by rw [dm]; exact nI_ge hj (by omega)) (JJ.er (by rw [q4.m']; exact nI_ge hj (by omega)) (JJ.gl (inbn (by omega) (by decide)) (JJ.gr (inbn (by omega) (by decide)) ?_))))
    rw [ixn (by omega), show a.1 2016 j = b.1 2 j from q4.ln (by omega), q5 j (by omega), show a.1 1016 j = σm.1 2 j from (congrFun (q1.1 1016 (by decide) (by decide)) j).trans (hn.ln (by omega)), jabs_d (q4.lb (by omega)) (hn.lb (by omega))]
    by_cases c : b.1 2 j ≤ σm.1 2 j
    · rw [if_pos c]
      exact JJ.tr c (kk _ _ rfl)
    · rw [if_neg c]
      exact JJ.er c (kk _ _ rfl)
  · intro n n' x y hI
    subst hI
    show JJ (x_summers_127 _ _ _ _ _ _ _ _ (n + 1) x (nI mm)) (m_summers_128 _ _ _ _ _ _ _ _ (n' + 1) x (nI mm)) _
    rw [x_summers_127, m_summers_128]
    exact JJ.gl (by rw [q1.2 0 (by decide), h1]; rfl) (JJ.tl (by rw [dm]; exact nI_le (Nat.le_refl _) (by omega)) (JJ.tr (by rw [q4.m']; exact nI_le (Nat.le_refl _) (by omega)) (hK x)))
def dN (D : Int32) : Int32 := (((D.toInt64 * 1103515245) + 12345) - ((D.toInt64 * 1103515245) + 12345) / 2147483648 * 2147483648).toInt32
def dR (D : Int32) : Int32 := (dN D / 65536) - (dN D / 65536) / 10 * 10
theorem x_draw_eq : x_draw a 10 = some (si a 999 23 (dN (a.1 999 23)), dR (a.1 999 23)) := by
  unfold x_draw
  rw [si_a]
  rfl
theorem m_draws_eq : m_draws b 10 = some (si b 1 7 (dN (b.1 1 7)), dR (b.1 1 7)) := by
  unfold m_draws
  rw [show ix 7 = 7 from rfl, si_a]
  rfl
theorem js_nights {v1 v3 v5 v7 w4 w8 : Int32} {n : Nat} {ρ τ : Type} {P : ρ → τ → Prop} {Kx : cS → Int32 → Option ρ} {Km : cS → Int32 → Option τ} (h : W3 mm vv ww R σx σm t a b) (hR : x_law σx rs = some R) (ht : t + n + 1 < 1000000) (f : Int32) (hK : ∀ a b g, W3 mm vv ww R σx σm (t + n) a b → JJ (Kx a g) (Km b g) P) : JJ (x_summers_92 rs v1 (nI n) v3 v5 v7 Kx FU a f 0) (m_summers_98 v1 (nI n) v3 w4 v5 w8 Km FU b f 0) P := by
  refine JJ.loop (S := cS × Int32) (T := cS × Int32) (Lx := fun k s i => x_summers_92 rs v1 (nI n) v3 v5 v7 Kx k s.1 s.2 i) (Lm := fun k s i => m_summers_98 v1 (nI n) v3 w4 v5 w8 Km k s.1 s.2 i) (I := fun j x y => x.2 = y.2 ∧ W3 mm vv ww R σx σm (t + j) x.1 y.1) (N := n) ?_ ?_ n 0 (by omega) FU FU (FU_gt (by omega)) (FU_gt (by omega)) (a, f) (b, f) ⟨rfl, h⟩
  · rintro k k' j ⟨a, x⟩ ⟨b, y⟩ hj ⟨hx, hI⟩ kk
    dsimp only at hx hI
    subst hx
    show JJ (x_summers_92 _ _ _ _ _ _ _ (k + 1) a x (nI j)) (m_summers_98 _ _ _ _ _ _ _ (k' + 1) b x (nI j)) _
    rw [x_summers_92, m_summers_98, nI_1]
    obtain ⟨q1, q2, q3, q4, q5, q6, q7⟩ := hI
    refine JJ.el (nI_ge hj (by omega)) (JJ.er (nI_ge hj (by omega)) ?_)
    refine JJ.bl x_draw_eq (JJ.br m_draws_eq ?_)
    rw [q6]
    have hv : vw (si a 999 23 (dN (b.1 1 7))) 2000 = vw a 2000 := by
      refine Prod.ext (funext fun k => ?_) rfl
      show (si a 999 23 (dN (b.1 1 7))).1 (2000 + k) = a.1 (2000 + k)
      exact si_o (by omega)
    have hr : Rn mm vv ww (t + j) (t + j) (vw (si a 999 23 (dN (b.1 1 7))) 2000) (si b 1 7 (dN (b.1 1 7))) := by
      rw [hv]
      exact q4.gen (fun _ _ _ _ => rfl) (fun _ _ _ _ => rfl) (fun k k1 _ => si_o (by omega)) (fun i hi => si_p (by omega))
    have hl : LawR R (si b 1 7 (dN (b.1 1 7))) := q3.st (Or.inl ⟨rfl, by decide⟩)
    refine JJ.bl (q1.s23.law hR) (JJ.bd (jn_passes hr (by omega) _ hl) ?_)
    rintro ⟨p, x2⟩ ⟨w, y2⟩ ⟨⟨e, -⟩, hR2, hF⟩
    dsimp only at e hR2 hF
    subst e
    refine kk (pb (si a 999 23 (dN (b.1 1 7))) 2000 p, x + x2) (w, x + x2) ⟨rfl, q1.s23.ch Ch.pb, (q2.st (by decide)).fm hF.1, hl.mv hF.1, hR2.ex (eqD.of (fun _ hk => vw_pb hk)), fun i hi => ?_, ?_, ?_⟩
    · rw [hF.1.1 63 (by decide) (by decide) (by decide) (by decide) (by decide) (by decide), si_o (by decide)]
      exact q5 i hi
    · rw [pb_o (by omega), si_a, hF.1.2 7 (by decide), si_a]
    · refine CC.of (o := p) (CC.fx ?_ hF.2) (fun k hk => vw_pb hk)
      rw [hv]; exact q7
  · rintro k k' ⟨a, x⟩ ⟨b, y⟩ ⟨hx, hI⟩
    dsimp only at hx hI
    subst hx
    show JJ (x_summers_92 _ _ _ _ _ _ _ (k + 1) a x (nI n)) (m_summers_98 _ _ _ _ _ _ _ (k' + 1) b x (nI n)) _
    rw [x_summers_92, m_summers_98]
    exact JJ.tl (nI_le (Nat.le_refl _) (by omega)) (JJ.tr (nI_le (Nat.le_refl _) (by omega)) (hK a b x hI))
/-- outside a summer -/
def B3 (mm vv ww : Nat) (R : Option RS) (σx σm : cS) (a b : cS) : Prop := Cs σx a ∧ (Kp σm b ∧ Em σm b) ∧ (∀ i, i < 10 → b.1 63 i = σm.1 2 i) ∧ CC (vw σx 1000) (vw a 2000)
theorem op_summers (h : PL σx rs im σm) (v1 v2 v3 : Int32) : JP rs im (x_summers σx rs v1 v2 v3) (m_summers σm v1 v2 v3) := by
  unfold x_summers m_summers
  rcases q_isStrip h with ⟨h0, hs⟩ | ⟨h1, hs, mm, vv, ww, t, lg, un, hV⟩
  · exact JJ.tl h0 (JJ.br hs (JJ.tr rfl (JJ.ret ⟨rfl, h⟩)))
  have hn := hV.1
  have ht := hV.2.1
  refine JJ.el (by rw [h1]; decide) (JJ.br hs (JJ.er (by decide) (JJ.bl (x_in_eq v1 1 10) (JJ.br (m_in_eq v1 1 10) ?_))))
  rcases ib_e (v := v1) (a := 1) (b := 10) with e | ⟨e, b1, b2⟩
  · exact JJ.tl e (JJ.tr e (JJ.ret ⟨rfl, h⟩))
  obtain ⟨m, hm, rfl⟩ := nI_of (x := v1) (by rw [i_lt]; rw [i_le] at b1; rw [show (1 : Int32).toInt = 1 by decide] at b1; rw [show (0 : Int32).toInt = 0 by decide]; omega)
  have hm1 : m ≤ 10 := (nI_leI (b := 10) hm (by decide)).mp b2
  refine JJ.el (by rw [e]; decide) (JJ.er (by rw [e]; decide) (JJ.bl (x_in_eq v2 1 60) (JJ.br (m_in_eq v2 1 60) ?_)))
  rcases ib_e (v := v2) (a := 1) (b := 60) with e | ⟨e, b1, b2⟩
  · exact JJ.tl e (JJ.tr e (JJ.ret ⟨rfl, h⟩))
  obtain ⟨n, hn', rfl⟩ := nI_of (x := v2) (by rw [i_lt]; rw [i_le] at b1; rw [show (1 : Int32).toInt = 1 by decide] at b1; rw [show (0 : Int32).toInt = 0 by decide]; omega)
  have hn1 : n ≤ 60 := (nI_leI (b := 60) hn' (by decide)).mp b2
  refine JJ.el (by rw [e]; decide) (JJ.er (by rw [e]; decide) (JJ.bl (x_in_eq v3 0 1) (JJ.br (m_in_eq v3 0 1) (JJ.ii Iff.rfl (fun _ _ => JJ.ret ⟨rfl, h⟩) (fun _ _ => ?_)))))
  obtain ⟨R, eR, hR⟩ := h.law
  have hD : σx.1 999 6 = σm.1 1 7 := h.2.2.1.1.1
  refine JJ.gl (by rw [si_p (by decide), h1]; rfl) ?_
  have hC0 : Cs σx (si σx 999 23 (σx.1 999 6)) := Cs.s23 ⟨fun _ _ _ => rfl, fun _ _ => rfl⟩
  refine JJ.or (om_kept σm) (fun b0 ⟨k1, k2, k3⟩ => JJ.or (om_copies (p := 2) (q := 63) (N := 10) rfl rfl (by decide) (by decide)) (fun b1 ⟨c1, c2⟩ => ?_))
  refine JJ.ol (ox_copies (si σx 999 23 (σx.1 999 6)) (b := 2000) (c := 1000) (by decide)) (fun z ⟨z1, z2⟩ => ?_)
  have k63 : ∀ σ' : cS, (∀ k, k ≠ 63 → σ'.1 k = b0.1 k) → Kp σm σ' ∧ Em σm σ' := by
    intro σ' hk
    refine ⟨⟨fun k hk2 i hi => by rw [hk 64 (by decide)]; exact k1.1 k hk2 i hi, fun k hk2 => by rw [hk k (by omega)]; exact k1.2.1 k hk2, fun i hi => by rw [hk 999 (by decide)]; exact k1.2.2.1 i hi, fun i hi => by rw [hk 64 (by decide)]; exact k1.2.2.2 i hi⟩, k2.tr ⟨⟨⟨fun k hk2 _ i _ => by rw [hk k (by intro e; subst e; revert hk2; decide)], by rw [hk 999 (by decide)]⟩, fun i _ => by rw [hk 1 (by decide)]⟩, fun i _ => by rw [hk 999 (by decide)], fun k hk2 => hk k (by omega), fun i _ => by rw [hk 64 (by decide)]⟩⟩
  have hw1000 : ∀ k, k < 1000 → (vw (si σx 999 23 (σx.1 999 6)) 1000).1 k = (vw σx 1000).1 k := fun k _ => si_o (σ := σx) (k := 999) (j := 1000 + k) (by omega)
  have hB0 : B3 mm vv ww R σx σm (pb2 (si σx 999 23 (σx.1 999 6)) 2000 1000 z) b1 := ⟨hC0.ch z1, k63 b1 c1, fun i hi => by rw [c2 i hi, k3 2 (by decide) (by decide) (by decide)], CC.eq (z2.tr (eqD.of hw1000))⟩
  have hfin : ∀ (a b : cS) (x y : Int32), B3 mm vv ww R σx σm a b → JJ (if v3 = 0 then some (a, x) else some (a, y)) (if v3 = 0 then some (si b 1 (ix 7) (σm.1 1 (ix 7)), x) else some (si b 1 (ix 7) (σm.1 1 (ix 7)), y)) (fun a b => a.2 = b.2 ∧ PL a.1 rs im b.1) := by
    intro a b x y hB
    have e7 : si b 1 (ix 7) (σm.1 1 (ix 7)) = b := by
      rw [show ix 7 = 7 from rfl, ← hB.2.1.2.1.2 7 (by omega)]
      exact si_same
    have hP : PL a rs im b := h.mv hB.1.ex hB.2.1.2
    rw [e7]
    exact JJ.ii Iff.rfl (fun _ _ => JJ.ret ⟨rfl, hP⟩) (fun _ _ => JJ.ret ⟨rfl, hP⟩)
  have ed0 : (pb2 (si σx 999 23 (σx.1 999 6)) 2000 1000 z).1 999 23 = σm.1 1 (ix 7) := by
    rw [z1 999 (by omega), si_a]; exact hD
  refine JJ.loop (S := cS × Int32 × Int32) (T := cS × Int32 × Int32 × Int32) (Lx := fun k s i => x_summers_73 rs (nI m) (nI n) v3 (fun σ_33 v_34 v_35 => if v3 = 0 then some (σ_33, v_34) else some (σ_33, v_35)) k s.1 s.2.1 s.2.2 i) (Lm := fun k s i => m_summers_80 (nI m) (nI n) v3 (σm.1 1 (ix 7)) (fun σ_33 v_34 v_35 => if v3 = 0 then some (si σ_33 1 (ix 7) (σm.1 1 (ix 7)), v_34) else some (si σ_33 1 (ix 7) (σm.1 1 (ix 7)), v_35)) k s.1 s.2.1 s.2.2.1 s.2.2.2 i) (I := fun _ s r => s.1.1 999 23 = r.2.1 ∧ s.2.1 = r.2.2.1 ∧ s.2.2 = r.2.2.2 ∧ B3 mm vv ww R σx σm s.1 r.1) (N := m) ?_ ?_ m 0 (by omega) FU FU (FU_gt (by omega)) (FU_gt (by omega)) (_, 0, 0) (b1, σm.1 1 (ix 7), 0, 0) ⟨ed0, rfl, rfl, hB0⟩
  · rintro k k' j ⟨a, x, y⟩ ⟨b, d, x', y'⟩ hj ⟨hd, hx, hy, hB⟩ kk
    dsimp only at hd hx hy hB
    subst hx
    subst hy
    show JJ (x_summers_73 _ _ _ _ _ (k + 1) a x y (nI j)) (m_summers_80 _ _ _ _ _ (k' + 1) b d x y (nI j)) _
    rw [x_summers_73, m_summers_80, nI_1]
    obtain ⟨q1, ⟨q2, q3⟩, q4, q5⟩ := hB
    refine JJ.el (nI_ge hj (by omega)) (JJ.er (nI_ge hj (by omega)) (JJ.gl (by rw [q1.2 0 (by decide), h1]; rfl) ?_))
    refine JJ.ol (ox_standsAs a (b := 2000) (c := 1000) (by decide)) (fun z ⟨z1, z2⟩ => ?_)
    have ha1 : ∀ k, k < 1000 → (vw a 1000).1 k = (vw σx 1000).1 k := fun k hk => q1.1 (1000 + k) (by omega) (by omega)
    have hr1 : Rn mm vv ww t t (vw a 1000) b := (hn.em q3.ev).ex (eqD.of ha1)
    have hcc : CC (vw a 1000) (vw a 2000) := CC.sw (CC.eq (eqD.of ha1)) q5
    have hr2 : Rn mm vv ww t t (vw (pb2 a 2000 1000 z) 2000) b := hr1.sta hcc z2
    have hW : W3 mm vv ww R σx σm t (pb2 a 2000 1000 z) (si b 1 (ix 7) d) := ⟨q1.ch z1, q2.st (by decide), (hR.em q3).st (Or.inl ⟨rfl, by decide⟩), hr2.gen (fun _ _ _ _ => rfl) (fun _ _ _ _ => rfl) (fun k k1 _ => si_o (by omega)) (fun i hi => si_p (by rw [show ix 7 = 7 from rfl]; omega)), fun i hi => by rw [si_o (by decide)]; exact q4 i hi, by rw [z1 999 (by omega), hd]; exact (si_a (σ := b) (k := 1) (i := 7)).symm, q5.sta z2⟩
    refine js_nights hW eR (by omega) x (fun a2 b2 g hW2 => ?_)
    refine js_feet hW2 h1 hn y (fun g2 => ?_)
    obtain ⟨w1, w2, w3, w4, w5, w6, w7⟩ := hW2
    refine JJ.or w2.back2 (fun b3 ⟨⟨e1, e2⟩, e3⟩ => ?_)
    exact kk (a2, g, g2) (b3, b2.1 1 (ix 7), g, g2) ⟨w6, rfl, rfl, w1, ⟨e2, e1⟩, fun i hi => by rw [e3 63 (by decide) (by decide) (by decide)]; exact w5 i hi, w7⟩
  · rintro k k' ⟨a, x, y⟩ ⟨b, d, x', y'⟩ ⟨hd, hx, hy, hB⟩
    dsimp only at hd hx hy hB
    subst hx
    subst hy
    show JJ (x_summers_73 _ _ _ _ _ (k + 1) a x y (nI m)) (m_summers_80 _ _ _ _ _ (k' + 1) b d x y (nI m)) _
    rw [x_summers_73, m_summers_80]
    exact JJ.tl (nI_le (Nat.le_refl _) (by omega)) (JJ.tr (nI_le (Nat.le_refl _) (by omega)) (hfin a b x y hB))
end SU
