/-! PURE LAW: what would be: ahead, crosses -/
set_option maxRecDepth 100000
theorem JJ.loop2 {α β S T : Type} {Lx : Nat → S → Int32 → Option α} {Lm : Nat → T → Int32 → Option β} {I : Nat → S → T → Prop} {N : Nat} {P : α → β → Prop}
    (step : ∀ n n' j s t, 0 < n → 0 < n' → j < N → I j s t → (∀ s' t', I (j + 1) s' t' → JJ (Lx n s' (nI (j + 1))) (Lm n' t' (nI (j + 1))) P) → JJ (Lx (n + 1) s (nI j)) (Lm (n' + 1) t (nI j)) P)
    (stop : ∀ n n' s t, I N s t → JJ (Lx (n + 1) s (nI N)) (Lm (n' + 1) t (nI N)) P) :
    ∀ d j, j + d = N → ∀ n n', d < n → d < n' → ∀ s t, I j s t → JJ (Lx n s (nI j)) (Lm n' t (nI j)) P := by
  intro d
  induction d with
  | zero =>
    intro j hj n n' h1 h2 s t hI
    obtain ⟨n, rfl⟩ : ∃ k, n = k + 1 := ⟨n - 1, by omega⟩
    obtain ⟨n', rfl⟩ : ∃ k, n' = k + 1 := ⟨n' - 1, by omega⟩
    have : j = N := by omega
    subst this
    exact stop n n' s t hI
  | succ d ih =>
    intro j hj n n' h1 h2 s t hI
    obtain ⟨n, rfl⟩ : ∃ k, n = k + 1 := ⟨n - 1, by omega⟩
    obtain ⟨n', rfl⟩ : ∃ k, n' = k + 1 := ⟨n' - 1, by omega⟩
    exact step n n' j s t (by omega) (by omega) (by omega) hI (fun s' t' h => ih (j + 1) (by omega) n n' (by omega) (by omega) s' t' h)
/-- b is a working state of the model's, whose rows of before (σ's) lie in the fifth image -/
def Kp (σ b : cS) : Prop := (∀ k ∈ imB, ∀ i, i < (mK k).2 → b.1 64 (4400 + offI k + i) = σ.1 k i) ∧ (∀ k, (5 ≤ k ∧ k ≤ 8) ∨ (10 ≤ k ∧ k ≤ 16) ∨ k = 49 ∨ (37 ≤ k ∧ k ≤ 43) ∨ k = 65 → b.1 k = σ.1 k) ∧ (∀ i, i = 27 ∨ i = 31 ∨ i = 36 ∨ i = 51 → b.1 999 i = σ.1 999 i) ∧ ∀ i, i < 4400 → b.1 64 i = σ.1 64 i
section KP
variable {σx σm σx' σm' : cS} {rs : List RS} {im : IM} {mm vv ww t u lg un un' : Nat} {δ σ δ' σ' z w a b c : cS} {R : Option RS}
theorem Kp.fm (h : Kp σ a) (hF : Fm a b) : Kp σ b := by
  obtain ⟨h1, h2, h3, h4⟩ := h
  have e : ∀ k, k ≠ 1 → k ≠ 2 → k ≠ 3 → k ≠ 9 → k ≠ 47 → k ≠ 48 → b.1 k = a.1 k := hF.1
  exact ⟨fun k hk i hi => by rw [e 64 (by decide) (by decide) (by decide) (by decide) (by decide) (by decide)]; exact h1 k hk i hi, fun k hk => (e k (by omega) (by omega) (by omega) (by omega) (by omega) (by omega)).trans (h2 k hk), fun i hi => by rw [e 999 (by decide) (by decide) (by decide) (by decide) (by decide) (by decide)]; exact h3 i hi, fun i hi => by rw [e 64 (by decide) (by decide) (by decide) (by decide) (by decide) (by decide)]; exact h4 i hi⟩
theorem Kp.st {k i : Nat} {v : Int32} (h : Kp σ a) (hk : k ≠ 64 ∧ ¬ ((5 ≤ k ∧ k ≤ 8) ∨ (10 ≤ k ∧ k ≤ 16) ∨ k = 49 ∨ (37 ≤ k ∧ k ≤ 43) ∨ k = 65) ∧ (k = 999 → i ≠ 27 ∧ i ≠ 31 ∧ i ≠ 36 ∧ i ≠ 51)) : Kp σ (si a k i v) := by
  obtain ⟨h1, h2, h3, h4⟩ := h
  refine ⟨fun j hj i hi => by rw [si_o (by omega)]; exact h1 j hj i hi, fun j hj => by rw [si_o (by omega)]; exact h2 j hj, fun j hj => ?_, fun j hj => by rw [si_o (by omega)]; exact h4 j hj⟩
  by_cases e : k = 999
  · subst e
    rw [si_p (by have := hk.2.2 rfl; omega)]; exact h3 j hj
  · rw [si_o (fun q => e q.symm)]; exact h3 j hj
theorem imB_in : ∀ k ∈ imB, k ∈ imA ∧ (k = 1 ∨ k = 2 ∨ k = 3 ∨ k = 4 ∨ k = 9) := by decide
theorem imA_in : ∀ k ∈ imA, k ∈ imB ∨ (5 ≤ k ∧ k ≤ 8) ∨ (10 ≤ k ∧ k ≤ 16) ∨ k = 49 ∨ k = 50 := by decide
theorem Kp.back (h : Kp σ a) : OO (m_laysBack a) (fun b => Em σ b ∧ Kp σ b) := by
  obtain ⟨h1, h2, h3, h4⟩ := h
  refine OO.mono (om_lays a) (fun b ⟨g1, g2, g3, g4, g5, g6⟩ => ?_)
  have e : ∀ k, k ∉ imB → k ≠ 50 → k ≠ 999 → b.1 k = a.1 k := g5
  have r : ∀ k ∈ imB, ∀ i, i < (mK k).2 → b.1 k i = σ.1 k i := by
    intro k hk i hi
    have q := g6 k hk i hi
    unfold rdI at q
    rw [if_neg (by have := (imB_in k hk).2; omega)] at q
    rw [q]; exact h1 k hk i hi
  have n9 : ∀ i, i = 27 ∨ i = 31 ∨ i = 36 ∨ i = 51 → b.1 999 i = σ.1 999 i := by
    intro i hi
    rw [← h3 i hi]
    by_cases q : i = 51
    · subst q; exact g4 (by decide)
    · exact g3 i (by omega) (by omega) q
  have e64 : b.1 64 = a.1 64 := e 64 (by decide) (by decide) (by decide)
  have nb : ∀ k, (5 ≤ k ∧ k ≤ 8) ∨ (10 ≤ k ∧ k ≤ 16) ∨ k = 49 ∨ (37 ≤ k ∧ k ≤ 43) ∨ k = 65 → b.1 k = σ.1 k := by
    intro k hk
    rw [e k (fun q => by have := (imB_in k q).2; omega) (by omega) (by omega)]
    exact h2 k hk
  refine ⟨⟨⟨⟨fun k hk h50 i hi => ?_, n9 51 (by omega)⟩, fun i hi => r 1 (by decide) i (by show i < 9; omega)⟩, fun i hi => n9 i (by omega), fun k hk => nb k (by omega), fun i hi => by rw [e64]; exact h4 i hi⟩, fun k hk i hi => by rw [e64]; exact h1 k hk i hi, nb, n9, fun i hi => by rw [e64]; exact h4 i hi⟩
  rcases imA_in k hk with q | q
  · exact r k q i (Nat.lt_of_lt_of_le hi (szV_le k))
  · rw [nb k (by omega)]
theorem om_kept (σ : cS) : OO (m_keepsAll σ) (fun a => Kp σ a ∧ Em σ a ∧ ∀ k, k ≠ 64 → k ≠ 999 → k ≠ 50 → a.1 k = σ.1 k) := by
  refine OO.mono (om_keeps σ) (fun a ⟨f1, f2, f3, f4, f5, f6⟩ => ?_)
  refine ⟨⟨fun k hk i hi => ?_, fun k hk => f4 k (by omega) (by omega) (by omega), fun i hi => f3 i (by omega) (by omega), fun i hi => f6 i (by omega)⟩, ⟨⟨⟨fun k hk h50 i hi => ?_, f3 51 (by decide) (by decide)⟩, fun i _ => by rw [f4 1 (by decide) (by decide) (by decide)]⟩, fun i hi => f3 i (by omega) (by omega), fun k hk => f4 k (by omega) (by omega) (by omega), fun i hi => f6 i (by omega)⟩, f4⟩
  · rw [f5 k hk i hi]
    unfold rdI
    rw [if_neg (by have := (imB_in k hk).2; omega)]
  · rw [f4 k (by intro e; subst e; revert hk; decide) (by intro e; subst e; revert hk; decide) h50]
theorem LawR.em (h : LawR R σ) (e : Em σ σ') : LawR R σ' := by
  rcases h with ⟨h1, h2⟩ | ⟨r, RR, h1, h2, h3, h4⟩
  · exact Or.inl ⟨h1, (e.1.2 8 (by omega)).trans h2⟩
  · exact Or.inr ⟨r, RR, h1, h2, (e.1.2 8 (by omega)).trans h3, h4.mv (Sl.of (fun k a b => e.2.2.1 k (by omega)))⟩
theorem LawR.st {k i : Nat} {v : Int32} (h : LawR R σ) (hk : (k = 1 ∧ i ≠ 8) ∨ (k ≠ 1 ∧ ¬ (38 ≤ k ∧ k ≤ 43))) : LawR R (si σ k i v) := by
  have e8 : (si σ k i v).1 1 8 = σ.1 1 8 := by
    by_cases e : k = 1
    · subst e; exact si_p (by omega)
    · rw [si_o (by omega)]
  rcases h with ⟨h1, h2⟩ | ⟨r, RR, h1, h2, h3, h4⟩
  · exact Or.inl ⟨h1, e8.trans h2⟩
  · exact Or.inr ⟨r, RR, h1, h2, e8.trans h3, h4.mv (Sl.of (fun j a b => si_o (by omega)))⟩
theorem Em.ev (h : Em σ σ') : ∀ k, 1 ≤ k → k ≤ 11 → ∀ i, i < szV k → σ'.1 k i = σ.1 k i := fun k h1 h2 i hi => h.1.1.1 k (by unfold imA; simp only [List.mem_cons, List.not_mem_nil, or_false]; omega) (by omega) i hi
/-- chunk c of the class at work against the model, from σx, σm on -/
def W2 (c mm vv ww : Nat) (R : Option RS) (σx σm : cS) (t : Nat) (a b : cS) : Prop := Ch c σx a ∧ Kp σm b ∧ LawR R b ∧ Rn mm vv ww t t (vw a c) b
theorem W2.law {c : Nat} (h : W2 c mm vv ww R σx σm t a b) (hc : 1000 ≤ c) (hR : x_law σx rs = some R) : x_law a rs = some R := by
  rw [law_eq (a := σx) (by rw [h.1 999 (by omega)])]; exact hR
/-- a copy of what stands is made -/
theorem jw_copy {c : Nat} (h : Rn mm vv ww t t (vw σx 1000) b) (hK : Kp σm b) (hL : LawR R b) (hc : 2000 ≤ c) : OO (d_copies (vw2 σx c 1000)) (fun z => W2 c mm vv ww R σx σm t (pb2 σx c 1000 z) b) := OO.mono (ox_copies σx (by omega)) (fun _ ⟨q1, q2⟩ => ⟨q1, hK, hL, h.ex q2⟩)
theorem jw_goes {c : Nat} (h : W2 c mm vv ww R σx σm t a b) (ht : t + 1 < 1000000) : JJ (d_goes (vw a c) R) (m_goesNight b) (fun p q => (p.2 = q.2 ∧ ∃ c, c ≤ 8 ∧ p.2 = nI c) ∧ W2 c mm vv ww R σx σm (t + 1) (pb a c p.1) q.1 ∧ Fm b q.1) := by
  obtain ⟨h1, h2, h3, h4⟩ := h
  refine JJ.mono (jn_goes h4 ht h3) (fun p q ⟨e, hR, hF⟩ => ⟨e, ⟨h1.tr Ch.pb, h2.fm hF.1, h3.mv hF.1, hR.ex (eqD.of (fun _ hk => vw_pb hk))⟩, hF.1⟩)
theorem x_ahead_k {v1 v2 v3 : Int32} {ρ : Type} {K : cS → Option ρ} : ∀ n s i, x_ahead_51 rs v1 v2 v3 K n s i = (x_ahead_51 rs v1 v2 v3 (fun s => some s) n s i).bind K := by
  intro n
  induction n with
  | zero => intros; rfl
  | succ n ih =>
    intro s i
    rw [x_ahead_51, x_ahead_51]
    split
    · rfl
    · rw [Option.bind_assoc]
      congr 1
      funext R
      rw [Option.bind_assoc]
      congr 1
      funext p
      exact ih _ _
theorem jw_many {v1 v3 : Int32} {n : Nat} (h : W2 2000 mm vv ww R σx σm t a b) (hR : x_law σx rs = some R) (ht : t + n + 1 < 1000000) : JJ (x_ahead_51 rs v1 (nI n) v3 (fun s => some s) FU a 0) (m_goes b (nI n)) (fun p q => W2 2000 mm vv ww R σx σm (t + n) p q.1) := by
  unfold m_goes
  refine JJ.loop (S := cS) (T := cS × Int32) (Lx := fun k s i => x_ahead_51 rs v1 (nI n) v3 (fun s => some s) k s i) (Lm := fun k s i => m_goes_4 (nI n) (fun s v => some (s, v)) k s.1 s.2 i) (I := fun j a b => W2 2000 mm vv ww R σx σm (t + j) a b.1) (N := n) ?_ ?_ n 0 (by omega) FU FU (FU_gt (by omega)) (FU_gt (by omega)) a (b, 0) h
  · rintro k k' j a ⟨b, c⟩ hj hI kk
    show JJ (x_ahead_51 _ _ _ _ _ (k + 1) a (nI j)) (m_goes_4 _ _ (k' + 1) b c (nI j)) _
    rw [x_ahead_51, m_goes_4, nI_1]
    refine JJ.el (nI_ge hj (by omega)) (JJ.er (nI_ge hj (by omega)) (JJ.bl (hI.law (by decide) hR) (JJ.bd (jw_goes hI (by omega)) ?_)))
    rintro ⟨p, x⟩ ⟨q, y⟩ ⟨e, hW, -⟩
    exact kk _ (q, c + y) hW
  · rintro k k' a ⟨b, c⟩ hI
    show JJ (x_ahead_51 _ _ _ _ _ (k + 1) a (nI n)) (m_goes_4 _ _ (k' + 1) b c (nI n)) _
    rw [x_ahead_51, m_goes_4]
    exact JJ.tl (nI_le (Nat.le_refl _) (by omega)) (JJ.tr (nI_le (Nat.le_refl _) (by omega)) (JJ.ret hI))
theorem jn_easts (h : Rn mm vv ww t u δ σ) : ∃ r, d_easts δ = some r ∧ m_villagesOn σ 1 = some r := by
  have h8 := h.v8
  have key : JJ (d_easts δ) (m_villagesOn σ 1) (fun a b => a = b) := by
    unfold d_easts m_villagesOn
    refine JJ.loop (S := Int32) (T := Int32) (Lx := fun n s i => d_easts_4 δ (fun v => some v) n s i) (Lm := fun n s i => m_villagesOn_4 σ 1 (fun v => some v) n s i) (I := fun _ a b => a = b) (N := vv) ?_ ?_ vv 0 (by omega) FU FU (FU_gt (by omega)) (FU_gt (by omega)) 0 0 rfl
    · intro n n' j a b hj hI k
      subst hI
      show JJ (d_easts_4 δ _ (n + 1) a (nI j)) (m_villagesOn_4 σ _ _ (n' + 1) a (nI j)) _
      rw [d_easts_4, m_villagesOn_4]
      obtain ⟨s, e1, e2⟩ := h.side hj
      refine JJ.el (by rw [h.dv]; exact nI_ge hj (by omega)) (JJ.er (by rw [h.mv']; exact nI_ge hj (by omega)) (JJ.bl e1 (JJ.br e2 ?_)))
      rw [nI_1]
      exact JJ.ii Iff.rfl (fun _ _ => k _ _ rfl) (fun _ _ => k _ _ rfl)
    · intro n n' a b hI
      show JJ (d_easts_4 δ _ (n + 1) a (nI vv)) (m_villagesOn_4 σ _ _ (n' + 1) b (nI vv)) _
      rw [d_easts_4, m_villagesOn_4]
      exact JJ.tl (by rw [h.dv]; exact nI_le (Nat.le_refl _) (by omega)) (JJ.tr (by rw [h.mv']; exact nI_le (Nat.le_refl _) (by omega)) (JJ.ret hI))
  obtain ⟨a, b, h1, h2, rfl⟩ := key
  exact ⟨a, h1, h2⟩
/-- the end of a trial: all is laid back -/
theorem jw_end {x : Int32} (h : PL σx rs im σm) (hx : Ex σx a) (hK : Kp σm b) : JJ (some (a, x)) ((m_laysBack b).bind fun s => some (s, x)) (fun a b => a.2 = b.2 ∧ PL a.1 rs im b.1) := by
  obtain ⟨s, hs, hE, -⟩ := hK.back
  exact ⟨(a, x), (s, x), rfl, by rw [hs]; rfl, rfl, h.mv hx hE⟩
theorem op_ahead (h : PL σx rs im σm) (v1 v2 v3 : Int32) : JP rs im (x_ahead σx rs v1 v2 v3) (m_ahead σm v1 v2 v3) := by
  obtain ⟨r, e1, e2, hr⟩ := q_isMile h v1
  unfold x_ahead m_ahead
  refine JJ.bl e1 (JJ.br e2 ?_)
  rcases hr with rfl | ⟨rfl, h1, mm, vv, ww, t, lg, un, j, hV, hj, rfl⟩
  · exact JJ.tl rfl (JJ.tr rfl (JJ.ret ⟨rfl, h⟩))
  refine JJ.el (by decide) (JJ.er (by decide) (JJ.bl (x_in_eq v2 0 100) (JJ.br (m_in_eq v2 0 100) ?_)))
  rcases ib_e (v := v2) (a := 0) (b := 100) with e | ⟨e, b1, b2⟩
  · exact JJ.tl e (JJ.tr e (JJ.ret ⟨rfl, h⟩))
  obtain ⟨n, hn, rfl⟩ := nI_of ((n_le _ _).mpr b1)
  have hn1 : n ≤ 100 := (nI_leI (b := 100) hn (by decide)).mp b2
  refine JJ.el (by rw [e]; decide) (JJ.er (by rw [e]; decide) (JJ.bl (x_in_eq v3 0 2) (JJ.br (m_in_eq v3 0 2) (JJ.ii Iff.rfl (fun _ _ => JJ.ret ⟨rfl, h⟩) (fun _ _ => JJ.gl (nz_1 h1) ?_)))))
  obtain ⟨R, eR, hR⟩ := h.law
  have h10 := hV.1.m10
  have ht := hV.2.1
  refine JJ.or (om_kept σm) (fun b0 ⟨k1, k2, k3⟩ => ?_)
  have hn0 : Rn mm vv ww t t (vw σx 1000) b0 := hV.1.em k2.ev
  refine JJ.ol (jw_copy hn0 k1 (hR.em k2) (c := 2000) (by decide)) (fun z hW => ?_)
  rw [x_ahead_k]
  refine JJ.bd (jw_many hW eR (by omega)) ?_
  rintro a ⟨b, y⟩ hE
  have hX : Ex σx a := Ex.ch hE.1 (by decide)
  have hr := hE.2.2.2
  refine JJ.ii Iff.rfl (fun _ _ => JJ.gl (inbn (by omega) (by decide)) (JJ.gr (inbn (by omega) (by decide)) ?_)) (fun _ _ => JJ.ii Iff.rfl (fun _ _ => JJ.gl (inbn (by omega) (by decide)) (JJ.gr (inbn (by omega) (by decide)) ?_)) (fun _ _ => ?_))
  · rw [ixn (by omega), show a.1 2016 j = b.1 2 j from hr.ln (by omega)]
    exact jw_end h hX hE.2.1
  · rw [ixn (by omega), show a.1 2017 j = b.1 3 j from hr.dg (by omega)]
    exact jw_end h hX hE.2.1
  · obtain ⟨q, f1, f2⟩ := jn_easts hr
    exact JJ.bl f1 (JJ.br f2 (jw_end h hX hE.2.1))
theorem op_crosses (h : PL σx rs im σm) (v : Int32) : JP rs im (x_crosses σx rs v) (m_crosses σm v) := by
  obtain ⟨r, e1, e2, hr⟩ := q_isVillage h v
  unfold x_crosses m_crosses
  refine JJ.bl e1 (JJ.br e2 ?_)
  rcases hr with rfl | ⟨rfl, h1, mm, vv, ww, t, lg, un, j, hV, hj, rfl⟩
  · exact JJ.tl rfl (JJ.tr rfl (JJ.ret ⟨rfl, h⟩))
  have hz := nz_1 h1
  refine JJ.el (by decide) (JJ.er (by decide) (JJ.gl hz ?_))
  obtain ⟨R, eR, hR⟩ := h.law
  have h8 := hV.1.v8
  have ht := hV.2.1
  refine JJ.or (om_kept σm) (fun b0 ⟨k1, k2, k3⟩ => JJ.gr (inbn (by omega) (by decide)) ?_)
  have hn0 : Rn mm vv ww t t (vw σx 1000) b0 := hV.1.em k2.ev
  refine JJ.ol (jw_copy hn0 k1 (hR.em k2) (c := 2000) (by decide)) (fun z hW => ?_)
  rw [ixn (by omega)]
  have hcr : σx.1 1019 j = b0.1 9 j := hn0.cr (by omega)
  have hnow : σx.1 1999 8 = nI t := hV.1.dt
  refine JJ.loop2 (S := cS) (T := cS × Int32) (Lx := fun k s i => x_crosses_24 rs (nI j) _ k s i) (Lm := fun k s i => m_crosses_27 (nI j) (b0.1 9 j) _ k s.1 s.2 i) (I := fun k a b => b.2 = -2 ∧ W2 2000 mm vv ww R σx σm (t + k) a b.1) (N := 60) ?_ ?_ 60 0 (by decide) FU FU (FU_gt (by decide)) (FU_gt (by decide)) _ (b0, -2) ⟨rfl, hW⟩
  · rintro k k' i a ⟨b, c⟩ - hk0 hi ⟨hc, hI⟩ kk
    dsimp only at hc hI
    subst hc
    show JJ (x_crosses_24 _ _ _ (k + 1) a (nI i)) (m_crosses_27 _ _ _ (k' + 1) b (-2) (nI i)) _
    rw [x_crosses_24, m_crosses_27, nI_1]
    refine JJ.el (nI_ge (a := i) (b := 60) hi (by decide)) (JJ.er (nI_ge (a := i) (b := 60) hi (by decide)) (JJ.tr rfl (JJ.bl (hI.law (by decide) eR) (JJ.bd (jw_goes hI (by omega)) ?_))))
    rintro ⟨p, x⟩ ⟨q, y⟩ ⟨e, hW', -⟩
    have hr := hW'.2.2.2
    have hCh := hW'.1
    have hz' : nz ((pb a 2000 p).1 999 0) = true := by rw [hCh 999 (by omega)]; exact hz
    refine JJ.gl (inbn (by omega) (by decide)) (JJ.gr (inbn (by omega) (by decide)) (JJ.gl hz' ?_))
    rw [ixn (by omega), show (pb a 2000 p).1 2019 j = q.1 9 j from hr.cr (by omega), hCh 1019 (by omega), hcr]
    refine JJ.ii Iff.rfl (fun _ _ => kk _ (q, -2) ⟨rfl, hW'⟩) (fun _ _ => ?_)
    have hq5 : q.1 1 (ix 5) - 1 = nI (t + i) := by
      rw [show q.1 1 (ix 5) = nI (t + i + 1) from hr.mt, nI_pred]
    rw [hq5]
    obtain ⟨k2', rfl⟩ : ∃ k2, k' = k2 + 1 := ⟨k' - 1, by omega⟩
    · refine JJ.gl hz' ?_
      have hfin : m_crosses_27 (nI j) (b0.1 9 j) (fun σ_14 v_15 => (m_laysBack σ_14).bind fun σ_17 => some (σ_17, v_15)) (k2' + 1) q (nI (t + i)) (nI (i + 1)) = (m_laysBack q).bind fun σ_17 => some (σ_17, nI (t + i)) := by
        rw [m_crosses_27]
        split
        · rfl
        · rw [if_neg]
          intro e2
          have := congrArg Int32.toInt e2
          rw [nI_toInt (by omega), show (-2 : Int32).toInt = -2 by decide] at this
          omega
      rw [hfin]
      have : (pb a 2000 p).1 1999 8 + nI i = nI (t + i) := by rw [hCh 1999 (by omega), hnow, nI_add]
      rw [this]
      exact jw_end h (Ex.ch hCh (by decide)) hW'.2.1
  · rintro k k' a ⟨b, c⟩ ⟨hc, hI⟩
    dsimp only at hc hI
    subst hc
    show JJ (x_crosses_24 _ _ _ (k + 1) a (nI 60)) (m_crosses_27 _ _ _ (k' + 1) b (-2) (nI 60)) _
    rw [x_crosses_24, m_crosses_27]
    exact JJ.tl (nI_le (a := 60) (Nat.le_refl _) (by decide)) (JJ.tr (nI_le (a := 60) (Nat.le_refl _) (by decide)) (jw_end h (Ex.ch hI.1 (by decide)) hI.2.1))
end KP
