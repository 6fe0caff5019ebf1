/-! PURE LAW: dukes, the model's side -/
set_option maxRecDepth 100000
section DM
variable {σx σm σx' σm' : cS} {rs : List RS} {im : IM} {cz mm vv ww t u lg un un' O n : Nat} {δ σ δ' σ' z w a b c β β0 β' : cS} {R : Option RS} {B : Int32}
theorem si_si {σ : cS} {k i : Nat} {v w : Int32} : si (si σ k i v) k i w = si σ k i w := by
  refine Prod.ext (funext fun j => ?_) rfl
  by_cases e : j = k
  · subst e
    rw [si_s, si_s, si_s]
    funext q
    unfold upd
    split <;> rfl
  · rw [si_o e, si_o e, si_o e]
theorem Rm.em0 (h : Rm 0 mm vv ww t u δ σ) (e : ∀ b, 1 ≤ b → b ≤ 11 → b ≠ 9 → ∀ i, i < szV b → σ'.1 b i = σ.1 b i) : Rm 0 mm vv ww t u δ σ' := by
  have h2 : Rm 0 mm vv ww t u δ (fun b => if b = 9 then σ.1 9 else σ'.1 b, σ.2) := h.em (fun b h1 h2 i hi => by
    show (if b = 9 then σ.1 9 else σ'.1 b) i = _
    by_cases q : b = 9
    · rw [if_pos q, q]
    · rw [if_neg q]; exact e b h1 h2 q i hi)
  obtain ⟨⟨a1, a2, a3, a4, a5, a6, a7⟩, b1, ⟨c1, -⟩, d1, e1, f1⟩ := h2
  exact ⟨⟨a1, a2, a3, a4, a5, a6, a7⟩, b1, ⟨c1, fun v hv => absurd hv (Nat.not_lt_zero v)⟩, d1, e1, f1⟩
/-- a working state of the model's in the dukes' game -/
def Kd (R : Option RS) (σm σ : cS) : Prop := Kp σm σ ∧ LawR R σ ∧ (∀ i, i < 10 → σ.1 4 i = σm.1 4 i) ∧ ∀ i, i < 7 → i ≠ 5 → σ.1 1 i = σm.1 1 i
theorem Kd.fm (h : Kd R σm a) (hF : Fm a b) : Kd R σm b := ⟨h.1.fm hF, h.2.1.mv hF, fun i hi => by rw [hF.1 4 (by decide) (by decide) (by decide) (by decide) (by decide) (by decide)]; exact h.2.2.1 i hi, fun i hi h5 => (hF.2 i h5).trans (h.2.2.2 i hi h5)⟩
theorem Kd.st {k i : Nat} {v : Int32} (h : Kd R σm a) (hk : (54 ≤ k ∧ k ≤ 63) ∨ k = 2 ∨ k = 3 ∨ (k = 1 ∧ i = 5) ∨ (k = 999 ∧ i = 59)) : Kd R σm (si a k i v) := by
  refine ⟨h.1.st ⟨by omega, by omega, by omega⟩, h.2.1.st (by omega), fun j hj => by rw [si_o (by omega)]; exact h.2.2.1 j hj, fun j hj h5 => ?_⟩
  by_cases e : k = 1
  · subst e
    rw [si_p (by omega)]; exact h.2.2.2 j hj h5
  · rw [si_o (fun q => e q.symm)]; exact h.2.2.2 j hj h5
def rowK (σ : cS) (j : Nat) (β : cS) : Prop := (∀ i, i < 10 → σ.1 56 (21 * j + i) = β.1 2 i ∧ σ.1 56 (21 * j + 10 + i) = β.1 3 i) ∧ σ.1 56 (21 * j + 20) = β.1 1 5
theorem rowK.of {j : Nat} (h : rowK σ j β) (e : ∀ q, 21 * j ≤ q → q < 21 * j + 21 → σ'.1 56 q = σ.1 56 q) : rowK σ' j β := ⟨fun i hi => by rw [e _ (by omega) (by omega), e _ (by omega) (by omega)]; exact h.1 i hi, by rw [e _ (by omega) (by omega)]; exact h.2⟩
theorem at21 {j i : Nat} : (21 : Int32) * nI j + nI i = nI (21 * j + i) := by rw [show (21 : Int32) = nI 21 from rfl, pk_mul, nI_add]
theorem at21b {j i : Nat} : (21 : Int32) * nI j + 10 + nI i = nI (21 * j + 10 + i) := by rw [show (21 : Int32) = nI 21 from rfl, show (10 : Int32) = nI 10 from rfl, pk_mul, nI_add, nI_add]
theorem om_dsave (σ : cS) {j : Nat} (hj : j < 4) : OO (m_movesDuke σ (nI j) 0) (fun b => (∀ k, k ≠ 56 → b.1 k = σ.1 k) ∧ rowK b j σ ∧ ∀ q, ¬ (21 * j ≤ q ∧ q < 21 * j + 21) → b.1 56 q = σ.1 56 q) := by
  unfold m_movesDuke
  refine OO.loop (L := fun n s i => m_movesDuke_8 0 (21 * nI j) _ n s i) (I := fun i b => (∀ k, k ≠ 56 → b.1 k = σ.1 k) ∧ (∀ q, q < i → b.1 56 (21 * j + q) = σ.1 2 q ∧ b.1 56 (21 * j + 10 + q) = σ.1 3 q) ∧ ∀ q, ¬ (21 * j ≤ q ∧ q < 21 * j + 21) → b.1 56 q = σ.1 56 q) (N := 10) ?_ ?_ 10 0 (by decide) FU (FU_gt (by decide)) σ ⟨fun _ _ => rfl, fun q hq => absurd hq (by omega), fun _ _ => rfl⟩
  · intro n i b hi ⟨q1, q2, q3⟩ kk
    show OO (m_movesDuke_8 0 _ _ (n + 1) b (nI i)) _
    rw [m_movesDuke_8, at21, at21b, nI_1, ixn (by omega), ixn (by omega), ixn (by omega)]
    refine OO.e (nI_ge (a := i) (b := 10) hi (by decide)) (OO.t rfl (OO.g (inbn hi (by decide)) (OO.g (inbn (by omega) (by decide)) (OO.n (OO.g (inbn (by omega) (by decide)) ?_)))))
    rw [si_o (by decide : 3 ≠ 56)]
    refine kk _ ⟨fun k hk => by rw [si_o hk, si_o hk]; exact q1 k hk, fun q hq => ?_, fun q hq => ?_⟩
    · by_cases e : q = i
      · subst e
        rw [si_p (by omega), si_a, si_a, q1 2 (by decide), q1 3 (by decide)]
        exact ⟨rfl, rfl⟩
      · rw [si_p (by omega), si_p (by omega), si_p (by omega), si_p (by omega)]
        exact q2 q (by omega)
    · rw [si_p (by omega), si_p (by omega)]; exact q3 q hq
  · intro n b ⟨q1, q2, q3⟩
    show OO (m_movesDuke_8 0 _ _ (n + 1) b (nI 10)) _
    rw [m_movesDuke_8]
    have e20 : (21 : Int32) * nI j + 20 = nI (21 * j + 20) := at21
    refine OO.t (nI_le (a := 10) (Nat.le_refl _) (by decide)) (OO.t rfl ?_)
    rw [e20, ixn (by omega)]
    refine OO.g (inbn (by omega) (by decide)) (OO.ret ⟨fun k hk => by rw [si_o hk]; exact q1 k hk, ⟨fun i hi => ?_, ?_⟩, fun q hq => ?_⟩)
    · rw [si_p (by omega), si_p (by omega)]; exact q2 i hi
    · rw [si_a, q1 1 (by decide)]; rfl
    · rw [si_p (by omega)]; exact q3 q hq
theorem om_dback (σ : cS) {j : Nat} (hj : j < 4) (h : rowK σ j β) : OO (m_movesDuke σ (nI j) 1) (fun b => (∀ k, k ≠ 1 → k ≠ 2 → k ≠ 3 → b.1 k = σ.1 k) ∧ (∀ i, i ≠ 5 → b.1 1 i = σ.1 1 i) ∧ b.1 1 5 = β.1 1 5 ∧ ∀ i, i < 10 → b.1 2 i = β.1 2 i ∧ b.1 3 i = β.1 3 i) := by
  unfold m_movesDuke
  refine OO.loop (L := fun n s i => m_movesDuke_8 1 (21 * nI j) _ n s i) (I := fun i b => (∀ k, k ≠ 2 → k ≠ 3 → b.1 k = σ.1 k) ∧ ∀ q, q < i → b.1 2 q = β.1 2 q ∧ b.1 3 q = β.1 3 q) (N := 10) ?_ ?_ 10 0 (by decide) FU (FU_gt (by decide)) σ ⟨fun _ _ _ => rfl, fun q hq => absurd hq (by omega)⟩
  · intro n i b hi ⟨q1, q2⟩ kk
    show OO (m_movesDuke_8 1 _ _ (n + 1) b (nI i)) _
    rw [m_movesDuke_8, at21, at21b, nI_1, ixn (by omega), ixn (by omega), ixn (by omega)]
    refine OO.e (nI_ge (a := i) (b := 10) hi (by decide)) (OO.e (by decide) (OO.g (inbn (by omega) (by decide)) (OO.g (inbn hi (by decide)) (OO.g (inbn (by omega) (by decide)) (OO.n ?_)))))
    rw [si_o (by decide : 56 ≠ 2), q1 56 (by decide) (by decide), (h.1 i hi).1, (h.1 i hi).2]
    refine kk _ ⟨fun k h2 h3 => by rw [si_o h3, si_o h2]; exact q1 k h2 h3, fun q hq => ?_⟩
    rw [si_o (by decide : 2 ≠ 3)]
    by_cases e : q = i
    · subst e
      rw [si_a, si_a]
      exact ⟨rfl, rfl⟩
    · rw [si_p e, si_p e, si_o (by decide : 3 ≠ 2)]
      exact q2 q (by omega)
  · intro n b ⟨q1, q2⟩
    show OO (m_movesDuke_8 1 _ _ (n + 1) b (nI 10)) _
    rw [m_movesDuke_8]
    have e20 : (21 : Int32) * nI j + 20 = nI (21 * j + 20) := at21
    refine OO.t (nI_le (a := 10) (Nat.le_refl _) (by decide)) (OO.e (by decide) ?_)
    rw [e20, ixn (by omega)]
    refine OO.g (inbn (by omega) (by decide)) (OO.ret ⟨fun k h1 h2 h3 => by rw [si_o h1]; exact q1 k h2 h3, fun i hi => ?_, ?_, fun i hi => ?_⟩)
    · rw [show ix 5 = 5 from rfl, si_p hi, q1 1 (by decide) (by decide)]
    · rw [show ix 5 = 5 from rfl, si_a, q1 56 (by decide) (by decide)]
      exact h.2
    · rw [si_o (by decide : 2 ≠ 1), si_o (by decide : 3 ≠ 1)]
      exact q2 i hi
/-- where the game stands after k nights, and a chunk beside it -/
def Nod (mm vv ww t : Nat) (R : Option RS) (σm : cS) (k : Nat) (β : cS) : Prop := Kd R σm β ∧ ∃ δ, Rm 0 mm vv ww (t + k) (t + k) δ β
theorem Nod.back {k : Nat} (h : Nod mm vv ww t R σm k β) (hK : Kd R σm b) (h5 : b.1 1 5 = β.1 1 5) (hl : ∀ i, i < 10 → b.1 2 i = β.1 2 i ∧ b.1 3 i = β.1 3 i) : ∃ δ, Rm 0 mm vv ww (t + k) (t + k) δ β ∧ Rm 0 mm vv ww (t + k) (t + k) δ b := by
  obtain ⟨hb, δ, hδ⟩ := h
  refine ⟨δ, hδ, hδ.em0 (fun q q1 q2 q9 i hi => ?_)⟩
  have all : ∀ k, (5 ≤ k ∧ k ≤ 8) ∨ (10 ≤ k ∧ k ≤ 16) → b.1 k = β.1 k := fun k hk => (hK.1.2.1 k (by omega)).trans (hb.1.2.1 k (by omega)).symm
  by_cases e1 : q = 1
  · subst e1
    have hi7 : i < 7 := hi
    by_cases e5 : i = 5
    · subst e5; exact h5
    · exact (hK.2.2.2 i hi7 e5).trans (hb.2.2.2 i hi7 e5).symm
  by_cases e2 : q = 2
  · subst e2; exact (hl i hi).1
  by_cases e3 : q = 3
  · subst e3; exact (hl i hi).2
  by_cases e4 : q = 4
  · subst e4; exact (hK.2.2.1 i hi).trans (hb.2.2.1 i hi).symm
  rw [all q (by omega)]
def enc : Option (Int32 × Nat) → Int32
  | none => 1000
  | some (w, _) => w
def accW (acc : Option (Int32 × Nat)) : Prop := ∀ w f, acc = some (w, f) → wb w
theorem wb_1000 {w : Int32} (h : wb w) : ¬ w = 1000 := by
  rintro rfl
  unfold wb at h
  rw [show (1000 : Int32).toInt = 1000 by decide] at h
  omega
theorem m_better_eq {k : Nat} (hk : k < 2 ^ 31) {V : Int32} {acc : Option (Int32 × Nat)} (hacc : accW acc) {d : Nat} : ∃ r, m_isBetter V (enc acc) (nI k) = some r ∧ ((r = 0 ∧ updW k acc (some V) d = acc) ∨ (r = 1 ∧ updW k acc (some V) d = some (V, d))) := by
  unfold m_isBetter
  rw [show (2 : Int32) = nI 2 from rfl, pk_rem hk (by decide) (by decide)]
  rcases acc with _ | ⟨b, f⟩
  · exact ⟨1, if_pos rfl, Or.inr ⟨rfl, rfl⟩⟩
  · have hb := wb_1000 (hacc b f rfl)
    have ee : enc (some (b, f)) = b := rfl
    rw [ee, if_neg hb]
    have eu : updW k (some (b, f)) (some V) d = if betW k V b = true then some (V, d) else some (b, f) := rfl
    rw [eu]
    unfold betW
    by_cases e : k % 2 = 0
    · rw [e, if_pos (show nI 0 = 0 from rfl), if_pos rfl]
      by_cases c : V ≤ b
      · exact ⟨0, if_pos c, Or.inl ⟨rfl, if_neg (fun q => (n_le _ _).mpr c (of_decide_eq_true q))⟩⟩
      · exact ⟨1, if_neg c, Or.inr ⟨rfl, if_pos (decide_eq_true ((n_lt _ _).mp c))⟩⟩
    · rw [if_neg (show ¬ nI (k % 2) = 0 from fun q => e ((nI_eq (b := 0) (by omega) (by decide)).mp q)), if_neg e]
      by_cases c : b ≤ V
      · exact ⟨0, if_pos c, Or.inl ⟨rfl, if_neg (fun q => (n_le _ _).mpr c (of_decide_eq_true q))⟩⟩
      · exact ⟨1, if_neg c, Or.inr ⟨rfl, if_pos (decide_eq_true ((n_lt _ _).mp c))⟩⟩
/-- what was kept of the nights ahead of the k-th -/
def Blw (k : Nat) (σ σ' : cS) : Prop := (∀ q, q < 21 * k → σ'.1 56 q = σ.1 56 q) ∧ (∀ j, j < k → σ'.1 57 j = σ.1 57 j ∧ σ'.1 58 j = σ.1 58 j) ∧ (0 < k → σ'.1 999 59 = σ.1 999 59)
theorem Blw.rf {k : Nat} : Blw k σ σ := ⟨fun _ _ => rfl, fun _ _ => ⟨rfl, rfl⟩, fun _ => rfl⟩
theorem Blw.tr {k : Nat} (h : Blw k a b) (h2 : Blw k b c) : Blw k a c := ⟨fun q hq => (h2.1 q hq).trans (h.1 q hq), fun j hj => ⟨(h2.2.1 j hj).1.trans (h.2.1 j hj).1, (h2.2.1 j hj).2.trans (h.2.1 j hj).2⟩, fun h0 => (h2.2.2 h0).trans (h.2.2 h0)⟩
theorem Blw.fm {k : Nat} (h : Fm a b) : Blw k a b := ⟨fun q _ => by rw [h.1 56 (by decide) (by decide) (by decide) (by decide) (by decide) (by decide)], fun j _ => ⟨by rw [h.1 57 (by decide) (by decide) (by decide) (by decide) (by decide) (by decide)], by rw [h.1 58 (by decide) (by decide) (by decide) (by decide) (by decide) (by decide)]⟩, fun _ => by rw [h.1 999 (by decide) (by decide) (by decide) (by decide) (by decide) (by decide)]⟩
def topOK (σ : cS) (k : Nat) (acc : Option (Int32 × Nat)) : Prop := k = 0 → ∀ w f, acc = some (w, f) → σ.1 999 59 = zi f
def Tt (mm : Nat) : Nat → Nat
  | 0 => 1
  | r + 1 => (mm + 2) * (1 + Tt mm r)
/-- the end of the k-th night's turn -/
noncomputable def exitc {ρ : Type} (n : Nat) (K : cS → Option ρ) : Nat → cS → Int32 → Nat → Option ρ
  | 0, σ, _, f => m_playsDukes_34 (nI n) K f σ (-1)
  | k + 1, σ, V, f => (m_takesWorth σ (nI k) V).bind fun s => m_playsDukes_34 (nI n) K f s (nI k)
theorem om_skip {ρ : Type} {P : ρ → Prop} {v1 : Int32} {k : Nat} {K2 : cS → Option ρ} (hk : k < 4) (h0 : ∀ i, i < 7 → i ≠ 5 → σ.1 1 i = σm.1 1 i) (hM : σm.1 1 0 = nI mm) (h10 : mm ≤ 10) (hB : B = σm.1 1 4) : ∀ (e d : Nat), d + e = mm + 1 → ∀ F, e < F → (∀ d', d ≤ d' → d' ≤ mm + 1 → (∀ q, d ≤ q → q < d' → bkm B q = true) → (d' ≤ mm → bkm B d' = false) → OO (K2 (si σ 57 k (zi d'))) P) → OO (m_playsDukes_74 v1 (nI k) K2 F (si σ 57 k (zi d))) P := by
  have e10 : ∀ s : Int32, (si σ 57 k s).1 1 (ix 0) = nI mm := fun s => by rw [show ix 0 = 0 from rfl, si_o (by decide), h0 0 (by decide) (by decide), hM]
  have e14 : ∀ s : Int32, (si σ 57 k s).1 1 4 = B := fun s => by rw [si_o (by decide), h0 4 (by decide) (by decide), hB]
  intro e
  induction e with
  | zero =>
    intro d hd F hF hK
    obtain ⟨F, rfl⟩ : ∃ q, F = q + 1 := ⟨F - 1, by omega⟩
    have hd' : d = mm + 1 := by omega
    subst hd'
    rw [m_playsDukes_74, ixn (by omega), si_a, e10]
    exact OO.g (inbn (by omega) (by decide)) (OO.e (nI_pos (by omega)) (OO.t (nI_le (Nat.le_refl _) (by omega)) (hK (mm + 1) (Nat.le_refl _) (Nat.le_refl _) (fun q h1 h2 => absurd h2 (by omega)) (fun q => absurd q (by omega)))))
  | succ e ih =>
    intro d hd F hF hK
    obtain ⟨F, rfl⟩ : ∃ q, F = q + 1 := ⟨F - 1, by omega⟩
    rw [m_playsDukes_74, ixn (by omega), si_a, e10]
    refine OO.g (inbn (by omega) (by decide)) ?_
    cases d with
    | zero => exact OO.t zi_neg (hK 0 (Nat.le_refl _) (by omega) (fun q h1 h2 => absurd h2 (by omega)) (fun _ => rfl))
    | succ i =>
      refine OO.e (nI_pos (by omega)) (OO.e (nI_ge (a := i) (b := mm) (by omega) (by omega)) (OO.b (m_isBaked_eq _ _) ?_))
      rw [e14, show zi (i + 1) = nI i from rfl]
      rcases bk_c B (nI i) with q | q
      · exact OO.t q (hK (i + 1) (Nat.le_refl _) (by omega) (fun q h1 h2 => absurd h2 (by omega)) (fun _ => by show decide (bk B (nI i) = 1) = false; rw [q]; rfl))
      · refine OO.e (by rw [q]; decide) ?_
        rw [si_si, nI_1]
        refine ih (i + 1 + 1) (by omega) F (by omega) (fun d' h1 h2 h3 h4 => hK d' (by omega) h2 (fun j j1 j2 => ?_) h4)
        by_cases e : j = i + 1
        · subst e
          show decide (bk B (nI i) = 1) = true
          rw [q]; rfl
        · exact h3 j (by omega) j2
theorem gacc_skip {k : Nat} {val : Nat → Option Int32} : ∀ {d d' : Nat}, d ≤ d' → (∀ q, d ≤ q → q < d' → val q = none) → gacc k val d' = gacc k val d := by
  intro d d'
  induction d' with
  | zero => intro h _; rw [show d = 0 by omega]
  | succ e ih =>
    intro h hq
    by_cases c : d = e + 1
    · rw [c]
    · rw [gacc_n (hq e (by omega) (by omega))]
      exact ih (by omega) (fun q h1 h2 => hq q h1 (by omega))
/-- the turn of the k-th night, from digit d on -/
theorem om_turn {ρ : Type} {P : ρ → Prop} {K : cS → Option ρ} {r k : Nat} (hk : k + (r + 1) = n) (hn : n ≤ 4) (ht : t ≤ 999) (h10 : mm ≤ 10) (hM : σm.1 1 0 = nI mm) (hB : B = σm.1 1 4) (hN : Nod mm vv ww t R σm k β)
    (deeper : ∀ (σ0 β' : cS) (f : Nat), Kd R σm σ0 → Nod mm vv ww t R σm (k + 1) β' → (k + 1 = n → ∃ δ, Rm 0 mm vv ww (t + (k + 1)) (t + (k + 1)) δ σ0 ∧ Rm 0 mm vv ww (t + (k + 1)) (t + (k + 1)) δ β') → (k + 1 < n → rowK σ0 (k + 1) β' ∧ σ0.1 57 (k + 1) = -2 ∧ σ0.1 58 (k + 1) = 1000) → Tt mm r < f → (∀ σ' f', f ≤ f' + Tt mm r → Kd R σm σ' → Blw (k + 1) σ0 σ' → wb (wV mm B r (k + 1) β') → OO (exitc n K (k + 1) σ' (wV mm B r (k + 1) β') f') P) → OO (m_playsDukes_34 (nI n) K f σ0 (nI (k + 1))) P) :
    ∀ (e d : Nat), d + e = mm + 1 → ∀ (σ : cS) (f : Nat), Kd R σm σ → rowK σ k β → σ.1 57 k = zi d - 1 → σ.1 58 k = enc (gacc k (wvl mm B r k β) d) → accW (gacc k (wvl mm B r k β) d) → topOK σ k (gacc k (wvl mm B r k β) d) → (e + 1) * (1 + Tt mm r) < f →
      (∀ σ' f', f ≤ f' + (e + 1) * (1 + Tt mm r) → Kd R σm σ' → Blw k σ σ' → σ'.1 58 k = enc (gacc k (wvl mm B r k β) (mm + 1)) → accW (gacc k (wvl mm B r k β) (mm + 1)) → topOK σ' k (gacc k (wvl mm B r k β) (mm + 1)) → OO (exitc n K k σ' (σ'.1 58 k) f') P) → OO (m_playsDukes_34 (nI n) K f σ (nI k)) P := by
  intro e
  induction e using Nat.strongRecOn with
  | ind e ih =>
  intro d hd σ f hK hrow h57 h58 hacc htop hf hE
  obtain ⟨f, rfl⟩ : ∃ q, f = q + 1 := ⟨f - 1, by omega⟩
  have hTpos : 0 < 1 + Tt mm r := by omega
  have hmul : (e + 1) * (1 + Tt mm r) = e * (1 + Tt mm r) + (1 + Tt mm r) := by rw [Nat.add_mul, Nat.one_mul]
  rw [m_playsDukes_34]
  refine OO.e (nI_pos (by omega)) (OO.e (fun q => by have := (nI_eq (a := k) (b := n) (by omega) (by omega)).mp q; omega) ?_)
  refine OO.bd (om_dback σ (by omega : k < 4) hrow) (fun b ⟨b1, b2, b3, b4⟩ => OO.g (inbn (by omega) (by decide)) ?_)
  have hKb : Kd R σm b := by
    have o : ∀ k, k ≠ 1 → k ≠ 2 → k ≠ 3 → b.1 k = σ.1 k := b1
    refine ⟨⟨fun q hq i hi => by rw [o 64 (by decide) (by decide) (by decide)]; exact hK.1.1 q hq i hi, fun q hq => (o q (by omega) (by omega) (by omega)).trans (hK.1.2.1 q hq), fun i hi => by rw [o 999 (by decide) (by decide) (by decide)]; exact hK.1.2.2.1 i hi, fun i hi => by rw [o 64 (by decide) (by decide) (by decide)]; exact hK.1.2.2.2 i hi⟩, ?_, fun i hi => by rw [o 4 (by decide) (by decide) (by decide)]; exact hK.2.2.1 i hi, fun i hi h5 => (b2 i h5).trans (hK.2.2.2 i hi h5)⟩
    rcases hK.2.1 with ⟨h1, h2⟩ | ⟨rr, RR, h1, h2, h3, h4⟩
    · exact Or.inl ⟨h1, (b2 8 (by decide)).trans h2⟩
    · exact Or.inr ⟨rr, RR, h1, h2, (b2 8 (by decide)).trans h3, h4.mv (Sl.of (fun j j1 j2 => o j (by omega) (by omega) (by omega)))⟩
  have hBb : Blw k σ b := ⟨fun q _ => by rw [b1 56 (by decide) (by decide) (by decide)], fun j _ => ⟨by rw [b1 57 (by decide) (by decide) (by decide)], by rw [b1 58 (by decide) (by decide) (by decide)]⟩, fun _ => by rw [b1 999 (by decide) (by decide) (by decide)]⟩
  have e57 : b.1 57 (ix (nI k)) + 1 = zi d := by
    rw [ixn (by omega), b1 57 (by decide) (by decide) (by decide), h57]
    cases d with
    | zero => rfl
    | succ i =>
      show nI i - 1 + 1 = nI i
      rw [nI_zi, zi_n1]; rfl
  rw [e57, ixn (by omega)]
  refine om_skip (by omega) hKb.2.2.2 hM h10 hB (mm + 1 - d) d (by omega) FU (FU_gt (by omega)) (fun d' hd1 hd2 hskip hgood => ?_)
  have hsk : gacc k (wvl mm B r k β) d' = gacc k (wvl mm B r k β) d := gacc_skip hd1 (fun q h1 h2 => by unfold wvl; rw [if_pos (hskip q h1 h2)])
  refine OO.g (inbn (by omega) (by decide)) ?_
  have hKs : Kd R σm (si b 57 k (zi d')) := hKb.st (by omega)
  have hBs : Blw k σ (si b 57 k (zi d')) := hBb.tr ⟨fun q _ => by rw [si_o (by decide)], fun j hj => ⟨si_p (by omega), by rw [si_o (by decide)]⟩, fun _ => by rw [si_o (by decide)]⟩
  have hs58 : (si b 57 k (zi d')).1 58 k = enc (gacc k (wvl mm B r k β) d') := by rw [si_o (by decide), b1 58 (by decide) (by decide) (by decide), hsk]; exact h58
  have hs59 : (si b 57 k (zi d')).1 999 59 = σ.1 999 59 := by rw [si_o (by decide), b1 999 (by decide) (by decide) (by decide)]
  rw [si_a, show (si b 57 k (zi d')).1 1 (ix 0) = nI mm by rw [show ix 0 = 0 from rfl, si_o (by decide), hKb.2.2.2 0 (by decide) (by decide), hM]]
  by_cases hbig : d' = mm + 1
  · subst hbig
    refine OO.e (by show ¬ nI mm < nI mm; exact nI_nlt (Nat.le_refl _) (by omega)) ?_
    have hx := hE (si b 57 k (zi (mm + 1))) f (by omega) hKs hBs hs58 (by rw [hsk]; exact hacc) (fun k0 w fd hw => by rw [hs59]; exact htop k0 w fd (by rw [← hsk]; exact hw))
    cases k with
    | zero => exact OO.t (by decide) hx
    | succ k' =>
      have em : nI (k' + 1) + -1 = nI k' := pk_m1 k'
      rw [em, nI_1, ixn (by omega)]
      exact OO.e (nI_pos (by omega)) (OO.g (inbn (by omega) (by decide)) hx)
  · have hd'm : d' ≤ mm := by omega
    have hlt : zi d' < nI mm := by
      cases d' with
      | zero => rw [i_lt, nI_toInt (by omega)]; show (-1 : Int32).toInt < _; rw [show (-1 : Int32).toInt = -1 by decide]; omega
      | succ i => exact nI_lt (by omega) (by omega)
    refine OO.t hlt ?_
    obtain ⟨δ, r1, r2⟩ := hN.back (b := si b 57 k (zi d')) hKs (by rw [si_o (by decide)]; exact b3) (fun i hi => by rw [si_o (by decide), si_o (by decide)]; exact b4 i hi)
    obtain ⟨δ', bn, β', e1, e2, g1, g2, f1, f2⟩ := stp_two (cdk_lt (k := k) (by omega : d' < mm + 1)) r2 r1 hKs.2.1 hN.1.2.1 (by omega)
    have hgo : m_goesDuke (si b 57 k (zi d')) (nI k) = some bn := by
      unfold m_goesDuke
      rw [inbn (by omega) (by decide), ixn (by omega), si_a, show (2 : Int32) = nI 2 from rfl, pk_rem (by omega) (by decide) (by decide)]
      cases d' with
      | zero =>
        unfold stp at e1
        obtain ⟨b2', hb2, e1⟩ := bd_e e1
        cases hb2
        obtain ⟨p, hp, e1⟩ := bd_e e1
        cases e1
        rw [if_pos (show zi 0 = -1 from rfl), hp]; rfl
      | succ i =>
        have e1 : ((m_pushes (si b 57 k (zi (i + 1))) (nI i) (if k % 2 = 0 then 1 else -1)).bind fun b1 => (m_goesNight b1).bind fun p => some p.1) = some bn := e1
        obtain ⟨b2', hb2, e1⟩ := bd_e e1
        obtain ⟨p, hp, e1⟩ := bd_e e1
        cases e1
        show (if nI i = -1 then _ else if nI (k % 2) = 0 then ((m_pushes (si b 57 k (zi (i + 1))) (nI i) 1).bind _) else ((m_pushes (si b 57 k (zi (i + 1))) (nI i) (-1)).bind _)) = _
        rw [if_neg (nI_nm1 (by omega))]
        by_cases q : k % 2 = 0
        · rw [if_pos q] at hb2
          rw [q, if_pos (show nI 0 = 0 from rfl), hb2]
          show (m_goesNight b2').bind _ = _
          rw [hp]; rfl
        · rw [if_neg q] at hb2
          rw [show k % 2 = 1 by omega, if_neg (show ¬ nI 1 = 0 by decide), hb2]
          show (m_goesNight b2').bind _ = _
          rw [hp]; rfl
    refine OO.b hgo ?_
    rw [nI_1]
    have hKn : Kd R σm bn := hKs.fm f1
    have hN' : Nod mm vv ww t R σm (k + 1) β' := ⟨hN.1.fm f2, δ', g2⟩
    have hval : wvl mm B r k β d' = some (wV mm B r (k + 1) β') := by
      unfold wvl
      rw [if_neg (by rw [hgood hd'm]; decide), e2]; rfl
    -- behind the deeper turns
    have after : ∀ σ0, Kd R σm σ0 → (∀ q, q < 21 * (k + 1) → σ0.1 56 q = (si b 57 k (zi d')).1 56 q) → (∀ j, j < k + 1 → σ0.1 57 j = (si b 57 k (zi d')).1 57 j ∧ σ0.1 58 j = (si b 57 k (zi d')).1 58 j) → σ0.1 999 59 = (si b 57 k (zi d')).1 999 59 → ∀ σ' f', f ≤ f' + Tt mm r → Kd R σm σ' → Blw (k + 1) σ0 σ' → wb (wV mm B r (k + 1) β') → OO (exitc n K (k + 1) σ' (wV mm B r (k + 1) β') f') P := by
      intro σ0 hK0 h56 h5 h9 σ' f' hf' hK' hB' hw
      show OO ((m_takesWorth σ' (nI k) (wV mm B r (k + 1) β')).bind fun s => m_playsDukes_34 (nI n) K f' s (nI k)) P
      have s57 : σ'.1 57 k = zi d' := by rw [(hB'.2.1 k (by omega)).1, (h5 k (by omega)).1, si_a]
      have s58 : σ'.1 58 k = enc (gacc k (wvl mm B r k β) d') := by rw [(hB'.2.1 k (by omega)).2, (h5 k (by omega)).2]; exact hs58
      have s59 : σ'.1 999 59 = σ.1 999 59 := by rw [hB'.2.2 (by omega), h9, hs59]
      have hB0 : Blw k σ σ' := by
        refine hBs.tr ⟨fun q hq => (hB'.1 q (by omega)).trans (h56 q (by omega)), fun j hj => ⟨(hB'.2.1 j (by omega)).1.trans (h5 j (by omega)).1, (hB'.2.1 j (by omega)).2.trans (h5 j (by omega)).2⟩, fun _ => (hB'.2.2 (by omega)).trans h9⟩
      have hrow' : rowK σ' k β := hrow.of (fun q q1 q2 => by rw [hB'.1 q (by omega), h56 q (by omega), si_o (by decide), b1 56 (by decide) (by decide) (by decide)])
      have hacc' : accW (gacc k (wvl mm B r k β) d') := by rw [hsk]; exact hacc
      obtain ⟨rb, hrb, hcase⟩ := m_better_eq (k := k) (by omega) (V := wV mm B r (k + 1) β') hacc' (d := d')
      have hg1 : gacc k (wvl mm B r k β) (d' + 1) = updW k (gacc k (wvl mm B r k β) d') (some (wV mm B r (k + 1) β')) d' := by
        show updW k (gacc k (wvl mm B r k β) d') (wvl mm B r k β d') d' = _
        rw [hval]
      have next : ∀ σ2, Kd R σm σ2 → Blw k σ' σ2 → rowK σ2 k β → σ2.1 57 k = zi d' → σ2.1 58 k = enc (gacc k (wvl mm B r k β) (d' + 1)) → accW (gacc k (wvl mm B r k β) (d' + 1)) → topOK σ2 k (gacc k (wvl mm B r k β) (d' + 1)) → OO (m_playsDukes_34 (nI n) K f' σ2 (nI k)) P := by
        intro σ2 q1 q2 q3 q4 q5 q6 q7
        have hmul2 : (mm + 1 - (d' + 1) + 1) * (1 + Tt mm r) ≤ e * (1 + Tt mm r) := Nat.mul_le_mul_right _ (by omega)
        refine ih (mm + 1 - (d' + 1)) (by omega) (d' + 1) (by omega) σ2 f' q1 q3 (by rw [q4]; show zi d' = nI d' - 1; rw [nI_zi]) q5 q6 q7 (by omega) (fun σ3 f3 h1 h2 h3 h4 h5 h6 => hE σ3 f3 (by omega) h2 ((hB0.tr q2).tr h3) h4 h5 h6)
      unfold m_takesWorth
      rw [ixn (by omega), s58]
      refine OO.bd (Q := fun s => OO (m_playsDukes_34 (nI n) K f' s (nI k)) P) ?_ (fun s q => q)
      refine OO.g (inbn (by omega) (by decide)) (OO.b hrb ?_)
      rcases hcase with ⟨rfl, hu⟩ | ⟨rfl, hu⟩
      · refine OO.t rfl (OO.ret ?_)
        exact next σ' hK' Blw.rf hrow' s57 (by rw [hg1, hu]; exact s58) (by rw [hg1, hu]; exact hacc') (fun k0 w fd hw' => by rw [s59]; exact htop k0 w fd (by rw [← hsk, ← hu, ← hg1]; exact hw'))
      · refine OO.e (by decide) ?_
        have hacc2 : accW (gacc k (wvl mm B r k β) (d' + 1)) := by
          rw [hg1, hu]
          intro w fd q
          cases q
          exact hw
        have he2 : enc (gacc k (wvl mm B r k β) (d' + 1)) = wV mm B r (k + 1) β' := by rw [hg1, hu]; rfl
        cases k with
        | zero =>
          refine OO.t rfl (OO.n (OO.ret ?_))
          rw [show ix 0 = 0 from rfl, si_o (by decide : 57 ≠ 58), s57]
          refine next _ ((hK'.st (by omega)).st (by omega)) ⟨fun q hq => absurd hq (by omega), fun j hj => absurd hj (by omega), fun q => absurd q (by omega)⟩ (hrow'.of (fun q _ _ => by rw [si_o (by decide), si_o (by decide)])) (by rw [si_o (by decide), si_o (by decide)]; exact s57) (by rw [si_o (by decide), si_a, he2]) hacc2 (fun _ w fd hw' => ?_)
          rw [hg1, hu] at hw'
          cases hw'
          exact si_a
        | succ k' =>
          refine OO.e (nI_ne0 (by omega) (by omega)) (OO.n (OO.ret ?_))
          rw [si_o (by decide : 999 ≠ 58)]
          refine next _ ((hK'.st (by omega)).st (by omega)) ⟨fun q hq => by rw [si_o (by decide), si_o (by decide)], fun j hj => ⟨by rw [si_o (by decide), si_o (by decide)], by rw [si_o (by decide), si_p (by omega)]⟩, fun _ => by rw [si_a]⟩ (hrow'.of (fun q _ _ => by rw [si_o (by decide), si_o (by decide)])) (by rw [si_o (by decide), si_o (by decide)]; exact s57) (by rw [si_o (by decide), si_a, he2]) hacc2 (fun q => absurd q (by omega))
    unfold m_opensDuke
    have hfT : Tt mm r < f := by omega
    have fr : ∀ q, q ≠ 1 → q ≠ 2 → q ≠ 3 → q ≠ 9 → q ≠ 47 → q ≠ 48 → bn.1 q = (si b 57 k (zi d')).1 q := f1.1
    by_cases hleaf : k + 1 = n
    · refine OO.b (if_pos (by rw [← hleaf]; exact nI_le (Nat.le_refl _) (by omega))) ?_
      refine deeper bn β' f hKn hN' (fun _ => ⟨δ', g1, g2⟩) (fun q => absurd q (by omega)) hfT (after bn hKn (fun q _ => by rw [fr 56 (by decide) (by decide) (by decide) (by decide) (by decide) (by decide)]) (fun j _ => ⟨by rw [fr 57 (by decide) (by decide) (by decide) (by decide) (by decide) (by decide)], by rw [fr 58 (by decide) (by decide) (by decide) (by decide) (by decide) (by decide)]⟩) (by rw [fr 999 (by decide) (by decide) (by decide) (by decide) (by decide) (by decide)]))
    · refine OO.bd (Q := fun s => OO (m_playsDukes_34 (nI n) K f s (nI (k + 1))) P) ?_ (fun s q => q)
      refine OO.e (nI_ge (by omega) (by omega)) (OO.bd (om_dsave bn (by omega : k + 1 < 4)) (fun s ⟨s1, s2, s3⟩ => OO.g (inbn (by omega) (by decide)) (OO.n (OO.ret ?_))))
      rw [ixn (by omega)]
      have hKs2 : Kd R σm s := by
        refine ⟨⟨fun q hq i hi => by rw [s1 64 (by decide)]; exact hKn.1.1 q hq i hi, fun q hq => (s1 q (by omega)).trans (hKn.1.2.1 q hq), fun i hi => by rw [s1 999 (by decide)]; exact hKn.1.2.2.1 i hi, fun i hi => by rw [s1 64 (by decide)]; exact hKn.1.2.2.2 i hi⟩, ?_, fun i hi => by rw [s1 4 (by decide)]; exact hKn.2.2.1 i hi, fun i hi h5 => by rw [s1 1 (by decide)]; exact hKn.2.2.2 i hi h5⟩
        rcases hKn.2.1 with ⟨h1, h2⟩ | ⟨rr, RR, h1, h2, h3, h4⟩
        · exact Or.inl ⟨h1, by rw [s1 1 (by decide)]; exact h2⟩
        · exact Or.inr ⟨rr, RR, h1, h2, by rw [s1 1 (by decide)]; exact h3, h4.mv (Sl.of (fun j j1 j2 => s1 j (by omega)))⟩
      have hrow2 : rowK s (k + 1) β' := by
        refine ⟨fun i hi => ?_, ?_⟩
        · rw [(s2.1 i hi).1, (s2.1 i hi).2]
          exact ⟨(g1.ln hi).symm.trans (g2.ln hi), (g1.dg hi).symm.trans (g2.dg hi)⟩
        · rw [s2.2]
          exact g1.mt.trans g2.mt.symm
      refine deeper _ β' f ((hKs2.st (by omega)).st (by omega)) hN' (fun q => absurd q (by omega)) (fun _ => ⟨hrow2.of (fun q _ _ => by rw [si_o (by decide), si_o (by decide)]), by rw [si_o (by decide), si_a], si_a⟩) hfT (after _ ((hKs2.st (by omega)).st (by omega)) (fun q hq => ?_) (fun j hj => ⟨?_, ?_⟩) ?_)
      · rw [si_o (by decide), si_o (by decide), s3 q (by omega), fr 56 (by decide) (by decide) (by decide) (by decide) (by decide) (by decide)]
      · rw [si_o (by decide), si_p (by omega), s1 57 (by decide), fr 57 (by decide) (by decide) (by decide) (by decide) (by decide) (by decide)]
      · rw [si_p (by omega), si_o (by decide), s1 58 (by decide), fr 58 (by decide) (by decide) (by decide) (by decide) (by decide) (by decide)]
      · rw [si_o (by decide), si_o (by decide), s1 999 (by decide), fr 999 (by decide) (by decide) (by decide) (by decide) (by decide) (by decide)]
/-- a night's turn, all of it -/
theorem om_level {ρ : Type} {P : ρ → Prop} {K : cS → Option ρ} (hn : n ≤ 4) (ht : t ≤ 999) (h10 : mm ≤ 10) (hM : σm.1 1 0 = nI mm) (hB : B = σm.1 1 4) : ∀ (r k : Nat), (k + 1) + r = n → ∀ (σ0 β' : cS) (f : Nat), Kd R σm σ0 → Nod mm vv ww t R σm (k + 1) β' → (k + 1 = n → ∃ δ, Rm 0 mm vv ww (t + (k + 1)) (t + (k + 1)) δ σ0 ∧ Rm 0 mm vv ww (t + (k + 1)) (t + (k + 1)) δ β') → (k + 1 < n → rowK σ0 (k + 1) β' ∧ σ0.1 57 (k + 1) = -2 ∧ σ0.1 58 (k + 1) = 1000) → Tt mm r < f → (∀ σ' f', f ≤ f' + Tt mm r → Kd R σm σ' → Blw (k + 1) σ0 σ' → wb (wV mm B r (k + 1) β') → OO (exitc n K (k + 1) σ' (wV mm B r (k + 1) β') f') P) → OO (m_playsDukes_34 (nI n) K f σ0 (nI (k + 1))) P := by
  intro r
  induction r with
  | zero =>
    intro k hk σ0 β' f hK hN hleaf _ hf hE
    obtain ⟨δ, r1, r2⟩ := hleaf (by omega)
    obtain ⟨w, hw, e1, e2⟩ := jn_west r1
    obtain ⟨w', hw', e3, e4⟩ := jn_west r2
    rw [e1] at e3
    cases e3
    have ev : wV mm B 0 (k + 1) β' = w := by show wwv β' = w; unfold wwv; rw [e4]; rfl
    obtain ⟨f, rfl⟩ : ∃ q, f = q + 1 := ⟨f - 1, by omega⟩
    have hx := hE σ0 f (Nat.le_refl _) hK Blw.rf (by rw [ev]; exact hw)
    rw [m_playsDukes_34]
    refine OO.e (nI_pos (by omega)) (OO.t (by rw [show k + 1 = n by omega]) (OO.b e2 ?_))
    rw [show nI (k + 1) + -1 = nI k from pk_m1 k, ← ev]
    exact hx
  | succ r ih =>
    intro k hk σ0 β' f hK hN _ hrow hf hE
    obtain ⟨q1, q2, q3⟩ := hrow (by omega)
    refine om_turn (r := r) (k := k + 1) (by omega) hn ht h10 hM hB hN (fun σ1 β1 f1 => ih (k + 1) (by omega) σ1 β1 f1) (mm + 1) 0 (by omega) σ0 f hK q1 q2 q3 (fun w fd h => by cases h) (fun h => absurd h (by omega)) hf (fun σ' f' h1 h2 h3 h4 h5 _ => ?_)
    have hlast : ∃ w fd, gacc (k + 1) (wvl mm B r (k + 1) β') (mm + 1) = some (w, fd) := by
      obtain ⟨hN1, δ, hδ⟩ := hN
      obtain ⟨δ', b', β2, e1, -⟩ := stp_two (cdk_lt (k := k + 1) (by omega : 0 < mm + 1)) hδ hδ hN1.2.1 hN1.2.1 (by omega)
      exact gacc_some (v := wV mm B r (k + 1 + 1) b') (by show (if bkm B 0 = true then none else (stp β' (cdk (k + 1) 0)).bind fun β2 => some (wV mm B r (k + 1 + 1) β2)) = _; rw [if_neg (show ¬ bkm B 0 = true from fun q => absurd (show false = true from q) (by decide)), e1]; rfl) (mm + 1) (by omega)
    obtain ⟨w, fd, hg⟩ := hlast
    have ev : wV mm B (r + 1) (k + 1) β' = σ'.1 58 (k + 1) := by rw [wV_s, hg, h4, hg]; rfl
    rw [← ev]
    exact hE σ' f' h1 h2 h3 (by rw [ev, h4, hg]; exact h5 w fd hg)
end DM
