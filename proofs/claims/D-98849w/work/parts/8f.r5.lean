/-! PURE LAW: thefts: dough by a slice, on both sides -/
set_option maxRecDepth 100000
/-- dough ahead of a night's slice, and behind it -/
def qN (b : Bool) (t0 : Nat) (w sl : Nat → Nat) : Nat → Nat
  | 0 => t0 - sl 0
  | n + 1 => (if b = true then qN b t0 w sl n else min 99 (qN b t0 w sl n + w n)) - sl (n + 1)
def pN (b : Bool) (t0 : Nat) (w sl : Nat → Nat) : Nat → Nat
  | 0 => t0
  | n + 1 => if b = true then qN b t0 w sl n else min 99 (qN b t0 w sl n + w n)
theorem qN_p (b : Bool) (t0 : Nat) (w sl : Nat → Nat) : ∀ n, qN b t0 w sl n = pN b t0 w sl n - sl n := by
  intro n
  cases n <;> rfl
theorem pN_le (b : Bool) {t0 : Nat} (w sl : Nat → Nat) (h : t0 ≤ 99) : ∀ n, pN b t0 w sl n ≤ 99 := by
  intro n
  induction n with
  | zero => exact h
  | succ n ih =>
    have h1 : qN b t0 w sl n ≤ pN b t0 w sl n := by rw [qN_p]; omega
    show (if b = true then qN b t0 w sl n else min 99 (qN b t0 w sl n + w n)) ≤ 99
    split
    · omega
    · exact Nat.min_le_left _ _
/-- the slice, if it is of this mile -/
def slf (is : Bool) (ng size n : Nat) : Nat := if is = true ∧ n = ng then size else 0
theorem slf_o {is : Bool} {ng size n : Nat} (h : is = false ∨ n ≠ ng) : slf is ng size n = 0 := by
  unfold slf
  rw [if_neg]
  rintro ⟨h1, h2⟩
  rcases h with e | e
  · rw [e] at h1; cases h1
  · exact e h2
theorem slf_i {ng size : Nat} : slf true ng size ng = size := if_pos ⟨rfl, rfl⟩
def bkb (tb : Int32) (m : Nat) : Bool := decide (bk tb (nI m) = 1)
def QN (tb : Int32) (td wm : Nat → Nat) (th ng size m n : Nat) : Nat := qN (bkb tb m) (td m) wm (slf (decide (m = th)) ng size) n
def PN (tb : Int32) (td wm : Nat → Nat) (th ng size m n : Nat) : Nat := pN (bkb tb m) (td m) wm (slf (decide (m = th)) ng size) n
/-- a slice that can be -/
def vld (tb : Int32) (td wm : Nat → Nat) (th ng size : Nat) : Bool := decide (size ≤ PN tb td wm th ng size th ng)
section TH
variable {σx σm σx' σm' : cS} {rs : List RS} {im : IM} {cz mm vv ww t u lg un un' O n th ng size : Nat} {δ σ δ' σ' z w a b c β β0 β' : cS} {R : Option RS} {B tb : Int32} {td wm : Nat → Nat}
/-- told dough and warmths, as numbers -/
def TE (tb : Int32) (td wm : Nat → Nat) (σ : cS) : Prop := σ.1 16 0 = tb ∧ (∀ i, i < 10 → td i ≤ 99 ∧ σ.1 15 i = nI (td i)) ∧ ∀ i, i < 100 → wm i ≤ 9 ∧ σ.1 5 i = nI (wm i)
theorem TE.of (h : Rtd δ σ) : ∃ td wm, TE (σ.1 16 0) td wm σ := by
  refine ⟨fun i => ix (σ.1 15 i), fun i => ix (σ.1 5 i), rfl, fun i hi => ?_, fun i hi => ?_⟩
  · obtain ⟨d, h1, -, h2⟩ := h.2.1 i hi
    dsimp only
    rw [h2, ixn (by omega)]
    exact ⟨h1, rfl⟩
  · obtain ⟨d, h1, h2⟩ := h.2.2.1 i hi
    dsimp only
    rw [h2, ixn (by omega)]
    exact ⟨h1, rfl⟩
theorem min99 {a : Nat} (ha : a < 2 ^ 31) : (if nI a ≤ 99 then nI a else 99) = nI (min 99 a) := by
  rw [ifc (show nI a ≤ (99 : Int32) ↔ a ≤ 99 from nI_leI (b := 99) ha (by decide))]
  by_cases h : a ≤ 99
  · rw [if_pos h, Nat.min_eq_right h]
  · rw [if_neg h, Nat.min_eq_left (by omega)]; rfl
theorem bkb_c (tb : Int32) (m : Nat) : (bk tb (nI m) = 0 ∧ bkb tb m = false) ∨ (bk tb (nI m) = 1 ∧ bkb tb m = true) := by
  unfold bkb
  rcases bk_c tb (nI m) with q | q
  · exact Or.inl ⟨q, by rw [q]; rfl⟩
  · exact Or.inr ⟨q, by rw [q]; rfl⟩
theorem PN_s {m k : Nat} : PN tb td wm th ng size m (k + 1) = if bkb tb m = true then QN tb td wm th ng size m k else min 99 (QN tb td wm th ng size m k + wm k) := rfl
theorem QN_le {m k : Nat} (h : td m ≤ 99) : QN tb td wm th ng size m k ≤ PN tb td wm th ng size m k ∧ PN tb td wm th ng size m k ≤ 99 := ⟨by unfold QN PN; rw [qN_p]; omega, pN_le _ _ _ h k⟩
/-- a mile's course is laid -/
def CrsP (tb : Int32) (td wm : Nat → Nat) (th ng size m : Nat) (σ b : cS) : Prop := (∀ k, k ≠ 60 → k ≠ 999 → b.1 k = σ.1 k) ∧ (∀ i, i ≠ 61 → b.1 999 i = σ.1 999 i) ∧ (∀ q, ¬ (31 * m ≤ q ∧ q < 31 * m + 31) → b.1 60 q = σ.1 60 q) ∧ ((m ≠ th ∨ vld tb td wm th ng size = true) → ∀ k, k ≤ 30 → b.1 60 (31 * m + k) = nI (QN tb td wm th ng size m k)) ∧ b.1 999 61 = (if m = th then (if vld tb td wm th ng size = true ∧ bkb tb th = false then 1 else 0) else σ.1 999 61)
/-- a mile's course in the model -/
theorem om_course {m : Nat} (hT : TE tb td wm σ) (hm : m < 10) (hth : th < 10) (hng : ng < 30) (hs : 1 ≤ size ∧ size ≤ 99) : OO (m_laysCourse σ (nI m) (nI th) (nI ng) (nI size)) (CrsP tb td wm th ng size m σ) := by
  unfold m_laysCourse
  refine OO.g (inbn hm (by decide)) ?_
  rw [ixn (by omega), (hT.2.1 m hm).2]
  have htd := (hT.2.1 m hm).1
  refine OO.loop (S := cS × Int32) (L := fun n s i => m_laysCourse_11 (nI m) (nI th) (nI ng) (nI size) (fun σ_24 => some σ_24) n s.1 s.2 i) (I := fun k s => (∀ k, k ≠ 60 → k ≠ 999 → s.1.1 k = σ.1 k) ∧ (∀ i, i ≠ 61 → s.1.1 999 i = σ.1 999 i) ∧ (∀ q, ¬ (31 * m ≤ q ∧ q < 31 * m + 31) → s.1.1 60 q = σ.1 60 q) ∧ ((m ≠ th ∨ vld tb td wm th ng size = true) → ∀ q, q < k → s.1.1 60 (31 * m + q) = nI (QN tb td wm th ng size m q)) ∧ ((m ≠ th ∨ vld tb td wm th ng size = true ∨ k ≤ ng) → s.2 = nI (PN tb td wm th ng size m k)) ∧ s.1.1 999 61 = (if m = th ∧ ng < k then (if vld tb td wm th ng size = true ∧ bkb tb th = false then 1 else 0) else σ.1 999 61)) (N := 31) ?_ ?_ 31 0 (by decide) FU (FU_gt (by decide)) (σ, nI (td m)) ⟨fun _ _ _ => rfl, fun _ _ => rfl, fun _ _ => rfl, fun _ q hq => absurd hq (by omega), fun _ => rfl, by rw [if_neg (by omega)]⟩
  · rintro n k ⟨b, v⟩ hk ⟨q1, q2, q3, q4, q5, q6⟩ kk
    dsimp only at q1 q2 q3 q4 q5 q6
    show OO (m_laysCourse_11 _ _ _ _ _ (n + 1) b v (nI k)) _
    rw [m_laysCourse_11, show (31 : Int32) = nI 31 from rfl, pk_mul, nI_add, nI_1, ixn (by omega)]
    refine OO.e (nI_nlt (a := 30) (b := k) (by omega) (by decide)) ?_
    -- the slice
    have hsl : ∃ b1 v1, ((if nI m = nI th then (if nI k = nI ng then (((if v < nI size then (some (0)) else (((m_has (b.1 16 (ix 0)) (nI m)).bind fun r_22 => if r_22 = 0 then (some (1)) else (some (0)))) : Option (Int32)).bind fun t_17 => (gd (zb t_17) (some ((si b 999 61 t_17), (v - nI size)))))) else (some (b, v))) else (some (b, v)) : Option (cS × Int32)) = some (b1, v1)) ∧ (∀ k, k ≠ 999 → b1.1 k = b.1 k) ∧ (∀ i, i ≠ 61 → b1.1 999 i = b.1 999 i) ∧ ((m ≠ th ∨ vld tb td wm th ng size = true ∨ k + 1 ≤ ng) → v1 = nI (QN tb td wm th ng size m k)) ∧ b1.1 999 61 = (if m = th ∧ ng < k + 1 then (if vld tb td wm th ng size = true ∧ bkb tb th = false then 1 else 0) else σ.1 999 61) := by
      by_cases c1 : m = th
      · subst c1
        by_cases c2 : k = ng
        · subst c2
          have hv := q5 (Or.inr (Or.inr (Nat.le_refl _)))
          have hP := (QN_le (tb := tb) (td := td) (wm := wm) (th := m) (ng := k) (size := size) (m := m) (k := k) htd).2
          rw [if_pos rfl, if_pos rfl, hv, m_has_eq, q1 16 (by decide) (by decide), show ix 0 = 0 from rfl, hT.1]
          by_cases c3 : size ≤ PN tb td wm m k size m k
          · have hvl : vld tb td wm m k size = true := decide_eq_true c3
            rw [if_neg (nI_nlt c3 (by omega)), pk_sub c3]
            have hQ : QN tb td wm m k size m k = PN tb td wm m k size m k - size := by
              unfold QN PN
              rw [qN_p, decide_eq_true rfl, slf_i]
            rcases bkb_c tb m with ⟨e1, e2⟩ | ⟨e1, e2⟩
            · rw [e1]
              refine ⟨si b 999 61 1, _, rfl, fun j hj => si_o hj, fun i hi => si_p hi, fun _ => by rw [hQ], ?_⟩
              rw [si_a, if_pos ⟨rfl, by omega⟩, if_pos ⟨hvl, e2⟩]
            · rw [e1]
              refine ⟨si b 999 61 0, _, rfl, fun j hj => si_o hj, fun i hi => si_p hi, fun _ => by rw [hQ], ?_⟩
              rw [si_a, if_pos ⟨rfl, by omega⟩, if_neg (by rw [e2]; intro q; exact absurd q.2 (by decide))]
          · have hvl : ¬ vld tb td wm m k size = true := fun q => c3 (of_decide_eq_true q)
            rw [if_pos (nI_lt (by omega) (by omega))]
            refine ⟨si b 999 61 0, _, rfl, fun j hj => si_o hj, fun i hi => si_p hi, fun q => ?_, ?_⟩
            · rcases q with q | q | q
              · exact absurd rfl q
              · exact absurd q hvl
              · omega
            · rw [si_a, if_pos ⟨rfl, by omega⟩, if_neg (fun q => hvl q.1)]
        · refine ⟨b, v, ?_, fun _ _ => rfl, fun _ _ => rfl, fun q => ?_, ?_⟩
          · rw [if_pos rfl, if_neg (fun q => c2 ((nI_eq (by omega) (by omega)).mp q))]
          · have hQ : QN tb td wm m ng size m k = PN tb td wm m ng size m k := by
              unfold QN PN
              rw [qN_p, slf_o (Or.inr c2), Nat.sub_zero]
            rw [hQ]
            exact q5 (by rcases q with q | q | q
                         · exact Or.inl q
                         · exact Or.inr (Or.inl q)
                         · exact Or.inr (Or.inr (by omega)))
          · rw [q6]
            by_cases c3 : ng < k
            · rw [if_pos (show m = m ∧ ng < k from ⟨rfl, c3⟩), if_pos (show m = m ∧ ng < k + 1 from ⟨rfl, by omega⟩)]
            · rw [if_neg (show ¬ (m = m ∧ ng < k) from fun q => c3 q.2), if_neg (show ¬ (m = m ∧ ng < k + 1) from fun q => by omega)]
      · refine ⟨b, v, ?_, fun _ _ => rfl, fun _ _ => rfl, fun q => ?_, ?_⟩
        · rw [if_neg (fun q => c1 ((nI_eq (by omega) (by omega)).mp q))]
        · have hQ : QN tb td wm th ng size m k = PN tb td wm th ng size m k := by
            unfold QN PN
            rw [qN_p, slf_o (Or.inl (decide_eq_false c1)), Nat.sub_zero]
          rw [hQ]
          exact q5 (Or.inl c1)
        · rw [q6, if_neg (fun q => c1 q.1), if_neg (fun q => c1 q.1)]
    obtain ⟨b1, v1, es, o1, o2, o3, o4⟩ := hsl
    refine OO.b es ?_
    refine OO.g (inbn (by omega) (by decide)) ?_
    have e16 : (si b1 60 (31 * m + k) v1).1 16 (ix 0) = tb := by rw [si_o (by decide), o1 16 (by decide), q1 16 (by decide) (by decide)]; exact hT.1
    have ewm : m_warmthOf (si b1 60 (31 * m + k) v1) (nI k) = some (nI (wm k)) := by
      unfold m_warmthOf
      rw [if_neg (show ¬ (100 : Int32) ≤ nI k from nI_ge (a := k) (b := 100) (by omega) (by decide)), inbn (by omega) (by decide), ixn (by omega), si_o (by decide), o1 5 (by decide), q1 5 (by decide) (by decide), (hT.2.2 k (by omega)).2]
      rfl
    refine OO.b (m_has_eq _ _) ?_
    rw [e16]
    have next : ∀ v2 : Int32, ((m ≠ th ∨ vld tb td wm th ng size = true ∨ k + 1 ≤ ng) → v2 = nI (PN tb td wm th ng size m (k + 1))) → OO (m_laysCourse_11 (nI m) (nI th) (nI ng) (nI size) (fun σ_24 => some σ_24) n (si b1 60 (31 * m + k) v1) v2 (nI (k + 1))) (CrsP tb td wm th ng size m σ) := by
      intro v2 hv2
      refine kk (si b1 60 (31 * m + k) v1, v2) ⟨fun j j1 j2 => ?_, fun i hi => ?_, fun q hq => ?_, fun hvv q hq => ?_, hv2, ?_⟩
      · dsimp only; rw [si_o j1, o1 j j2]; exact q1 j j1 j2
      · dsimp only; rw [si_o (by decide), o2 i hi]; exact q2 i hi
      · dsimp only; rw [si_p (by omega), o1 60 (by decide)]; exact q3 q hq
      · dsimp only
        by_cases e : q = k
        · subst e
          rw [si_a]
          exact o3 (by rcases hvv with x | x
                       · exact Or.inl x
                       · exact Or.inr (Or.inl x))
        · rw [si_p (by omega), o1 60 (by decide)]; exact q4 hvv q (by omega)
      · dsimp only; rw [si_o (by decide)]; exact o4
    have hQ99 := QN_le (tb := tb) (td := td) (wm := wm) (th := th) (ng := ng) (size := size) (m := m) (k := k) htd
    have hw9 := (hT.2.2 k (by omega)).1
    rcases bkb_c tb m with ⟨e1, e2⟩ | ⟨e1, e2⟩
    · rw [e1]
      refine OO.b (a := v1 + nI (wm k)) (by rw [if_pos rfl, ewm]; rfl) ?_
      have fin : (m ≠ th ∨ vld tb td wm th ng size = true ∨ k + 1 ≤ ng) → (if v1 + nI (wm k) ≤ 99 then v1 + nI (wm k) else 99) = nI (PN tb td wm th ng size m (k + 1)) := by
        intro q
        rw [o3 q, nI_add, min99 (by omega), PN_s, e2]
        rfl
      by_cases c : v1 + nI (wm k) ≤ 99
      · exact OO.t c (next _ (fun q => by rw [← fin q, if_pos c]))
      · exact OO.e c (next _ (fun q => by rw [← fin q, if_neg c]))
    · rw [e1]
      refine OO.b (a := v1) (if_neg (by decide)) ?_
      have fin : (m ≠ th ∨ vld tb td wm th ng size = true ∨ k + 1 ≤ ng) → (if v1 ≤ 99 then v1 else 99) = nI (PN tb td wm th ng size m (k + 1)) := by
        intro q
        rw [o3 q, min99 (by omega), PN_s, e2, if_pos rfl, Nat.min_eq_right (by omega)]
      by_cases c : v1 ≤ 99
      · exact OO.t c (next _ (fun q => by rw [← fin q, if_pos c]))
      · exact OO.e c (next _ (fun q => by rw [← fin q, if_neg c]))
  · rintro n ⟨b, v⟩ ⟨q1, q2, q3, q4, q5, q6⟩
    dsimp only at q1 q2 q3 q4 q5 q6
    show OO (m_laysCourse_11 _ _ _ _ _ (n + 1) b v (nI 31)) _
    rw [m_laysCourse_11]
    refine OO.t (nI_lt (a := 30) (b := 31) (by decide) (by decide)) (OO.ret ⟨q1, q2, q3, fun hv k hk => q4 hv k (by omega), ?_⟩)
    rw [q6]
    by_cases c : m = th
    · rw [if_pos ⟨c, by omega⟩, if_pos c]
    · rw [if_neg (fun q => c q.1), if_neg c]
/-- dough at a night in the class -/
theorem ox_dough {m k : Nat} (h1 : a.1 999 0 = 1) (hT : TE tb td wm σ) (e6 : a.1 1999 6 = tb) (e9 : ∀ i, i < 10 → a.1 1009 i = σ.1 15 i) (e10 : ∀ i, i < 100 → a.1 1010 i = σ.1 5 i) (hm : m < 10) (hth : th < 10) (hng : ng < 30) (hk : k ≤ 30) (hs : 1 ≤ size ∧ size ≤ 99) : x_doughAt a (nI m) (nI k) (nI th) (nI ng) (nI size) = some (if m = th ∧ ng ≤ k ∧ vld tb td wm th ng size = false then -1 else nI (QN tb td wm th ng size m k)) := by
  have htd := (hT.2.1 m hm).1
  have hz := nz_1 h1
  have key : OO (x_doughAt a (nI m) (nI k) (nI th) (nI ng) (nI size)) (fun r => r = if m = th ∧ ng ≤ k ∧ vld tb td wm th ng size = false then -1 else nI (QN tb td wm th ng size m k)) := by
    unfold x_doughAt
    refine OO.g hz (OO.g (inbn hm (by decide)) ?_)
    rw [ixn (by omega), e9 m hm, (hT.2.1 m hm).2]
    refine OO.loop (S := Int32) (L := fun n s i => x_doughAt_14 a (nI m) (nI k) (nI th) (nI ng) (nI size) (fun v_17 => some v_17) n s i) (I := fun j s => (s = if j = 0 then nI (td m) else nI (QN tb td wm th ng size m (j - 1))) ∧ (m ≠ th ∨ j ≤ ng ∨ vld tb td wm th ng size = true)) (N := k + 1) ?_ ?_ (k + 1) 0 (by omega) FU (FU_gt (by omega)) (nI (td m)) ⟨rfl, Or.inr (Or.inl (Nat.zero_le _))⟩
    · intro n j s hj ⟨hI, hok⟩ kk
      show OO (x_doughAt_14 _ _ _ _ _ _ _ (n + 1) s (nI j)) _
      rw [x_doughAt_14, nI_1]
      refine OO.e (nI_nlt (by omega) (by omega)) ?_
      have hP : ((if nI j ≤ 0 then (some (s)) else (gd (nz (a.1 999 0)) (((x_has (a.1 1999 6) (nI m)).bind fun r_14 => if r_14 = 0 then (gd (inb (nI j - 1) 100) (some ((jmin 99 (s + (a.1 1010 (ix (nI j - 1)))))))) else (some (s))))) : Option (Int32)) = some (nI (PN tb td wm th ng size m j))) := by
        cases j with
        | zero => rw [if_pos (by decide), hI]; rfl
        | succ j =>
          have hQ := QN_le (tb := tb) (td := td) (wm := wm) (th := th) (ng := ng) (size := size) (m := m) (k := j) htd
          have hw9 := (hT.2.2 j (by omega)).1
          rw [if_neg (nI_nle (by omega) (by omega)), hz, x_has_eq, e6, nI_pred, hI, if_neg (by omega), show j + 1 - 1 = j by omega, inbn (by omega) (by decide), ixn (by omega), e10 j (by omega), (hT.2.2 j (by omega)).2, nI_add, jmin99, min99 (by omega), PN_s]
          rcases bkb_c tb m with ⟨e1, e2⟩ | ⟨e1, e2⟩
          · rw [e1, e2]; rfl
          · rw [e1, e2]; rfl
      refine OO.b hP ?_
      have hP99 := (QN_le (tb := tb) (td := td) (wm := wm) (th := th) (ng := ng) (size := size) (m := m) (k := j) htd).2
      have plain : (m ≠ th ∨ j ≠ ng) → OO (if 0 ≤ nI (PN tb td wm th ng size m j) then x_doughAt_14 a (nI m) (nI k) (nI th) (nI ng) (nI size) (fun v_17 => some v_17) n (nI (PN tb td wm th ng size m j)) (nI (j + 1)) else some (-1)) (fun r => r = if m = th ∧ ng ≤ k ∧ vld tb td wm th ng size = false then -1 else nI (QN tb td wm th ng size m k)) := by
        intro hc
        have hQ : QN tb td wm th ng size m j = PN tb td wm th ng size m j := by
          unfold QN PN
          rcases hc with c | c
          · rw [qN_p, slf_o (Or.inl (decide_eq_false c)), Nat.sub_zero]
          · rw [qN_p, slf_o (Or.inr c), Nat.sub_zero]
        refine OO.t (nI_pos' (by omega)) (kk _ ⟨?_, ?_⟩)
        · rw [if_neg (by omega), show j + 1 - 1 = j by omega, hQ]
        · rcases hok with x | x | x
          · exact Or.inl x
          · rcases hc with c | c
            · exact Or.inl c
            · exact Or.inr (Or.inl (by omega))
          · exact Or.inr (Or.inr x)
      by_cases c1 : m = th
      · by_cases c2 : j = ng
        · subst c1
          subst c2
          refine OO.b (a := nI (PN tb td wm m j size m j) - nI size) (by rw [if_pos rfl, if_pos rfl]) ?_
          by_cases c3 : size ≤ PN tb td wm m j size m j
          · have hvl : vld tb td wm m j size = true := decide_eq_true c3
            rw [pk_sub c3]
            have hQ : QN tb td wm m j size m j = PN tb td wm m j size m j - size := by
              unfold QN PN
              rw [qN_p, decide_eq_true rfl, slf_i]
            refine OO.t (nI_pos' (by omega)) (kk _ ⟨?_, Or.inr (Or.inr hvl)⟩)
            rw [if_neg (by omega), show j + 1 - 1 = j by omega, hQ]
          · have hvl : vld tb td wm m j size = false := decide_eq_false c3
            refine OO.e (fun q => (n_le _ _).mpr q (pk_sneg (by omega) (by omega))) (OO.ret ?_)
            rw [if_pos ⟨rfl, by omega, hvl⟩]
        · refine OO.b (a := nI (PN tb td wm th ng size m j)) (by rw [if_pos (by rw [c1]), if_neg (fun q => c2 ((nI_eq (by omega) (by omega)).mp q))]) (plain (Or.inr c2))
      · refine OO.b (a := nI (PN tb td wm th ng size m j)) (by rw [if_neg (fun q => c1 ((nI_eq (by omega) (by omega)).mp q))]) (plain (Or.inl c1))
    · intro n s ⟨hI, hok⟩
      show OO (x_doughAt_14 _ _ _ _ _ _ _ (n + 1) s (nI (k + 1))) _
      rw [x_doughAt_14]
      refine OO.t (nI_lt (by omega) (by omega)) (OO.ret ?_)
      rw [hI, if_neg (by omega), show k + 1 - 1 = k by omega, if_neg]
      rintro ⟨x1, x2, x3⟩
      rcases hok with y | y | y
      · exact y x1
      · omega
      · rw [x3] at y; cases y
  obtain ⟨r, hr, rfl⟩ := key
  exact hr
end TH
