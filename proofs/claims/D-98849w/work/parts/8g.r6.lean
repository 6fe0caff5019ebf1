/-! PURE LAW: theft -/
set_option maxRecDepth 100000
section TF
variable {σx σm σx' σm' : cS} {rs : List RS} {im : IM} {cz mm vv ww t u lg un un' O n th ng size : Nat} {δ σ δ' σ' z w a b c β β0 β' : cS} {R : Option RS} {B tb : Int32} {td wm : Nat → Nat}
def fitL (tb : Int32) (td wm : Nat → Nat) (th ng size : Nat) (σ : cS) : Nat → Bool
  | 0 => true
  | k + 1 => fitL tb td wm th ng size σ k && decide (nI (QN tb td wm th ng size (ix (σ.1 13 k)) (ix (σ.1 12 k))) = σ.1 14 k)
def fit (tb : Int32) (td wm : Nat → Nat) (lg size : Nat) (σ : cS) (th ng : Nat) : Bool := !(bkb tb th) && vld tb td wm th ng size && fitL tb td wm th ng size σ lg
def Mt (σm b : cS) : Prop := (∀ k, k ≠ 60 → k ≠ 62 → k ≠ 999 → b.1 k = σm.1 k) ∧ ∀ i, i ≠ 61 → b.1 999 i = σm.1 999 i
theorem Mt.rf : Mt σm σm := ⟨fun _ _ _ _ => rfl, fun _ _ => rfl⟩
theorem Mt.em (h : Mt σm b) : Em σm b := by
  have e : ∀ k, k ≠ 60 → k ≠ 62 → k ≠ 999 → b.1 k = σm.1 k := h.1
  exact ⟨⟨⟨fun k hk _ i _ => by have := imA_le k hk; rw [e k (by omega) (by omega) (by omega)], h.2 51 (by decide)⟩, fun i _ => by rw [e 1 (by decide) (by decide) (by decide)]⟩, fun i hi => h.2 i (by omega), fun k hk => e k (by omega) (by omega) (by omega), fun i _ => by rw [e 64 (by decide) (by decide) (by decide)]⟩
theorem TE.mt (h : TE tb td wm σm) (hM : Mt σm b) : TE tb td wm b := ⟨by rw [hM.1 16 (by decide) (by decide) (by decide)]; exact h.1, fun i hi => by rw [hM.1 15 (by decide) (by decide) (by decide)]; exact h.2.1 i hi, fun i hi => by rw [hM.1 5 (by decide) (by decide) (by decide)]; exact h.2.2 i hi⟩
/-- logs, as numbers -/
def LG (mm lg : Nat) (σ : cS) : Prop := lg ≤ 10 ∧ σ.1 1 6 = nI lg ∧ ∀ k, k < lg → (ix (σ.1 12 k) ≤ 30 ∧ σ.1 12 k = nI (ix (σ.1 12 k))) ∧ (ix (σ.1 13 k) < mm ∧ σ.1 13 k = nI (ix (σ.1 13 k)))
theorem LG.of (h : Rlg mm lg δ σ) (h10 : mm ≤ 10) : LG mm lg σ := by
  refine ⟨h.1.2.2, h.1.2.1, fun k hk => ?_⟩
  obtain ⟨⟨n, h1, -, h2⟩, ⟨m, h3, -, h4⟩, -⟩ := h.2 k hk
  rw [h2, h4, ixn (by omega), ixn (by omega)]
  exact ⟨⟨h1, rfl⟩, h3, rfl⟩
theorem fit_and {th ng : Nat} : fit tb td wm lg size σ th ng = true ↔ bkb tb th = false ∧ vld tb td wm th ng size = true ∧ fitL tb td wm th ng size σ lg = true := by
  unfold fit
  rw [Bool.and_eq_true_iff, Bool.and_eq_true_iff]
  cases bkb tb th <;> simp
/-- all courses are laid, all logs looked at -/
theorem om_fit (hM : Mt σm b) (hT : TE tb td wm σm) (hL : LG mm lg σm) (hmm : σm.1 1 0 = nI mm) (h10 : mm ≤ 10) (hth : th < mm) (hng : ng < 30) (hs : 1 ≤ size ∧ size ≤ 99) : OO (m_doesFit b (nI th) (nI ng) (nI size)) (fun q => Mt σm q.1 ∧ q.1.1 62 = b.1 62 ∧ q.2 = (if fit tb td wm lg size σm th ng = true then 1 else 0) ∧ (fit tb td wm lg size σm th ng = true → ∀ m, m < mm → ∀ k, k ≤ 30 → q.1.1 60 (31 * m + k) = nI (QN tb td wm th ng size m k))) := by
  unfold m_doesFit
  refine OO.loop (S := cS) (L := fun n s i => m_doesFit_8 (nI th) (nI ng) (nI size) _ n s i) (I := fun j s => Mt σm s ∧ s.1 62 = b.1 62 ∧ s.1 999 61 = (if th < j then (if vld tb td wm th ng size = true ∧ bkb tb th = false then 1 else 0) else 0) ∧ ∀ m, m < j → (m ≠ th ∨ vld tb td wm th ng size = true) → ∀ k, k ≤ 30 → s.1 60 (31 * m + k) = nI (QN tb td wm th ng size m k)) (N := mm) ?_ ?_ mm 0 (by omega) FU (FU_gt (by omega)) (si b 999 61 0) ⟨⟨fun k k1 k2 k3 => by rw [si_o k3]; exact hM.1 k k1 k2 k3, fun i hi => by rw [si_p hi]; exact hM.2 i hi⟩, si_o (by decide), by rw [si_a, if_neg (by omega)], fun m hm => absurd hm (by omega)⟩
  · intro n j s hj ⟨q1, q2, q3, q4⟩ kk
    show OO (m_doesFit_8 _ _ _ _ (n + 1) s (nI j)) _
    rw [m_doesFit_8, nI_1]
    refine OO.e (by rw [show ix 0 = 0 from rfl, q1.1 1 (by decide) (by decide) (by decide), hmm]; exact nI_ge hj (by omega)) ?_
    refine OO.bd (om_course (hT.mt q1) (by omega : j < 10) (by omega) hng hs) (fun s2 ⟨c1, c2, c3, c4, c5⟩ => kk s2 ⟨⟨fun k k1 k2 k3 => (c1 k k1 k3).trans (q1.1 k k1 k2 k3), fun i hi => (c2 i hi).trans (q1.2 i hi)⟩, (c1 62 (by decide) (by decide)).trans q2, ?_, fun m hm hv k hk => ?_⟩)
    · rw [c5, q3]
      by_cases e : j = th
      · subst e
        rw [if_pos rfl, if_pos (show j < j + 1 by omega)]
      · rw [if_neg e]
        by_cases e2 : th < j
        · rw [if_pos e2, if_pos (show th < j + 1 by omega)]
        · rw [if_neg e2, if_neg (show ¬ th < j + 1 by omega)]
    · by_cases e : m = j
      · subst e; exact c4 hv k hk
      · rw [c3 _ (by omega)]; exact q4 m (by omega) hv k hk
  · intro n s ⟨q1, q2, q3, q4⟩
    show OO (m_doesFit_8 _ _ _ _ (n + 1) s (nI mm)) _
    rw [m_doesFit_8]
    refine OO.t (by rw [show ix 0 = 0 from rfl, q1.1 1 (by decide) (by decide) (by decide), hmm]; exact nI_le (Nat.le_refl _) (by omega)) ?_
    rw [if_pos hth] at q3
    rw [q3]
    have o : ∀ k, k ≠ 60 → k ≠ 62 → k ≠ 999 → s.1 k = σm.1 k := q1.1
    obtain ⟨l1, l2, l3⟩ := hL
    have lb : ∀ k, (if (vld tb td wm th ng size && !(bkb tb th) && fitL tb td wm th ng size σm k) = true then (1 : Int32) else 0) = 0 ∨ (if (vld tb td wm th ng size && !(bkb tb th) && fitL tb td wm th ng size σm k) = true then (1 : Int32) else 0) = 1 := by
      intro k
      split
      · exact Or.inr rfl
      · exact Or.inl rfl
    refine OO.loop (S := Int32) (L := fun n v i => m_doesFit_43 s _ n v i) (I := fun k v => v = if (vld tb td wm th ng size && !(bkb tb th) && fitL tb td wm th ng size σm k) = true then 1 else 0) (N := lg) ?_ ?_ lg 0 (by omega) FU (FU_gt (by omega)) _ ?_
    · intro n k v hk hI kk
      show OO (m_doesFit_43 s _ (n + 1) v (nI k)) _
      rw [m_doesFit_43, nI_1]
      refine OO.e (by rw [show ix 6 = 6 from rfl, o 1 (by decide) (by decide) (by decide), l2]; exact nI_ge hk (by omega)) ?_
      have hfl : fitL tb td wm th ng size σm (k + 1) = (fitL tb td wm th ng size σm k && decide (nI (QN tb td wm th ng size (ix (σm.1 13 k)) (ix (σm.1 12 k))) = σm.1 14 k)) := rfl
      by_cases c : (vld tb td wm th ng size && !(bkb tb th) && fitL tb td wm th ng size σm k) = true
      · rw [if_pos c] at hI
        subst hI
        obtain ⟨⟨n1, n2⟩, m1, m2⟩ := l3 k hk
        have hv : vld tb td wm th ng size = true := (Bool.and_eq_true_iff.mp (Bool.and_eq_true_iff.mp c).1).1
        refine OO.e (by decide) (OO.g (inbn (by omega) (by decide)) ?_)
        rw [ixn (show k < 2 ^ 31 by omega), o 13 (by decide) (by decide) (by decide), o 12 (by decide) (by decide) (by decide), o 14 (by decide) (by decide) (by decide), m2, n2, show (31 : Int32) = nI 31 from rfl, pk_mul, nI_add, ixn (show 31 * ix (σm.1 13 k) + ix (σm.1 12 k) < 2 ^ 31 by omega), q4 _ m1 (Or.inr hv) _ n1]
        refine OO.g (inbn (by omega) (by decide)) (OO.ii (fun q => kk 1 ?_) (fun q => kk 0 ?_))
        · rw [hfl, decide_eq_true q, Bool.and_true, if_pos c]
        · rw [hfl, decide_eq_false q, Bool.and_false, Bool.and_false, if_neg (by decide)]
      · rw [if_neg c] at hI
        subst hI
        refine OO.t rfl (kk 0 ?_)
        rw [hfl, ← Bool.and_assoc, if_neg]
        intro q
        exact c (Bool.and_eq_true_iff.mp q).1
    · intro n v hI
      show OO (m_doesFit_43 s _ (n + 1) v (nI lg)) _
      rw [m_doesFit_43]
      have hfit : (vld tb td wm th ng size && !(bkb tb th) && fitL tb td wm th ng size σm lg) = fit tb td wm lg size σm th ng := by
        unfold fit
        cases vld tb td wm th ng size <;> cases bkb tb th <;> cases fitL tb td wm th ng size σm lg <;> rfl
      rw [hfit] at hI
      refine OO.t (by rw [show ix 6 = 6 from rfl, o 1 (by decide) (by decide) (by decide), l2]; exact nI_le (Nat.le_refl _) (by omega)) (OO.g ?_ (OO.ret ⟨q1, q2, hI, fun hf m hm k hk => q4 m hm (Or.inr (fit_and.mp hf).2.1) k hk⟩))
      rw [hI]
      split <;> rfl
    · cases vld tb td wm th ng size <;> cases bkb tb th <;> rfl
/-! the class -/
def Xt (σx a : cS) : Prop := (∀ k, k ≠ 20 → k ≠ 22 → k ≠ 999 → a.1 k = σx.1 k) ∧ ∀ i, i ≠ 21 → a.1 999 i = σx.1 999 i
theorem Xt.rf : Xt σx σx := ⟨fun _ _ _ _ => rfl, fun _ _ => rfl⟩
theorem Xt.ex (h : Xt σx a) : Ex σx a := ⟨fun k hk => h.1 k (by omega) (by omega) (by omega), fun i hi => h.2 i (by omega)⟩
theorem Xt.st {k i : Nat} {v : Int32} (h : Xt σx a) (hk : k = 20 ∨ k = 22 ∨ (k = 999 ∧ i = 21)) : Xt σx (si a k i v) := by
  refine ⟨fun j j1 j2 j3 => by rw [si_o (by omega)]; exact h.1 j j1 j2 j3, fun j hj => ?_⟩
  by_cases e : k = 999
  · subst e; rw [si_p (by omega)]; exact h.2 j hj
  · rw [si_o (fun q => e q.symm)]; exact h.2 j hj
theorem xt_dough {m k : Nat} (hX : Xt σx a) (h1 : σx.1 999 0 = 1) (hV : VfN mm vv ww t lg un (vw σx 1000) σm) (hT : TE tb td wm σm) (hm : m < 10) (hth : th < 10) (hng : ng < 30) (hk : k ≤ 30) (hs : 1 ≤ size ∧ size ≤ 99) : x_doughAt a (nI m) (nI k) (nI th) (nI ng) (nI size) = some (if m = th ∧ ng ≤ k ∧ vld tb td wm th ng size = false then -1 else nI (QN tb td wm th ng size m k)) := by
  have o : ∀ k, k ≠ 20 → k ≠ 22 → k ≠ 999 → a.1 k = σx.1 k := hX.1
  refine ox_dough (σ := σm) (by rw [hX.2 0 (by decide)]; exact h1) hT ?_ (fun i hi => ?_) (fun i hi => ?_) hm hth hng hk hs
  · rw [o 1999 (by decide) (by decide) (by decide)]; exact hV.2.2.2.1.1.trans hT.1
  · rw [o 1009 (by decide) (by decide) (by decide)]
    obtain ⟨d, -, h2, h3⟩ := hV.2.2.2.1.2.1 i hi
    exact h2.trans h3.symm
  · rw [o 1010 (by decide) (by decide) (by decide)]
    exact hV.1.2.2.2.2.1 i hi
theorem ox_can (hX : Xt σx a) (h1 : σx.1 999 0 = 1) (hV : VfN mm vv ww t lg un (vw σx 1000) σm) (hT : TE tb td wm σm) (hth : th < mm) (hng : ng < 30) (hs : 1 ≤ size ∧ size ≤ 99) : x_canBeTheft a (nI th) (nI ng) (nI size) = some (if fit tb td wm lg size σm th ng = true then 1 else 0) := by
  have h10 := hV.1.m10
  have o : ∀ k, k ≠ 20 → k ≠ 22 → k ≠ 999 → a.1 k = σx.1 k := hX.1
  have hz : nz (a.1 999 0) = true := nz_1 (by rw [hX.2 0 (by decide)]; exact h1)
  have hLG := LG.of hV.2.2.1 h10
  obtain ⟨l1, l2, l3⟩ := hLG
  have e4 : a.1 1999 4 = nI lg := by rw [o 1999 (by decide) (by decide) (by decide)]; exact hV.2.2.1.1.1
  have e6 : a.1 1999 6 = tb := by rw [o 1999 (by decide) (by decide) (by decide)]; exact hV.2.2.2.1.1.trans hT.1
  have key : OO (x_canBeTheft a (nI th) (nI ng) (nI size)) (fun r => r = if fit tb td wm lg size σm th ng = true then 1 else 0) := by
    unfold x_canBeTheft
    refine OO.g hz (OO.b (x_has_eq _ _) ?_)
    rw [e6]
    rcases bkb_c tb th with ⟨f1, f2⟩ | ⟨f1, f2⟩
    · rw [f1]
      refine OO.t rfl (OO.b (xt_dough hX h1 hV hT (by omega) (by omega) hng (by omega) hs) ?_)
      cases hv : vld tb td wm th ng size with
      | false =>
        refine OO.t (if_pos ⟨rfl, Nat.le_refl _, rfl⟩) (OO.ret ?_)
        rw [if_neg]
        intro q
        have := (fit_and.mp q).2.1
        rw [hv] at this; cases this
      | true =>
        have hQ := QN_le (tb := tb) (td := td) (wm := wm) (th := th) (ng := ng) (size := size) (m := th) (k := ng) (hT.2.1 th (by omega)).1
        have ev : (if th = th ∧ ng ≤ ng ∧ true = false then (-1 : Int32) else nI (QN tb td wm th ng size th ng)) = nI (QN tb td wm th ng size th ng) := if_neg (fun q => absurd q.2.2 (by decide))
        refine OO.e (by rw [ev]; exact nI_nm1 (by omega)) ?_
        refine OO.loop (S := Unit) (L := fun n _ i => x_canBeTheft_32 a (nI th) (nI ng) (nI size) (some 1) n (3 * i)) (I := fun k _ => fitL tb td wm th ng size σm k = true) (N := lg) ?_ ?_ lg 0 (by omega) FU (FU_gt (by omega)) () rfl
        · intro n k _ hk hI kk
          show OO (x_canBeTheft_32 _ _ _ _ _ (n + 1) (3 * nI k)) _
          have e3 : (3 : Int32) * nI k = nI (3 * k) := by rw [show (3 : Int32) = nI 3 from rfl, pk_mul]
          rw [x_canBeTheft_32, e3, e4, show (3 : Int32) * nI lg = nI (3 * lg) by rw [show (3 : Int32) = nI 3 from rfl, pk_mul], nI_1, show (2 : Int32) = nI 2 from rfl, nI_add, show (3 : Int32) = nI 3 from rfl, nI_add]
          refine OO.g hz (OO.e (nI_ge (by omega) (by omega)) (OO.g (inbn (by omega) (by decide)) (OO.g (inbn (by omega) (by decide)) ?_)))
          obtain ⟨⟨nn, p1, p2, p3⟩, ⟨mq, p4, p5, p6⟩, p7⟩ := hV.2.2.1.2 k hk
          rw [ixn (by omega), ixn (by omega), ixn (by omega), o 1015 (by decide) (by decide) (by decide), show σx.1 1015 (3 * k + 1) = nI mq from p5, show σx.1 1015 (3 * k) = nI nn from p2, show σx.1 1015 (3 * k + 2) = σm.1 14 k from p7]
          refine OO.b (xt_dough hX h1 hV hT (by omega : mq < 10) (by omega) hng p1 hs) (OO.g (inbn (by omega) (by decide)) ?_)
          have ev : (if mq = th ∧ ng ≤ nn ∧ vld tb td wm th ng size = false then (-1 : Int32) else nI (QN tb td wm th ng size mq nn)) = nI (QN tb td wm th ng size mq nn) := if_neg (fun q => by rw [hv] at q; exact absurd q.2.2 (by decide))
          rw [ev]
          have hfl : fitL tb td wm th ng size σm (k + 1) = (fitL tb td wm th ng size σm k && decide (nI (QN tb td wm th ng size mq nn) = σm.1 14 k)) := by
            show (fitL tb td wm th ng size σm k && decide (nI (QN tb td wm th ng size (ix (σm.1 13 k)) (ix (σm.1 12 k))) = σm.1 14 k)) = _
            rw [p6, p3, ixn (by omega), ixn (by omega)]
          refine OO.ii (fun q => ?_) (fun q => OO.ret ?_)
          · have := kk () (by rw [hfl, hI, decide_eq_true q]; rfl)
            rw [show nI (3 * k + 3) = 3 * nI (k + 1) by rw [show (3 : Int32) = nI 3 from rfl, pk_mul, show 3 * (k + 1) = 3 * k + 3 by omega]]
            exact this
          · rw [if_neg]
            intro x
            have hall := (fit_and.mp x).2.2
            have mono : ∀ j, k + 1 ≤ j → fitL tb td wm th ng size σm j = true → fitL tb td wm th ng size σm (k + 1) = true := by
              intro j
              induction j with
              | zero => intro h; omega
              | succ j ih =>
                intro h hh
                by_cases e : k + 1 = j + 1
                · rw [e]; exact hh
                · have hh2 : (fitL tb td wm th ng size σm j && decide (nI (QN tb td wm th ng size (ix (σm.1 13 j)) (ix (σm.1 12 j))) = σm.1 14 j)) = true := hh
                  exact ih (by omega) (Bool.and_eq_true_iff.mp hh2).1
            have h3 := mono lg (by omega) hall
            rw [hfl, decide_eq_false q, Bool.and_false] at h3
            cases h3
        · intro n _ hI
          show OO (x_canBeTheft_32 _ _ _ _ _ (n + 1) (3 * nI lg)) _
          rw [x_canBeTheft_32, e4]
          refine OO.g hz (OO.t ((i_le _ _).mpr (Int.le_refl _)) (OO.ret ?_))
          rw [if_pos (fit_and.mpr ⟨f2, hv, hI⟩)]
    · rw [f1]
      refine OO.e (by decide) (OO.ret ?_)
      rw [if_neg]
      intro q
      have := (fit_and.mp q).1
      rw [f2] at this; cases this
  obtain ⟨r, hr, rfl⟩ := key
  exact hr
theorem gD_app {L : List Nat} {x i : Nat} (h : i < L.length) : (L ++ [x]).getD i 0 = L.getD i 0 := by
  rw [List.getD_eq_getElem?_getD, List.getD_eq_getElem?_getD, List.getElem?_append_left h]
/-- the thefts that can be, among the first k places -/
def lst (F : Nat → Bool) : Nat → List Nat
  | 0 => []
  | k + 1 => if F k = true then lst F k ++ [k] else lst F k
theorem lst_le (F : Nat → Bool) : ∀ k, (lst F k).length ≤ k ∧ ∀ j ∈ lst F k, j < k := by
  intro k
  induction k with
  | zero => exact ⟨Nat.le_refl _, fun j hj => absurd hj List.not_mem_nil⟩
  | succ k ih =>
    unfold lst
    split
    · refine ⟨by rw [List.length_append, List.length_singleton]; omega, fun j hj => ?_⟩
      rcases List.mem_append.mp hj with h | h
      · have := ih.2 j h; omega
      · rw [List.mem_singleton.mp h]; omega
    · exact ⟨by omega, fun j hj => by have := ih.2 j hj; omega⟩
abbrev Ft (tb : Int32) (td wm : Nat → Nat) (lg size : Nat) (σ : cS) (k : Nat) : Bool := fit tb td wm lg size σ (k / 30) (k % 30)
theorem ox_gathers (hX : Xt σx a) (h1 : σx.1 999 0 = 1) (hV : VfN mm vv ww t lg un (vw σx 1000) σm) (hT : TE tb td wm σm) (hs : 1 ≤ size ∧ size ≤ 99) : OO (x_gathersThefts a (nI size)) (fun b => Xt σx b ∧ b.1 22 = a.1 22 ∧ b.1 999 21 = nI (lst (Ft tb td wm lg size σm) (30 * mm)).length ∧ ∀ i, i < (lst (Ft tb td wm lg size σm) (30 * mm)).length → b.1 20 i = nI ((lst (Ft tb td wm lg size σm) (30 * mm)).getD i 0)) := by
  have h10 := hV.1.m10
  unfold x_gathersThefts
  refine OO.loop (S := cS) (L := fun n s i => x_gathersThefts_7 (nI size) (fun s => some s) n s i) (I := fun k s => Xt σx s ∧ s.1 22 = a.1 22 ∧ s.1 999 21 = nI (lst (Ft tb td wm lg size σm) k).length ∧ ∀ i, i < (lst (Ft tb td wm lg size σm) k).length → s.1 20 i = nI ((lst (Ft tb td wm lg size σm) k).getD i 0)) (N := 30 * mm) ?_ ?_ (30 * mm) 0 (by omega) FU (FU_gt (by omega)) (si a 999 21 0) ⟨hX.st (by omega), si_o (by decide), si_a, fun i hi => absurd hi (Nat.not_lt_zero i)⟩
  · intro n k s hk ⟨q1, q2, q3, q4⟩ kk
    show OO (x_gathersThefts_7 _ _ (n + 1) s (nI k)) _
    have dm : s.1 1999 0 = nI mm := by rw [q1.1 1999 (by decide) (by decide) (by decide)]; exact hV.1.dm
    have hz : nz (s.1 999 0) = true := nz_1 (by rw [q1.2 0 (by decide)]; exact h1)
    have hll := (lst_le (Ft tb td wm lg size σm) k).1
    rw [x_gathersThefts_7, dm, show (30 : Int32) = nI 30 from rfl, pk_mul, pk_rem (by omega) (by decide) (by decide), pk_div (by omega) (by decide) (by decide), nI_1, q3, ixn (by omega)]
    refine OO.g hz (OO.e (nI_ge hk (by omega)) (OO.b (ox_can q1 h1 hV hT (by omega : k / 30 < mm) (Nat.mod_lt _ (by decide)) hs) ?_))
    have hl : lst (Ft tb td wm lg size σm) (k + 1) = if fit tb td wm lg size σm (k / 30) (k % 30) = true then lst (Ft tb td wm lg size σm) k ++ [k] else lst (Ft tb td wm lg size σm) k := rfl
    by_cases c : fit tb td wm lg size σm (k / 30) (k % 30) = true
    · rw [if_pos c] at hl ⊢
      refine OO.e (by decide) (OO.g (inbn (by omega) (by decide)) (OO.n ?_))
      rw [si_o (by decide : 999 ≠ 20), q3, nI_1]
      refine kk _ ⟨(q1.st (by omega)).st (by omega), by rw [si_o (by decide), si_o (by decide)]; exact q2, ?_, fun i hi => ?_⟩
      · rw [si_a, hl, List.length_append, List.length_singleton]
      · rw [hl, List.length_append, List.length_singleton] at hi
        rw [si_o (by decide), hl]
        by_cases e : i = (lst (Ft tb td wm lg size σm) k).length
        · subst e
          rw [si_a]
          simp [List.getD]
        · rw [si_p e, q4 i (by omega)]
          simp [List.getD, List.getElem?_append_left (show i < (lst (Ft tb td wm lg size σm) k).length by omega)]
    · rw [if_neg c] at hl ⊢
      refine OO.t rfl (kk s ⟨q1, q2, by rw [hl]; exact q3, fun i hi => ?_⟩)
      rw [hl] at hi ⊢
      exact q4 i hi
  · intro n s ⟨q1, q2, q3, q4⟩
    show OO (x_gathersThefts_7 _ _ (n + 1) s (nI (30 * mm))) _
    have dm : s.1 1999 0 = nI mm := by rw [q1.1 1999 (by decide) (by decide) (by decide)]; exact hV.1.dm
    have hz : nz (s.1 999 0) = true := nz_1 (by rw [q1.2 0 (by decide)]; exact h1)
    rw [x_gathersThefts_7, dm, show (30 : Int32) = nI 30 from rfl, pk_mul]
    exact OO.g hz (OO.t (nI_le (Nat.le_refl _) (by omega)) (OO.ret ⟨q1, q2, q3, q4⟩))
/-- the model's counts of thefts, and its first -/
def Fst (L : List Nat) (v3 v4 v5 : Int32) : Prop := v3 = nI L.length ∧ (L = [] → v4 = -2 ∧ v5 = -2) ∧ (L ≠ [] → v4 = nI (L.getD 0 0 / 30) ∧ v5 = nI (L.getD 0 0 % 30))
theorem op_theft (h : PL σx rs im σm) (v1 v2 : Int32) : JP rs im (x_theft σx v1 v2) (m_theft σm v1 v2) := by
  unfold x_theft m_theft
  rcases q_isStrip h with ⟨h0, hs⟩ | ⟨h1, hs, mm, vv, ww, t, lg, un, hV⟩
  · exact JJ.tl h0 (JJ.br hs (JJ.tr rfl (JJ.ret ⟨rfl, h⟩)))
  have h10 := hV.1.m10
  refine JJ.el (by rw [h1]; decide) (JJ.br hs (JJ.er (by decide) (JJ.bl (x_in_eq v1 1 99) (JJ.br (m_in_eq v1 1 99) ?_))))
  rcases ib_nat (v := v1) (lo := 1) (hi := 99) (by decide) (by decide) with e | ⟨size, n1, n99, rfl, e⟩
  · exact JJ.tl e (JJ.tr e (JJ.ret ⟨rfl, h⟩))
  refine JJ.el (fun q => by rw [show ib (nI size) 1 99 = 1 from e] at q; exact absurd q (by decide)) (JJ.er (fun q => by rw [show ib (nI size) 1 99 = 1 from e] at q; exact absurd q (by decide)) (JJ.bl (x_in_eq v2 0 2) (JJ.br (m_in_eq v2 0 2) (JJ.ii Iff.rfl (fun _ _ => JJ.ret ⟨rfl, h⟩) (fun _ _ => ?_)))))
  obtain ⟨td, wm, hT⟩ := TE.of hV.2.2.2.1
  have hLG := LG.of hV.2.2.1 h10
  have hs : 1 ≤ size ∧ size ≤ 99 := ⟨n1, n99⟩
  refine JJ.ol (ox_gathers Xt.rf h1 hV hT hs) (fun a ⟨x1, _, x3, x4⟩ => ?_)
  have key : OO (m_theft_46 (nI size) v2 (fun σ_24 v_25 v_26 v_27 => if v2 = 0 then some (σ_24, v_25) else if v2 = 1 then some (σ_24, v_26) else some (σ_24, v_27)) FU σm 0 (-2) (-2) 0) (fun q => Mt σm q.1 ∧ ∃ v3 v4 v5, Fst (lst (Ft (σm.1 16 0) td wm lg size σm) (30 * mm)) v3 v4 v5 ∧ q.2 = if v2 = 0 then v3 else if v2 = 1 then v4 else v5) := by
    refine OO.loop (S := cS × Int32 × Int32 × Int32) (L := fun n s i => m_theft_46 (nI size) v2 _ n s.1 s.2.1 s.2.2.1 s.2.2.2 i) (I := fun m s => Mt σm s.1 ∧ Fst (lst (Ft (σm.1 16 0) td wm lg size σm) (30 * m)) s.2.1 s.2.2.1 s.2.2.2) (N := mm) ?_ ?_ mm 0 (by omega) FU (FU_gt (by omega)) (σm, 0, -2, -2) ⟨Mt.rf, rfl, fun _ => ⟨rfl, rfl⟩, fun q => absurd rfl q⟩
    · rintro n m ⟨s, v3, v4, v5⟩ hm ⟨q1, q2⟩ kk
      dsimp only at q1 q2
      show OO (m_theft_46 _ _ _ (n + 1) s v3 v4 v5 (nI m)) _
      rw [m_theft_46, nI_1]
      refine OO.e (by rw [show ix 0 = 0 from rfl, q1.1 1 (by decide) (by decide) (by decide), hV.1.m_]; exact nI_ge hm (by omega)) ?_
      refine OO.loop (S := cS × Int32 × Int32 × Int32) (L := fun n s i => m_theft_60 (nI size) v2 (nI m) _ n s.1 s.2.1 s.2.2.1 s.2.2.2 i) (I := fun k s => Mt σm s.1 ∧ Fst (lst (Ft (σm.1 16 0) td wm lg size σm) (30 * m + k)) s.2.1 s.2.2.1 s.2.2.2) (N := 30) ?_ ?_ 30 0 (by decide) FU (FU_gt (by decide)) (s, v3, v4, v5) ⟨q1, q2⟩
      · rintro n' k ⟨s, v3, v4, v5⟩ hk ⟨q1, q2, q3, q4⟩ kk2
        dsimp only at q1 q2 q3 q4
        show OO (m_theft_60 _ _ _ _ (n' + 1) s v3 v4 v5 (nI k)) _
        rw [m_theft_60, nI_1]
        refine OO.e (nI_ge (a := k) (b := 30) hk (by decide)) (OO.bd (om_fit q1 hT hLG hV.1.m_ h10 hm hk hs) ?_)
        rintro ⟨s2, r⟩ ⟨f1, f2, f3, f4⟩
        dsimp only at f1 f3
        have hl : lst (Ft (σm.1 16 0) td wm lg size σm) (30 * m + k + 1) = if fit (σm.1 16 0) td wm lg size σm m k = true then lst (Ft (σm.1 16 0) td wm lg size σm) (30 * m + k) ++ [30 * m + k] else lst (Ft (σm.1 16 0) td wm lg size σm) (30 * m + k) := by
          show (if fit (σm.1 16 0) td wm lg size σm ((30 * m + k) / 30) ((30 * m + k) % 30) = true then _ else _) = _
          rw [show (30 * m + k) / 30 = m by omega, show (30 * m + k) % 30 = k by omega]
        have hll := (lst_le (Ft (σm.1 16 0) td wm lg size σm) (30 * m + k)).1
        by_cases c : fit (σm.1 16 0) td wm lg size σm m k = true
        · rw [if_pos c] at hl f3
          subst f3
          refine OO.e (by decide) ?_
          by_cases e0 : lst (Ft (σm.1 16 0) td wm lg size σm) (30 * m + k) = []
          · rw [e0] at q2
            have : v3 = 0 := q2
            subst this
            refine OO.b (if_pos rfl) (OO.t rfl (kk2 (s2, 0 + 1, nI m, nI k) ⟨f1, ?_⟩))
            rw [show 30 * m + (k + 1) = 30 * m + k + 1 by omega, hl, e0]
            refine ⟨rfl, fun q => absurd q (by simp), fun _ => ?_⟩
            show nI m = nI ((30 * m + k) / 30) ∧ nI k = nI ((30 * m + k) % 30)
            rw [show (30 * m + k) / 30 = m by omega, show (30 * m + k) % 30 = k by omega]
            exact ⟨rfl, rfl⟩
          · have hne : (lst (Ft (σm.1 16 0) td wm lg size σm) (30 * m + k)).length ≠ 0 := fun q => e0 (List.length_eq_zero_iff.mp q)
            have hv3 : ¬ v3 = 0 := by rw [q2]; exact nI_ne0 (by omega) (by omega)
            refine OO.b (if_neg hv3) (OO.e hv3 (kk2 (s2, v3 + 1, v4, v5) ⟨f1, ?_⟩))
            rw [show 30 * m + (k + 1) = 30 * m + k + 1 by omega, hl]
            refine ⟨?_, fun q => absurd q (by simp), fun _ => ?_⟩
            · dsimp only; rw [q2, nI_1, List.length_append, List.length_singleton]
            · have := q4 e0
              rw [show (lst (Ft (σm.1 16 0) td wm lg size σm) (30 * m + k) ++ [30 * m + k]).getD 0 0 = (lst (Ft (σm.1 16 0) td wm lg size σm) (30 * m + k)).getD 0 0 from gD_app (by omega)]
              exact this
        · rw [if_neg c] at hl f3
          subst f3
          refine OO.t rfl (kk2 (s2, v3, v4, v5) ⟨f1, ?_⟩)
          rw [show 30 * m + (k + 1) = 30 * m + k + 1 by omega, hl]
          exact ⟨q2, q3, q4⟩
      · rintro n' ⟨s, v3, v4, v5⟩ ⟨q1, q2⟩
        dsimp only at q1 q2
        show OO (m_theft_60 _ _ _ _ (n' + 1) s v3 v4 v5 (nI 30)) _
        rw [m_theft_60]
        exact OO.t (nI_le (a := 30) (Nat.le_refl _) (by decide)) (kk (s, v3, v4, v5) ⟨q1, q2⟩)
    · rintro n ⟨s, v3, v4, v5⟩ ⟨q1, q2⟩
      dsimp only at q1 q2
      show OO (m_theft_46 _ _ _ (n + 1) s v3 v4 v5 (nI mm)) _
      rw [m_theft_46]
      refine OO.t (by rw [show ix 0 = 0 from rfl, q1.1 1 (by decide) (by decide) (by decide), hV.1.m_]; exact nI_le (Nat.le_refl _) (by omega)) ?_
      refine OO.ii (fun c => OO.ret ⟨q1, v3, v4, v5, q2, by rw [if_pos c]⟩) (fun c => OO.ii (fun c2 => OO.ret ⟨q1, v3, v4, v5, q2, by rw [if_neg c, if_pos c2]⟩) (fun c2 => OO.ret ⟨q1, v3, v4, v5, q2, by rw [if_neg c, if_neg c2]⟩))
  obtain ⟨⟨s, r⟩, hm, f1, v3, v4, v5, ⟨g1, g2, g3⟩, er⟩ := key
  dsimp only at f1 er
  have hP : PL a rs im s := h.mv x1.ex f1.em
  rw [hm, x3]
  have hll := lst_le (Ft (σm.1 16 0) td wm lg size σm) (30 * mm)
  by_cases c : v2 = 0
  · rw [if_pos c] at er
    exact JJ.tl c (JJ.ret ⟨by dsimp only; rw [er, g1], hP⟩)
  · rw [if_neg c] at er
    refine JJ.el c ?_
    by_cases e0 : lst (Ft (σm.1 16 0) td wm lg size σm) (30 * mm) = []
    · refine JJ.tl (by rw [e0]; rfl) (JJ.ret ⟨?_, hP⟩)
      dsimp only
      rw [er, (g2 e0).1, (g2 e0).2]
      split <;> rfl
    · have hne : (lst (Ft (σm.1 16 0) td wm lg size σm) (30 * mm)).length ≠ 0 := fun q => e0 (List.length_eq_zero_iff.mp q)
      have h300 := hll.1
      refine JJ.el (nI_ne0 (by omega) (by omega)) ?_
      have hx0 := x4 0 (by omega)
      have hlt : (lst (Ft (σm.1 16 0) td wm lg size σm) (30 * mm)).getD 0 0 < 30 * mm := by
        have hlen : 0 < (lst (Ft (σm.1 16 0) td wm lg size σm) (30 * mm)).length := by omega
        refine hll.2 _ ?_
        rw [List.getD, List.getElem?_eq_getElem hlen]
        exact List.getElem_mem hlen
      rw [show ix 0 = 0 from rfl, hx0, show (30 : Int32) = nI 30 from rfl, pk_rem (by omega) (by decide) (by decide), pk_div (by omega) (by decide) (by decide)]
      by_cases c2 : v2 = 1
      · rw [if_pos c2] at er
        exact JJ.tl c2 (JJ.ret ⟨by dsimp only; rw [er, (g3 e0).1], hP⟩)
      · rw [if_neg c2] at er
        exact JJ.el c2 (JJ.ret ⟨by dsimp only; rw [er, (g3 e0).2], hP⟩)
end TF
