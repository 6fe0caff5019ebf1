/-! PURE LAW: weigh -/
set_option maxRecDepth 100000
def ctl (f : Nat → Nat) (L : List Nat) (d : Nat) : Nat := (L.filter (fun j => decide (f j = d))).length
theorem ctl_s (f : Nat → Nat) (L : List Nat) (x d : Nat) : ctl f (L ++ [x]) d = ctl f L d + (if f x = d then 1 else 0) := by
  unfold ctl
  rw [List.filter_append, List.length_append]
  congr 1
  by_cases h : f x = d <;> simp [h]
theorem ctl_le (f : Nat → Nat) (L : List Nat) (d : Nat) : ctl f L d ≤ L.length := List.length_filter_le _ _
def mxd (f : Nat → Nat) : Nat → Nat
  | 0 => 0
  | j + 1 => max (mxd f j) (f j)
theorem mxd_ge (f : Nat → Nat) : ∀ n j, j < n → f j ≤ mxd f n := by
  intro n
  induction n with
  | zero => intro j h; omega
  | succ n ih =>
    intro j h
    show f j ≤ max (mxd f n) (f n)
    by_cases e : j = n
    · subst e; omega
    · have := ih j (by omega); omega
theorem mxd_le (f : Nat → Nat) {b : Nat} : ∀ n, (∀ j, j < n → f j ≤ b) → mxd f n ≤ b := by
  intro n
  induction n with
  | zero => intro _; exact Nat.zero_le _
  | succ n ih =>
    intro h
    show max (mxd f n) (f n) ≤ b
    have h1 := ih (fun j hj => h j (by omega))
    have h2 := h n (by omega)
    omega
theorem mxd_at (f : Nat → Nat) : ∀ n, mxd f n = 0 ∨ ∃ j, j < n ∧ mxd f n = f j := by
  intro n
  induction n with
  | zero => exact Or.inl rfl
  | succ n ih =>
    show max (mxd f n) (f n) = 0 ∨ ∃ j, j < n + 1 ∧ max (mxd f n) (f n) = f j
    by_cases e : mxd f n ≤ f n
    · exact Or.inr ⟨n, by omega, by omega⟩
    · rcases ih with h | ⟨j, h1, h2⟩
      · omega
      · exact Or.inr ⟨j, by omega, by omega⟩
theorem mxd_up {f g : Nat → Nat} {v n : Nat} (hv : v < n) (h1 : g v = f v + 1) (h2 : ∀ j, j ≠ v → g j = f j) : mxd g n = max (mxd f n) (f v + 1) := by
  apply Nat.le_antisymm
  · refine mxd_le g n (fun j hj => ?_)
    by_cases e : j = v
    · subst e; rw [h1]; omega
    · rw [h2 j e]
      have := mxd_ge f n j hj
      omega
  · have a1 := mxd_ge g n v hv
    rw [h1] at a1
    have a2 : mxd f n ≤ mxd g n := by
      refine mxd_le f n (fun j hj => ?_)
      have := mxd_ge g n j hj
      by_cases e : j = v
      · subst e; omega
      · rw [h2 j e] at this; exact this
    omega
def sel (al : Nat → Nat) : Nat → Nat × Nat
  | 0 => (0, 0)
  | 1 => (0, al 0)
  | j + 2 => if al (j + 1) < (sel al (j + 1)).2 then (j + 1, al (j + 1)) else sel al (j + 1)
theorem sel_s {al : Nat → Nat} {j : Nat} (h : 1 ≤ j) : sel al (j + 1) = if al j < (sel al j).2 then (j, al j) else sel al j := by
  obtain ⟨k, rfl⟩ : ∃ k, j = k + 1 := ⟨j - 1, by omega⟩
  rfl
theorem sel_le {al : Nat → Nat} {b : Nat} (h : ∀ j, al j ≤ b) : ∀ j, (sel al j).2 ≤ b ∧ ((sel al j).1 < j ∨ j = 0) := by
  intro j
  induction j with
  | zero => exact ⟨Nat.zero_le _, Or.inr rfl⟩
  | succ j ih =>
    by_cases e : j = 0
    · subst e; exact ⟨h 0, Or.inl (by show 0 < 1; omega)⟩
    · rw [sel_s (by omega)]
      split
      · exact ⟨h j, Or.inl (by show j < j + 1; omega)⟩
      · exact ⟨ih.1, Or.inl (by rcases ih.2 with q | q <;> omega)⟩
theorem lst_F (F : Nat → Bool) : ∀ k, ∀ j ∈ lst F k, F j = true := by
  intro k
  induction k with
  | zero => intro j hj; exact absurd hj List.not_mem_nil
  | succ k ih =>
    intro j hj
    unfold lst at hj
    split at hj
    · rename_i c
      rcases List.mem_append.mp hj with h | h
      · exact ih j h
      · rw [List.mem_singleton.mp h]; exact c
    · exact ih j hj
section WE
variable {σx σm σx' σm' : cS} {rs : List RS} {im : IM} {cz mm vv ww t u lg un un' O n th ng size : Nat} {δ σ δ' σ' z w a b c β β0 β' : cS} {R : Option RS} {B tb : Int32} {td wm : Nat → Nat}
/-- dough of mile q at night n, by the theft at place j -/
abbrev fq (tb : Int32) (td wm : Nat → Nat) (size n q j : Nat) : Nat := QN tb td wm (j / 30) (j % 30) size q n
theorem fq_lt {q j : Nat} (hT : TE tb td wm σm) (hq : q < 10) : fq tb td wm size n q j < 100 := by
  have := QN_le (tb := tb) (td := td) (wm := wm) (th := j / 30) (ng := j % 30) (size := size) (m := q) (k := n) (hT.2.1 q hq).1
  show QN _ _ _ _ _ _ _ _ < 100
  omega
/-- the class: how many thefts are alike at most -/
theorem ox_alike {q : Nat} {L : List Nat} (hX : Xt σx a) (h1 : σx.1 999 0 = 1) (hV : VfN mm vv ww t lg un (vw σx 1000) σm) (hT : TE tb td wm σm) (hs : 1 ≤ size ∧ size ≤ 99) (hn : n ≤ 30) (hq : q < mm) (hL : L = lst (Ft tb td wm lg size σm) (30 * mm)) (h21 : a.1 999 21 = nI L.length) (h20 : ∀ i, i < L.length → a.1 20 i = nI (L.getD i 0)) : OO (x_alikeAt a (nI q) (nI n) (nI size)) (fun p => Xt σx p.1 ∧ p.1.1 999 21 = nI L.length ∧ (∀ i, i < L.length → p.1.1 20 i = nI (L.getD i 0)) ∧ p.2 = nI (mxd (ctl (fq tb td wm size n q) L) 100)) := by
  have h10 := hV.1.m10
  have hlen : L.length ≤ 300 := by rw [hL]; have := (lst_le (Ft tb td wm lg size σm) (30 * mm)).1; omega
  unfold x_alikeAt
  refine OO.loop (S := cS) (L := fun f s i => x_alikeAt_6 (nI q) (nI n) (nI size) _ f s i) (I := fun j s => Xt σx s ∧ s.1 999 21 = nI L.length ∧ s.1 20 = a.1 20 ∧ ∀ d, d < j → s.1 22 d = 0) (N := 100) ?_ ?_ 100 0 (by decide) FU (FU_gt (by decide)) a ⟨hX, h21, rfl, fun d hd => absurd hd (by omega)⟩
  · intro f j s hj ⟨q1, q2, q3, q4⟩ kk
    show OO (x_alikeAt_6 _ _ _ _ (f + 1) s (nI j)) _
    rw [x_alikeAt_6, nI_1, ixn (by omega)]
    refine OO.e (nI_ge (a := j) (b := 100) hj (by decide)) (OO.g (inbn hj (by decide)) (kk _ ⟨q1.st (by omega), by rw [si_o (by decide)]; exact q2, by rw [si_o (by decide)]; exact q3, fun d hd => ?_⟩))
    by_cases e : d = j
    · subst e; exact si_a
    · rw [si_p e]; exact q4 d (by omega)
  intro f s ⟨q1, q2, q3, q4⟩
  show OO (x_alikeAt_6 _ _ _ _ (f + 1) s (nI 100)) _
  rw [x_alikeAt_6]
  refine OO.t (nI_le (a := 100) (Nat.le_refl _) (by decide)) ?_
  refine OO.loop (S := cS × Int32) (L := fun f s i => x_alikeAt_30 (nI q) (nI n) (nI size) (fun σ_9 v_10 => some (σ_9, v_10)) f s.1 s.2 i) (I := fun i s => Xt σx s.1 ∧ s.1.1 999 21 = nI L.length ∧ s.1.1 20 = a.1 20 ∧ (∀ d, d < 100 → s.1.1 22 d = nI (ctl (fq tb td wm size n q) (L.take i) d)) ∧ s.2 = nI (mxd (ctl (fq tb td wm size n q) (L.take i)) 100)) (N := L.length) ?_ ?_ L.length 0 (by omega) FU (FU_gt (by omega)) (s, 0) ⟨q1, q2, q3, fun d hd => by dsimp only; rw [q4 d hd]; rfl, ?_⟩
  · rintro f i ⟨s, v⟩ hi ⟨q1, q2, q3, q4, q5⟩ kk
    dsimp only at q1 q2 q3 q4 q5
    show OO (x_alikeAt_30 _ _ _ _ (f + 1) s v (nI i)) _
    have hLi : L.getD i 0 ∈ L := by
      rw [List.getD_eq_getElem?_getD, List.getElem?_eq_getElem hi]
      exact List.getElem_mem hi
    have hlt : L.getD i 0 < 30 * mm := (lst_le (Ft tb td wm lg size σm) (30 * mm)).2 _ (by rw [← hL]; exact hLi)
    have hF : fit tb td wm lg size σm (L.getD i 0 / 30) (L.getD i 0 % 30) = true := lst_F (Ft tb td wm lg size σm) (30 * mm) _ (by rw [← hL]; exact hLi)
    have hv := (fit_and.mp hF).2.1
    rw [x_alikeAt_30, q2, ixn (by omega), nI_1, q3, h20 i hi, show (30 : Int32) = nI 30 from rfl, pk_rem (by omega) (by decide) (by decide), pk_div (by omega) (by decide) (by decide)]
    refine OO.e (nI_ge hi (by omega)) (OO.g (inbn (by omega) (by decide)) ?_)
    refine OO.b (a := nI (fq tb td wm size n q (L.getD i 0))) ?_ ?_
    · rw [xt_dough q1 h1 hV hT (by omega) (by omega) (Nat.mod_lt _ (by decide)) hn hs, hv]
      exact congrArg some (if_neg (fun x => absurd x.2.2 (by decide)))
    · have hf := fq_lt (tb := tb) (td := td) (wm := wm) (size := size) (n := n) (q := q) (j := L.getD i 0) hT (by omega)
      refine OO.g (inbn hf (by decide)) ?_
      rw [ixn (by omega), si_a, q4 _ hf, q5, nI_1]
      have htk : L.take (i + 1) = L.take i ++ [L.getD i 0] := by
        rw [List.take_succ_eq_append_getElem hi, List.getD_eq_getElem?_getD, List.getElem?_eq_getElem hi]; rfl
      have hc1 : ctl (fq tb td wm size n q) (L.take (i + 1)) (fq tb td wm size n q (L.getD i 0)) = ctl (fq tb td wm size n q) (L.take i) (fq tb td wm size n q (L.getD i 0)) + 1 := by rw [htk, ctl_s, if_pos rfl]
      have hc2 : ∀ d, d ≠ fq tb td wm size n q (L.getD i 0) → ctl (fq tb td wm size n q) (L.take (i + 1)) d = ctl (fq tb td wm size n q) (L.take i) d := fun d hd => by rw [htk, ctl_s, if_neg (fun e => hd e.symm), Nat.add_zero]
      have hb1 : ctl (fq tb td wm size n q) (L.take i) (fq tb td wm size n q (L.getD i 0)) ≤ 300 := by
        have := ctl_le (fq tb td wm size n q) (L.take i) (fq tb td wm size n q (L.getD i 0))
        rw [List.length_take] at this
        omega
      have hb2 : mxd (ctl (fq tb td wm size n q) (L.take i)) 100 ≤ 300 := mxd_le _ 100 (fun d _ => by
        have := ctl_le (fq tb td wm size n q) (L.take i) d
        rw [List.length_take] at this
        omega)
      have hmx : jmax (nI (mxd (ctl (fq tb td wm size n q) (L.take i)) 100)) (nI (ctl (fq tb td wm size n q) (L.take i) (fq tb td wm size n q (L.getD i 0)) + 1)) = nI (mxd (ctl (fq tb td wm size n q) (L.take (i + 1))) 100) := by
        rw [mxd_up hf hc1 hc2]
        unfold jmax
        rw [ifc (nI_ltI (by omega) (by omega))]
        by_cases c : mxd (ctl (fq tb td wm size n q) (L.take i)) 100 < ctl (fq tb td wm size n q) (L.take i) (fq tb td wm size n q (L.getD i 0)) + 1
        · rw [if_pos c, Nat.max_eq_right (by omega)]
        · rw [if_neg c, Nat.max_eq_left (by omega)]
      rw [hmx]
      refine kk (si s 22 (fq tb td wm size n q (L.getD i 0)) (nI (ctl (fq tb td wm size n q) (L.take i) (fq tb td wm size n q (L.getD i 0)) + 1)), nI (mxd (ctl (fq tb td wm size n q) (L.take (i + 1))) 100)) ⟨q1.st (by omega), (congrFun (si_o (σ := s) (k := 22) (j := 999) (by decide)) 21).trans q2, (si_o (σ := s) (k := 22) (j := 20) (by decide)).trans q3, fun d hd => ?_, rfl⟩
      show (si s 22 (fq tb td wm size n q (L.getD i 0)) (nI (ctl (fq tb td wm size n q) (L.take i) (fq tb td wm size n q (L.getD i 0)) + 1))).1 22 d = _
      by_cases e : d = fq tb td wm size n q (L.getD i 0)
      · subst e; rw [si_a, hc1]
      · rw [si_p e, hc2 d e]; exact q4 d hd
  · rintro f ⟨s, v⟩ ⟨q1, q2, q3, q4, q5⟩
    dsimp only at q1 q2 q3 q4 q5
    show OO (x_alikeAt_30 _ _ _ _ (f + 1) s v (nI L.length)) _
    rw [x_alikeAt_30, q2]
    rw [List.take_length] at q5
    exact OO.t (nI_le (Nat.le_refl _) (by omega)) (OO.ret ⟨q1, q2, fun i hi => by dsimp only; rw [q3]; exact h20 i hi, q5⟩)
  · have e0 : mxd (ctl (fq tb td wm size n q) (L.take 0)) 100 = 0 := by
      have := mxd_le (b := 0) (ctl (fq tb td wm size n q) (L.take 0)) 100 (fun j _ => by have := ctl_le (fq tb td wm size n q) (L.take 0) j; rw [List.take_zero] at this ⊢; exact this)
      omega
    dsimp only
    rw [e0]; rfl
/-- the class: the choice -/
theorem ox_sel {L : List Nat} {w : Int32} (hX : Xt σx a) (h1 : σx.1 999 0 = 1) (hV : VfN mm vv ww t lg un (vw σx 1000) σm) (hT : TE tb td wm σm) (hs : 1 ≤ size ∧ size ≤ 99) (hn : n ≤ 30) (hL : L = lst (Ft tb td wm lg size σm) (30 * mm)) (h21 : a.1 999 21 = nI L.length) (h20 : ∀ i, i < L.length → a.1 20 i = nI (L.getD i 0)) : OO ((x_alikeAt a 0 (nI n) (nI size)).bind fun (σ_16, r_15) => x_weigh_73 (nI size) (nI n) w (fun σ_23 v_24 v_25 => if w = 0 then some (σ_23, v_24) else some (σ_23, v_25)) FU σ_16 0 r_15 1) (fun p => Xt σx p.1 ∧ p.2 = if w = 0 then nI (sel (fun q => mxd (ctl (fq tb td wm size n q) L) 100) mm).1 else nI (sel (fun q => mxd (ctl (fq tb td wm size n q) L) 100) mm).2) := by
  have h10 := hV.1.m10
  have h2 : 2 ≤ mm := hV.1.2.2.2.2.2.1
  have hlen : L.length ≤ 300 := by rw [hL]; have := (lst_le (Ft tb td wm lg size σm) (30 * mm)).1; omega
  have hal : ∀ q, mxd (ctl (fq tb td wm size n q) L) 100 ≤ 300 := fun q => mxd_le _ 100 (fun d _ => by have := ctl_le (fq tb td wm size n q) L d; omega)
  have h0 : OO (x_alikeAt a 0 (nI n) (nI size)) _ := ox_alike (q := 0) hX h1 hV hT hs hn (by omega) hL h21 h20
  refine OO.bd h0 ?_
  rintro ⟨s, r⟩ ⟨q1, q2, q3, q4⟩
  dsimp only at q1 q2 q3 q4
  subst q4
  refine OO.loop (S := cS × Int32 × Int32) (L := fun f s i => x_weigh_73 (nI size) (nI n) w (fun σ_23 v_24 v_25 => if w = 0 then some (σ_23, v_24) else some (σ_23, v_25)) f s.1 s.2.1 s.2.2 i) (I := fun j s => 1 ≤ j ∧ Xt σx s.1 ∧ s.1.1 999 21 = nI L.length ∧ (∀ i, i < L.length → s.1.1 20 i = nI (L.getD i 0)) ∧ s.2.1 = nI (sel (fun q => mxd (ctl (fq tb td wm size n q) L) 100) j).1 ∧ s.2.2 = nI (sel (fun q => mxd (ctl (fq tb td wm size n q) L) 100) j).2) (N := mm) ?_ ?_ (mm - 1) 1 (by omega) FU (FU_gt (by omega)) (s, 0, nI (mxd (ctl (fq tb td wm size n 0) L) 100)) ⟨Nat.le_refl _, q1, q2, q3, rfl, rfl⟩
  · rintro f j ⟨s, x, y⟩ hj ⟨j1, q1, q2, q3, q4, q5⟩ kk
    dsimp only at q1 q2 q3 q4 q5
    subst q4
    subst q5
    show OO (x_weigh_73 _ _ _ _ (f + 1) s _ _ (nI j)) _
    have dm : s.1 1999 0 = nI mm := by rw [q1.1 1999 (by decide) (by decide) (by decide)]; exact hV.1.dm
    have hz : nz (s.1 999 0) = true := nz_1 (by rw [q1.2 0 (by decide)]; exact h1)
    rw [x_weigh_73, dm, nI_1]
    refine OO.g hz (OO.e (nI_ge hj (by omega)) (OO.bd (ox_alike (q := j) q1 h1 hV hT hs hn hj hL q2 q3) ?_))
    rintro ⟨s2, r⟩ ⟨p1, p2, p3, p4⟩
    dsimp only at p1 p2 p3 p4
    subst p4
    have hb := hal j
    have hb2 := (sel_le (al := fun q => mxd (ctl (fq tb td wm size n q) L) 100) hal j).1
    by_cases c : mxd (ctl (fq tb td wm size n j) L) 100 < (sel (fun q => mxd (ctl (fq tb td wm size n q) L) 100) j).2
    · refine OO.t (nI_lt c (by omega)) (kk (s2, nI j, nI (mxd (ctl (fq tb td wm size n j) L) 100)) ⟨by omega, p1, p2, p3, ?_, ?_⟩)
      · dsimp only; rw [sel_s j1, if_pos c]
      · dsimp only; rw [sel_s j1, if_pos c]
    · refine OO.e (nI_nlt (by omega) (by omega)) (kk (s2, _, _) ⟨by omega, p1, p2, p3, ?_, ?_⟩)
      · dsimp only; rw [sel_s j1, if_neg c]
      · dsimp only; rw [sel_s j1, if_neg c]
  · rintro f ⟨s, x, y⟩ ⟨j1, q1, q2, q3, q4, q5⟩
    dsimp only at q1 q2 q3 q4 q5
    subst q4
    subst q5
    show OO (x_weigh_73 _ _ _ _ (f + 1) s _ _ (nI mm)) _
    have dm : s.1 1999 0 = nI mm := by rw [q1.1 1999 (by decide) (by decide) (by decide)]; exact hV.1.dm
    have hz : nz (s.1 999 0) = true := nz_1 (by rw [q1.2 0 (by decide)]; exact h1)
    rw [x_weigh_73, dm]
    refine OO.g hz (OO.t (nI_le (Nat.le_refl _) (by omega)) ?_)
    exact OO.ii (fun c => OO.ret ⟨q1, (if_pos c).symm⟩) (fun c => OO.ret ⟨q1, (if_neg c).symm⟩)
/-- the model: counts of a list of thefts -/
def Al (tb : Int32) (td wm : Nat → Nat) (size n mm : Nat) (L : List Nat) (b : cS) : Prop := ∀ q, q < mm → ∀ d, d < 100 → b.1 62 (100 * q + d) = nI (ctl (fq tb td wm size n q) L d)
theorem om_count {ρ : Type} {P : ρ → Prop} {v1 v3 v4 v5 v6 : Int32} {k : Nat} {L : List Nat} {K : cS → Option ρ} (hM : Mt σm b) (hT : TE tb td wm σm) (hmm : σm.1 1 0 = nI mm) (h10 : mm ≤ 10) (hn : n ≤ 30) (hLl : L.length ≤ 300) (hA : Al tb td wm size n mm L b) (hc : ∀ m, m < mm → ∀ j, j ≤ 30 → b.1 60 (31 * m + j) = nI (QN tb td wm (k / 30) (k % 30) size m j)) (hK : ∀ b', Mt σm b' → Al tb td wm size n mm (L ++ [k]) b' → OO (K b') P) : OO (m_weigh_115 v1 (nI n) v3 v4 v5 v6 K FU b 0) P := by
  refine OO.loop (S := cS) (L := fun f s i => m_weigh_115 v1 (nI n) v3 v4 v5 v6 K f s i) (I := fun j s => Mt σm s ∧ s.1 60 = b.1 60 ∧ (∀ q, q < j → ∀ d, d < 100 → s.1 62 (100 * q + d) = nI (ctl (fq tb td wm size n q) (L ++ [k]) d)) ∧ ∀ q, j ≤ q → q < mm → ∀ d, d < 100 → s.1 62 (100 * q + d) = nI (ctl (fq tb td wm size n q) L d)) (N := mm) ?_ ?_ mm 0 (by omega) FU (FU_gt (by omega)) b ⟨hM, rfl, fun q hq => absurd hq (by omega), fun q _ hq => hA q hq⟩
  · intro f j s hj ⟨q1, q2, q3, q4⟩ kk
    show OO (m_weigh_115 _ _ _ _ _ _ _ (f + 1) s (nI j)) _
    have hf := fq_lt (tb := tb) (td := td) (wm := wm) (size := size) (n := n) (q := j) (j := k) hT (by omega)
    have hcl := ctl_le (fq tb td wm size n j) L (fq tb td wm size n j k)
    rw [m_weigh_115, show (31 : Int32) = nI 31 from rfl, show (100 : Int32) = nI 100 from rfl, pk_mul, pk_mul, nI_add, ixn (show 31 * j + n < 2 ^ 31 by omega), q2, hc j hj n hn, nI_add, nI_1, ixn (show 100 * j + QN tb td wm (k / 30) (k % 30) size j n < 2 ^ 31 by have : QN tb td wm (k / 30) (k % 30) size j n < 100 := hf; omega)]
    refine OO.e (by rw [show ix 0 = 0 from rfl, q1.1 1 (by decide) (by decide) (by decide), hmm]; exact nI_ge hj (by omega)) (OO.g (inbn (by omega) (by decide)) (OO.g (inbn (by have : QN tb td wm (k / 30) (k % 30) size j n < 100 := hf; omega) (by decide)) ?_))
    rw [show QN tb td wm (k / 30) (k % 30) size j n = fq tb td wm size n j k from rfl, q4 j (Nat.le_refl _) hj _ hf, nI_1]
    refine kk _ ⟨⟨fun i i1 i2 i3 => by rw [si_o i2]; exact q1.1 i i1 i2 i3, fun i hi => by rw [si_o (by decide)]; exact q1.2 i hi⟩, by rw [si_o (by decide)]; exact q2, fun q hq d hd => ?_, fun q hq hq2 d hd => ?_⟩
    · by_cases e : q = j
      · subst e
        by_cases e2 : d = fq tb td wm size n q k
        · subst e2
          rw [si_a, ctl_s, if_pos rfl]
        · rw [si_p (by omega), ctl_s, if_neg (fun x => e2 x.symm), Nat.add_zero]
          exact q4 q (Nat.le_refl _) hj d hd
      · rw [si_p (by omega)]
        exact q3 q (by omega) d hd
    · rw [si_p (by omega)]
      exact q4 q (by omega) hq2 d hd
  · intro f s ⟨q1, q2, q3, q4⟩
    show OO (m_weigh_115 _ _ _ _ _ _ _ (f + 1) s (nI mm)) _
    rw [m_weigh_115]
    exact OO.t (by rw [show ix 0 = 0 from rfl, q1.1 1 (by decide) (by decide) (by decide), hmm]; exact nI_le (Nat.le_refl _) (by omega)) (hK s q1 (fun q hq d hd => q3 q hq d hd))
end WE
