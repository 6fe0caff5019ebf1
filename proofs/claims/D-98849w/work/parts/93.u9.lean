/-! PURE LAW: facts, parts, tests: one recursion -/
set_option maxRecDepth 100000
def UFC (σx σm : cS) (r tp : Nat) (M : Int32) (N : Nat) : Prop := ∀ a b p dx cn e o n, Ul σx σm r tp M p dx dx cn e o a b → 12 ≤ N + dx → tp + 3 ≤ n + p → o ≤ 400 → OO (t_F N a) (UGP σx σm r tp p e o b n (T9 n b 1 1) (fun n' y => T9 n' y 0 1) (UQF σx σm r tp M dx cn e o))
def UPC (B : Nat → Int32) (σx σm : cS) (r tp : Nat) (M : Int32) (N : Nat) : Prop := ∀ a b p dx cn e o n, Ul σx σm r tp M p dx dx cn e o a b → (o = 0 ∨ (b.1 44 (o - 1) ≠ 9 ∧ b.1 44 (o - 1) ≠ 10)) → 12 ≤ N + dx → tp + 3 ≤ n + p → o ≤ 400 → OO (t_parted (t_F N) a) (UGP σx σm r tp p e o b n (T9 n b 1 1) C10 (UQP B σx σm r tp M dx cn e o))
def UTC (B : Nat → Int32) (σx σm : cS) (r tp : Nat) (M : Int32) (N : Nat) : Prop := ∀ a b p dx cn e o n, Ul σx σm r tp M p dx dx cn e o a b → (o = 0 ∨ b.1 44 (o - 1) = 12) → 12 ≤ N + dx → tp + 3 ≤ n + p → o ≤ 400 → OO (t_tested (t_parted (t_F N)) a) (UGP σx σm r tp p e o b n (T9 n b 1 1) C11 (UQT B σx σm r tp M dx cn e o))
section UQ
variable {B : Nat → Int32} {tp p p' q w k r dx dm dm' cn cn0 e e0 e1 o o1 op s n n1 N : Nat} {σ β σ' β' σx σm a b y z a' b' b1 : cS} {lo hi M v c : Int32} {φ ψ : Wds → Int32}
theorem UGP.up {lhs lhs1 : Option cS} {R : Nat → cS → Option cS} {Q Q1 : Nat → Nat → Nat → cS → cS → (Wds → Int32) → Prop} {p1 c : Nat} {x : cS × Nat × Option (Wds → Int32)} (h : UGP σx σm r tp p1 e1 o1 b1 n1 lhs1 R Q1 x) (hc : c + p ≤ p1) (hn : n + p ≤ n1 + p1) (hK : Kf r e o b b1) (he : e ≤ e1) (ho : o ≤ o1) (hl : lhs = lhs1) (hQ : ∀ p' cn' e' a' y φ, Kf r e o b y → Q1 p' cn' e' a' y φ → Q p' cn' e' a' y φ) : UGP σx σm r tp p e o b n lhs R Q (x.1, x.2.1 + c, x.2.2) := by
  subst hl
  rcases h with ⟨h1, h2, h3⟩ | ⟨φ, p', cn', e', n', y, h1, h2, h3, h4, h5, h6⟩
  · exact Or.inl ⟨h1, by show x.2.1 + c + p ≤ tp; omega, h3⟩
  · have k := hK.tr h5 he ho
    exact Or.inr ⟨φ, p', cn', e', n', y, h1, by show x.2.1 + c + p ≤ p'; omega, by omega, h4, k, hQ _ _ _ _ _ _ k h6⟩
theorem t_takesWord_eq (hB : TB B tp) (h : TC B tp σ) (hp : p ≤ tp) (hL : (stC w).length ≤ 100) : t_takesWord (cx σ p) w = if wd B tp (sk B tp p) (stC w) = true then some (cx σ (sk B tp p + (stC w).length), 1) else some (cx σ (sk B tp p), 0) := by
  unfold t_takesWord
  rw [t_isWord_eq hB h hp hL]
  cases hw : wd B tp (sk B tp p) (stC w) with
  | false => rfl
  | true =>
    show some (si (cx σ (sk B tp p)) 997 2 ((cx σ (sk B tp p)).1 997 2 + nI (stC w).length), 1) = _
    rw [cx_n, nI_add, if_pos rfl]
    rw [show si (cx σ (sk B tp p)) 997 2 (nI (sk B tp p + (stC w).length)) = cx σ (sk B tp p + (stC w).length) from cx_cx]
theorem takes_sk (hB : TB B tp) (h : TC B tp σ) (hp : p ≤ tp) (hL : (stC w).length ≤ 100) : t_takesWord (cx σ p) w = t_takesWord (cx σ (sk B tp p)) w := by
  rw [t_takesWord_eq hB h hp hL, t_takesWord_eq hB h ((sk_le (B := B) (tp := tp) (p := p)).2.1 hp) hL, sk_sk]
theorem parted_sk {F : cS → Option (cS × Nat × Option (Wds → Int32))} (hB : TB B tp) (h : TC B tp σ) (hp : p ≤ tp) : t_parted_5 F n (cx σ p) φ = t_parted_5 F n (cx σ (sk B tp p)) φ := by
  cases n with
  | zero => rfl
  | succ n => rw [t_parted_5, t_parted_5, takes_sk hB h hp (by rw [st_e.2.2.2.2.2.1]; decide)]
theorem p_loop (hU : UB B tp σx σm r) (ho4 : o ≤ 400) (hF : UFC σx σm r tp M N) (hN : 12 ≤ N + dx) (he0 : e ≤ 5 * cn0) : ∀ k p n1 n a y cn e1 φ, tp - p ≤ k → k < n1 → tp + 3 ≤ n + p → Ul σx σm r tp M p dx dx cn e1 o a y → sk B tp p = p → (o = 0 ∨ (y.1 44 (o - 1) ≠ 9 ∧ y.1 44 (o - 1) ≠ 10)) → Ev r y e e1 (trq φ) → e1 + dx + 2 + 5 * cn0 ≤ e + 5 * cn → OO (t_parted_5 (t_F N) n1 a φ) (UGP σx σm r tp p e1 o y n (C10 n y) C10 (UQP B σx σm r tp M dx cn0 e o)) := by
  intro k
  induction k with
  | zero =>
    intro p n1 n a y cn e1 φ hk hn1 hn h hs ht hE he
    obtain ⟨n1, rfl⟩ : ∃ m, n1 = m + 1 := ⟨n1 - 1, by omega⟩
    have hp := h.1.1
    have hw : wd B tp p (stC 20) = false := by
      cases hw : wd B tp p (stC 20) with
      | false => rfl
      | true =>
        have := wd_len hw (by rw [st_e.2.2.2.2.2.1]; decide)
        rw [st_e.2.2.2.2.2.1] at this
        omega
    rw [t_parted_5, h.ids.1, t_takesWord_eq hU.1 (h.2.2.2.2.2.2.1.tc hU.2.1) hp (by rw [st_e.2.2.2.2.2.1]; decide), hs, hw, ← h.ids.1]
    exact OO.ret (Or.inr ⟨φ, p, cn, e1, n, y, rfl, by show 0 + p ≤ p; omega, Nat.le_refl _, rfl, Kf.rf, ⟨h, hE, he, hs⟩, hw⟩)
  | succ k ih =>
    intro p n1 n a y cn e1 φ hk hn1 hn h hs ht hE he
    obtain ⟨n1, rfl⟩ : ∃ m, n1 = m + 1 := ⟨n1 - 1, by omega⟩
    have h4 := hU.1.1
    have hp := h.1.1
    have ho := h.2.2.2.2.1
    have ho1 := ho.1
    obtain ⟨n, rfl⟩ : ∃ m, n = m + 1 := ⟨n - 1, by omega⟩
    have hMy := h.2.2.2.2.2.2.2.tm hU.2.2.1
    have hC10 := C10_eq (n := n) hU.1 hMy h.1.2.2 (by omega)
    have htk := t_takesWord_eq (w := 20) hU.1 (h.2.2.2.2.2.2.1.tc hU.2.1) hp (by rw [st_e.2.2.2.2.2.1]; decide)
    rw [← h.ids.1, hs, ← h.ids.1] at htk
    rw [t_parted_5, htk]
    cases hw : wd B tp p (stC 20) with
    | false =>
      exact OO.ret (Or.inr ⟨φ, p, cn, e1, n + 1, y, rfl, by show 0 + p ≤ p; omega, Nat.le_refl _, rfl, Kf.rf, ⟨h, hE, he, hs⟩, hw⟩)
    | true =>
      have hl := wd_len hw (by rw [st_e.2.2.2.2.2.1]; decide)
      rw [st_e.2.2.2.2.2.1] at hl ⊢
      rw [hw, wd_no hw (by rw [st_e.2.2.2.2.2.1, st_e.2.2.2.2.2.2.1]; decide)] at hC10
      have hC := hC10.trans (G10_and ho.2 (by omega) h.1.2.2)
      have h1 := h.push (c := 10) (p' := p + 3) hl (by omega)
      have k1 : Kf r e1 o y (mx (psh y o 10) (p + 3)) := Kf.rf.psh (Nat.le_refl _)
      rw [if_pos rfl]
      show OO (addc 1 ((t_F N (cx a (p + 3))).bind fun (σ_21, c_20, o_22) => addc c_20 (thy σ_21 o_22 fun φ_26 => t_parted_5 (t_F N) n1 σ_21 (fun ws => vBoth 1 (φ ws) (φ_26 ws))))) _
      refine OO.add (Q := UGP σx σm r tp (p + 3) e1 o (mx (psh y o 10) (p + 3)) n (T9 n (mx (psh y o 10) (p + 3)) 1 1) C10 (UQP B σx σm r tp M dx cn0 e o)) (OO.bd (hF _ _ _ _ _ _ _ n h1 hN (by omega) (by omega)) ?_) (fun x hx => hx.up (by omega) (by omega) k1 (Nat.le_refl _) (Nat.le_refl _) hC (fun _ _ _ _ _ _ _ z => z))
      rintro ⟨a2, c4, o2⟩ hv
      rcases hv with ⟨v1, v2, y2, v3, v4⟩ | ⟨φ2, p2, cn2, e2, n2, y2, v1, v2, v3, v4, v5, j, ψ, v0, v6, v7, v8, v9, v10⟩
      · dsimp only at v1 v2 v4
        subst v1
        exact OO.ret (Or.inl ⟨rfl, by show 0 + c4 + (p + 3) ≤ tp; omega, y2, v3, v4⟩)
      · dsimp only at v1 v2 v6
        subst v1
        have hp2 := v6.1.1
        have lE := v8.1
        have y44 : y2.1 44 o = 10 := by rw [v5.2.1 o (by omega)]; exact psh_t
        have ylo : ∀ i, i < o → y2.1 44 i = y.1 44 i := fun i hi => by rw [v5.2.1 i (by omega), k1.2.1 i hi]
        have w1 := h.2.2.2.1.1
        obtain ⟨y3, e3, s1, s2, s3, s4, s5, s6, s7⟩ := close10 (n := n2) (o := o) (op := o + 1) (e := e) (e1 := e1) (φ := fun ws => vBoth 1 (φ ws) (φ2 ws)) hU (by omega) v0 v6 v7 (Or.inr (by rw [show o + 1 - 1 = o by omega, y44]; decide)) (by
          rcases ht with x | x
          · exact Or.inl x
          · by_cases o0 : o = 0
            · exact Or.inl o0
            · exact Or.inr (by rw [ylo _ (by omega)]; exact x.2)) v8 (by omega) (Or.inr ⟨rfl, y44, φ, (hE.kf k1 (Nat.le_refl _)).kf v5 (Nat.le_refl _), by rw [v9]⟩)
        have hs2 := sk_le (B := B) (tp := tp) (p := p2)
        have hq2 := hs2.2.1 hp2
        have k2 : Kf r e1 o (mx (psh y o 10) (p + 3)) y3 := (v5.low (by omega)).tr s6 (Nat.le_refl _) (Nat.le_refl _)
        have hsk := parted_sk (F := t_F N) (n := n1) (φ := fun ws => vBoth 1 (φ ws) (φ2 ws)) hU.1 (v6.2.2.2.2.2.2.1.tc hU.2.1) hp2
        rw [← v6.ids.1] at hsk
        show OO (addc c4 (t_parted_5 (t_F N) n1 a2 (fun ws => vBoth 1 (φ ws) (φ2 ws)))) _
        rw [hsk]
        exact OO.add (ih (sk B tp p2) n1 n2 _ y3 cn2 e3 _ (by omega) (by omega) (by omega) s5 sk_sk (by
          rcases ht with x | x
          · exact Or.inl x
          · by_cases o0 : o = 0
            · exact Or.inl o0
            · exact Or.inr (by rw [s6.2.1 _ (by omega), ylo _ (by omega)]; exact x)) s7 (by omega)) (fun x hx => hx.up (by omega) (by omega) k2 (by omega) (Nat.le_refl _) (v4.trans s1) (fun _ _ _ _ _ _ _ z => z))
theorem p_all (hU : UB B tp σx σm r) (hF : UFC σx σm r tp M N) : UPC B σx σm r tp M N := by
  intro a b p dx cn e o n h ht hN hn ho4
  have h4 := hU.1.1
  have w1 := h.2.2.2.1.1
  unfold t_parted
  refine OO.bd (hF _ _ _ _ _ _ _ n h hN hn ho4) ?_
  rintro ⟨a2, c4, o2⟩ hv
  rcases hv with ⟨v1, v2, y2, v3, v4⟩ | ⟨φ2, p2, cn2, e2, n2, y2, v1, v2, v3, v4, v5, j, ψ, v0, v6, v7, v8, v9, v10⟩
  · dsimp only at v1 v2 v4
    subst v1
    exact OO.ret (Or.inl ⟨rfl, by show 0 + c4 + p ≤ tp; omega, y2, v3, v4⟩)
  · dsimp only at v1 v2 v6
    subst v1
    have hp2 := v6.1.1
    have lE := v8.1
    have ht2 : o = 0 ∨ (y2.1 44 (o - 1) ≠ 9 ∧ y2.1 44 (o - 1) ≠ 10) := by
      rcases ht with x | x
      · exact Or.inl x
      · by_cases o0 : o = 0
        · exact Or.inl o0
        · exact Or.inr (by rw [v5.2.1 _ (by omega)]; exact x)
    obtain ⟨y3, e3, s1, s2, s3, s4, s5, s6, s7⟩ := close10 (n := n2) (o := o) (op := o) (e := e) (e1 := e) (φ := φ2) hU (by omega) v0 v6 v7 (ht2.imp id And.left) (ht2.imp id And.right) v8 (by omega) (Or.inl ⟨rfl, rfl, v9⟩)
    have s4 := s4 rfl
    have hs2 := sk_le (B := B) (tp := tp) (p := p2)
    have hq2 := hs2.2.1 hp2
    have k2 : Kf r e o b y3 := v5.tr s6 (Nat.le_refl _) (Nat.le_refl _)
    have hsk := parted_sk (F := t_F N) (n := FU) (φ := φ2) hU.1 (v6.2.2.2.2.2.2.1.tc hU.2.1) hp2
    rw [← v6.ids.1] at hsk
    show OO (addc c4 (t_parted_5 (t_F N) FU a2 φ2)) _
    rw [hsk]
    exact OO.add (p_loop hU ho4 hF hN w1 (tp - sk B tp p2) (sk B tp p2) FU n2 _ y3 cn2 e3 _ (Nat.le_refl _) (FU_gt (by omega)) (by omega) s5 sk_sk (by
      rcases ht with x | x
      · exact Or.inl x
      · by_cases o0 : o = 0
        · exact Or.inl o0
        · exact Or.inr (by rw [k2.2.1 _ (by omega)]; exact x)) s7 (by omega)) (fun x hx => hx.up (by omega) (by omega) k2 (by omega) (Nat.le_refl _) (v4.trans s1) (fun _ _ _ _ _ _ _ z => z))
/-! tests -/
theorem t_loop (hU : UB B tp σx σm r) (ho4 : o ≤ 400) (hP : UPC B σx σm r tp M N) (hN : 12 ≤ N + dx) (he0 : e ≤ 5 * cn0) : ∀ k p n1 n a y op cn e1 φ, tp - p ≤ k → k < n1 → tp + 3 ≤ n + p → Ul σx σm r tp M p dx dx cn e1 op a y → sk B tp p = p → wd B tp p (stC 20) = false → op ≤ 400 → Pd r 11 0 o e e1 op y φ → (o = 0 ∨ y.1 44 (o - 1) = 12) → e1 + (op - o) + dx + 2 + 5 * cn0 ≤ e + 5 * cn → OO (t_tested_5 (t_parted (t_F N)) n1 a φ) (UGP σx σm r tp p e1 o y n (C10 n y) C11 (UQT B σx σm r tp M dx cn0 e o)) := by
  intro k
  induction k with
  | zero =>
    intro p n1 n a y op cn e1 φ hk hn1 hn h hs hw hop4 hPd ht he
    obtain ⟨n1, rfl⟩ : ∃ m, n1 = m + 1 := ⟨n1 - 1, by omega⟩
    have h4 := hU.1.1
    have hp := h.1.1
    obtain ⟨n, rfl⟩ : ∃ m, n = m + 1 := ⟨n - 1, by omega⟩
    have hMy := h.2.2.2.2.2.2.2.tm hU.2.2.1
    have hC10 := C10_eq (n := n) hU.1 hMy h.1.2.2 (by omega)
    have hwo : wd B tp p (stC 19) = false := by
      cases hw : wd B tp p (stC 19) with
      | false => rfl
      | true =>
        have := wd_len hw (by rw [st_e.2.2.2.2.2.2.1]; decide)
        rw [st_e.2.2.2.2.2.2.1] at this
        omega
    have ht2 : o = 0 ∨ y.1 44 (o - 1) ≠ 11 := ht.imp id (fun x => by rw [x]; decide)
    obtain ⟨y3, e3, s1, s2, s3, s3', s4, s5, s6⟩ := ansB hU (Or.inr ⟨rfl, rfl⟩) hop4 h hPd ht2 (by omega)
    have hop : op = o ∨ op = o + 1 := by rcases hPd with ⟨x, -⟩ | ⟨x, -⟩ <;> omega
    rw [hw, hwo] at hC10
    rw [t_tested_5, h.ids.1, t_takesWord_eq hU.1 (h.2.2.2.2.2.2.1.tc hU.2.1) hp (by rw [st_e.2.2.2.2.2.2.1]; decide), hs, hwo, ← h.ids.1]
    exact OO.ret (Or.inr ⟨φ, p, cn, e3, n + 1, y3, rfl, by show 0 + p ≤ p; omega, Nat.le_refl _, hC10.trans (G10_no s1), s5, s4, s6, by
      rcases hop with x | x
      · have := s3' x; omega
      · omega, hs⟩)
  | succ k ih =>
    intro p n1 n a y op cn e1 φ hk hn1 hn h hs hw hop4 hPd ht he
    obtain ⟨n1, rfl⟩ : ∃ m, n1 = m + 1 := ⟨n1 - 1, by omega⟩
    have h4 := hU.1.1
    have hp := h.1.1
    obtain ⟨n, rfl⟩ : ∃ m, n = m + 1 := ⟨n - 1, by omega⟩
    have hMy := h.2.2.2.2.2.2.2.tm hU.2.2.1
    have hC10 := C10_eq (n := n) hU.1 hMy h.1.2.2 (by omega)
    have ht2 : o = 0 ∨ y.1 44 (o - 1) ≠ 11 := ht.imp id (fun x => by rw [x]; decide)
    obtain ⟨y3, e3, s1, s2, s3, s3', s4, s5, s6⟩ := ansB hU (Or.inr ⟨rfl, rfl⟩) hop4 h hPd ht2 (by omega)
    have hop : op = o ∨ op = o + 1 := by rcases hPd with ⟨x, -⟩ | ⟨x, -⟩ <;> omega
    have he3 : e3 + dx + 2 + 5 * cn0 ≤ e + 5 * cn := by
      rcases hop with x | x
      · have := s3' x; omega
      · omega
    have htk := t_takesWord_eq (w := 19) hU.1 (h.2.2.2.2.2.2.1.tc hU.2.1) hp (by rw [st_e.2.2.2.2.2.2.1]; decide)
    rw [← h.ids.1, hs, ← h.ids.1] at htk
    rw [t_tested_5, htk]
    cases hwo : wd B tp p (stC 19) with
    | false =>
      rw [hw, hwo] at hC10
      exact OO.ret (Or.inr ⟨φ, p, cn, e3, n + 1, y3, rfl, by show 0 + p ≤ p; omega, Nat.le_refl _, hC10.trans (G10_no s1), s5, s4, s6, he3, hs⟩)
    | true =>
      have hl := wd_len hwo (by rw [st_e.2.2.2.2.2.2.1]; decide)
      rw [st_e.2.2.2.2.2.2.1] at hl ⊢
      rw [hw, hwo] at hC10
      have ho := s4.2.2.2.2.1
      have ho1 := ho.1
      have hC := hC10.trans (G10_or s1 ho.2 (by omega) s4.1.2.2)
      have h1 := s4.push (c := 11) (p' := p + 2) hl (by omega)
      have k1 : Kf r e3 o y3 (mx (psh y3 o 11) (p + 2)) := Kf.rf.psh (Nat.le_refl _)
      have k2 : Kf r e1 o y (mx (psh y3 o 11) (p + 2)) := s5.tr k1 s2 (Nat.le_refl _)
      have t44 : (mx (psh y3 o 11) (p + 2)).1 44 (o + 1 - 1) = 11 := psh_t
      rw [if_pos rfl]
      show OO (addc 1 ((t_parted (t_F N) (cx a (p + 2))).bind fun (σ_21, c_20, o_22) => addc c_20 (thy σ_21 o_22 fun φ_26 => t_tested_5 (t_parted (t_F N)) n1 σ_21 (fun ws => vBoth 0 (φ ws) (φ_26 ws))))) _
      refine OO.add (Q := UGP σx σm r tp (p + 2) e3 o (mx (psh y3 o 11) (p + 2)) n (T9 n (mx (psh y3 o 11) (p + 2)) 1 1) C11 (UQT B σx σm r tp M dx cn0 e o)) (OO.bd (hP _ _ _ _ _ _ _ n h1 (Or.inr (by rw [t44]; decide)) hN (by omega) (by omega)) ?_) (fun x hx => hx.up (by omega) (by omega) k2 s2 (Nat.le_refl _) hC (fun _ _ _ _ _ _ _ z => z))
      rintro ⟨a2, c4, o2⟩ hv
      rcases hv with ⟨v1, v2, y2, v3, v4⟩ | ⟨φ2, p2, cn2, e2, n2, y2, v1, v2, v3, v4, v5, ⟨v6, v7, v8, v9⟩, v10⟩
      · dsimp only at v1 v2 v4
        subst v1
        exact OO.ret (Or.inl ⟨rfl, by show 0 + c4 + (p + 2) ≤ tp; omega, y2, v3, v4⟩)
      · dsimp only at v1 v2 v6
        subst v1
        have hp2 := v6.1.1
        have lE := v7.1
        have y44 : y2.1 44 o = 11 := by rw [v5.2.1 o (by omega)]; exact psh_t
        have ylo : ∀ i, i < o → y2.1 44 i = y.1 44 i := fun i hi => by rw [v5.2.1 i (by omega), k2.2.1 i hi]
        show OO (addc c4 (t_tested_5 (t_parted (t_F N)) n1 a2 (fun ws => vBoth 0 (φ ws) (φ2 ws)))) _
        exact OO.add (ih p2 n1 n2 _ y2 (o + 1) cn2 e2 _ (by omega) (by omega) (by omega) v6 v9 v10 (by omega) (Or.inr ⟨rfl, y44, e3, φ, φ2, (s6.kf k1 (Nat.le_refl _)).kf v5 (Nat.le_refl _), v7, rfl⟩) (by
          rcases ht with x | x
          · exact Or.inl x
          · by_cases o0 : o = 0
            · exact Or.inl o0
            · exact Or.inr (by rw [ylo _ (by omega)]; exact x)) (by omega)) (fun x hx => hx.up (by omega) (by omega) (v5.low (by omega)) (by omega) (Nat.le_refl _) v4 (fun _ _ _ _ _ _ _ z => z))
theorem t_all (hU : UB B tp σx σm r) (hP : UPC B σx σm r tp M N) : UTC B σx σm r tp M N := by
  intro a b p dx cn e o n h ht hN hn ho4
  have h4 := hU.1.1
  have w1 := h.2.2.2.1.1
  unfold t_tested
  refine OO.bd (hP _ _ _ _ _ _ _ n h (ht.imp id (fun x => by rw [x]; decide)) hN hn ho4) ?_
  rintro ⟨a2, c4, o2⟩ hv
  rcases hv with ⟨v1, v2, y2, v3, v4⟩ | ⟨φ2, p2, cn2, e2, n2, y2, v1, v2, v3, v4, v5, ⟨v6, v7, v8, v9⟩, v10⟩
  · dsimp only at v1 v2 v4
    subst v1
    exact OO.ret (Or.inl ⟨rfl, by show 0 + c4 + p ≤ tp; omega, y2, v3, v4⟩)
  · dsimp only at v1 v2 v6
    subst v1
    have hp2 := v6.1.1
    have lE := v7.1
    show OO (addc c4 (t_tested_5 (t_parted (t_F N)) FU a2 φ2)) _
    exact OO.add (t_loop hU ho4 hP hN w1 (tp - p2) p2 FU n2 _ y2 o cn2 e2 _ (Nat.le_refl _) (FU_gt (by omega)) (by omega) v6 v9 v10 ho4 (Or.inl ⟨rfl, v7⟩) (by
      rcases ht with x | x
      · exact Or.inl x
      · by_cases o0 : o = 0
        · exact Or.inl o0
        · exact Or.inr (by rw [v5.2.1 _ (by omega)]; exact x)) (by omega)) (fun x hx => hx.up (by omega) (by omega) v5 (by omega) (Nat.le_refl _) v4 (fun _ _ _ _ _ _ _ z => z))
end UQ
