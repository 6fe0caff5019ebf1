/-! PURE LAW: tests: the model's stack of what is open -/
set_option maxRecDepth 100000
noncomputable abbrev T9 (n : Nat) (b : cS) (v1 v2 : Int32) : Option cS := m_test_9 (fun s => some s) n b v1 v2
noncomputable def C11 : Nat → cS → Option cS
  | 0, _ => none
  | n + 1, σ_30 => ((m_top σ_30).bind fun r_32 => if r_32 = 12 then (((m_sign σ_30).bind fun r_35 => ((if r_35 = 93 then (some (σ_30)) else (((m_fails σ_30 0 (σ_30.1 999 28)).bind fun σ_44 => some (σ_44))) : Option (cS)).bind fun σ_36 => (nmb (si σ_36 999 28 ((σ_36.1 999 28) + 1)) fun σ_38 => (nmb (si σ_38 999 35 (((si σ_36 999 28 ((σ_36.1 999 28) + 1)).1 999 35) - 1)) fun σ_40 => (T9 n (si σ_40 999 33 (((si σ_38 999 35 (((si σ_36 999 28 ((σ_36.1 999 28) + 1)).1 999 35) - 1)).1 999 33) - 1)) 0 1)))))) else (T9 n σ_30 0 0))
noncomputable def G10 (n : Nat) (r_9 r_11 : Int32) (σ_13 : cS) : Option cS := if r_9 = 0 then (if r_11 = 0 then (((m_answers σ_13 11).bind fun σ_30 => C11 (n + 1) σ_30)) else (((if r_11 = 0 then (some (σ_13)) else (((m_answers σ_13 11).bind fun σ_57 => some (σ_57))) : Option (cS)).bind fun σ_45 => (((if r_9 = 0 then (some (11)) else (some (10)) : Option (Int32)).bind fun t_47 => (((m_opens σ_45 t_47).bind fun σ_50 => ((if r_9 = 0 then (some (2)) else (some (3)) : Option (Int32)).bind fun t_51 => (T9 n (si σ_50 999 28 ((σ_50.1 999 28) + t_51)) 1 1))))))))) else (((if r_11 = 0 then (some (σ_13)) else (((m_answers σ_13 11).bind fun σ_27 => some (σ_27))) : Option (cS)).bind fun σ_15 => (((if r_9 = 0 then (some (11)) else (some (10)) : Option (Int32)).bind fun t_17 => (((m_opens σ_15 t_17).bind fun σ_20 => ((if r_9 = 0 then (some (2)) else (some (3)) : Option (Int32)).bind fun t_21 => (T9 n (si σ_20 999 28 ((σ_20.1 999 28) + t_21)) 1 1))))))))
noncomputable def C10 : Nat → cS → Option cS
  | 0, _ => none
  | n + 1, σ => (m_stood σ 35).bind fun r_9 => (m_stood σ 36).bind fun r_11 => G10 n r_9 r_11 σ
section UT
variable {B : Nat → Int32} {tp p p' q w k r dx dm dm' cn cn0 e e0 e1 o o1 op s n : Nat} {σ β σ' β' σx σm a b y z a' b' : cS} {lo hi M v c : Int32} {φ ψ : Wds → Int32}
theorem T9_dead {v1 v2 : Int32} (h : Dm r σm k q b) (hn : 0 < n) : T9 n b v1 v2 = some b := by
  obtain ⟨n, rfl⟩ : ∃ m, n = m + 1 := ⟨n - 1, by omega⟩
  unfold T9
  rw [m_test_9, if_neg h.nz]
  split <;> rfl
theorem T9_end {v1 : Int32} : T9 (n + 1) b v1 0 = some b := by
  unfold T9
  rw [m_test_9, if_pos rfl]
theorem T9_1 (h : b.1 999 29 = 0) : T9 (n + 1) b 1 1 = (m_fact b).bind fun x => if x.2 = 0 then T9 n x.1 1 1 else T9 n x.1 0 1 := by
  unfold T9
  rw [m_test_9, if_neg (by decide), if_pos h, if_neg (by decide)]
theorem T9_0 (h : b.1 999 29 = 0) : T9 (n + 1) b 0 1 = (m_answers b 9).bind fun s => (m_blanks s).bind fun s => (m_stood s 35).bind fun r9 => (m_stood s 36).bind fun r11 => (m_answers s 10).bind fun s => G10 n r9 r11 s := by
  unfold T9
  rw [m_test_9, if_neg (by decide), if_pos h, if_pos rfl]
  rfl
/-! the stack -/
def psh (b : cS) (o : Nat) (c : Int32) : cS := si (si b 44 o c) 999 35 (nI (o + 1))
theorem m_top_eq (h : b.1 999 35 = nI o) (ho : o ≤ 401) : m_top b = some (if o = 0 then -1 else b.1 44 (o - 1)) := by
  unfold m_top
  rw [h]
  by_cases c : o = 0
  · subst c; rfl
  · rw [if_neg (nI_ne0 (by omega) (by omega)), if_neg c, nI_m1 (by omega), inbn (by omega) (by decide), ixn (by omega)]
    rfl
theorem ans_stop {c : Int32} (h : b.1 999 35 = nI o) (ho : o ≤ 401) (hc : c ≠ -1) (ht : o = 0 ∨ b.1 44 (o - 1) ≠ c) (K : cS → Option cS) : m_answers_0 c K (n + 1) b = K b := by
  rw [m_answers_0, m_top_eq h ho]
  show (if (if o = 0 then -1 else b.1 44 (o - 1)) = c then _ else _) = _
  rw [if_neg]
  split
  · exact fun x => hc x.symm
  · rcases ht with x | x
    · contradiction
    · exact x
theorem Ul.pop (h : Ul σx σm r tp M p dx dm cn e (o + 1) a b) (h400 : o + 1 ≤ 400) : Ul σx σm r tp M p dx dm' cn e o a (si (si b 999 35 (nI o)) 999 33 (nI dm')) := by
  obtain ⟨⟨a1, a2, a3⟩, ⟨b1, b2, b3⟩, ⟨c1, c2, c3⟩, ⟨d1, d2⟩, ⟨o1, o2⟩, ⟨f1, f2⟩, hX, hM⟩ := h
  have e2 : ∀ i, i ≠ 33 → i ≠ 35 → (si (si b 999 35 (nI o)) 999 33 (nI dm')).1 999 i = b.1 999 i := fun i i1 i2 => by rw [si_p i1, si_p i2]
  exact ⟨⟨a1, a2, (e2 28 (by decide) (by decide)).trans a3⟩, ⟨b1, b2, si_a⟩, ⟨c1, c2, (e2 34 (by decide) (by decide)).trans c3⟩, ⟨d1, (e2 32 (by decide) (by decide)).trans d2⟩, ⟨by omega, (si_p (by decide)).trans si_a⟩, ⟨(e2 29 (by decide) (by decide)).trans f1, f2⟩, hX, (hM.st (by omega)).st (by omega)⟩
theorem Ul.push {c : Int32} (h : Ul σx σm r tp M p dx dm cn e o a b) (h1 : p' ≤ tp) (h2 : p < p') : Ul σx σm r tp M p' dx dm cn e (o + 1) (cx a p') (mx (psh b o c) p') := by
  obtain ⟨⟨a1, a2, a3⟩, ⟨b1, b2, b3⟩, ⟨c1, c2, c3⟩, ⟨d1, d2⟩, ⟨o1, o2⟩, ⟨f1, f2⟩, hX, hM⟩ := h
  have e2 : ∀ i, i ≠ 28 → i ≠ 35 → (mx (psh b o c) p').1 999 i = b.1 999 i := fun i i1 i2 => by rw [mx_p i1]; unfold psh; rw [si_p i2, si_o (by decide)]
  exact ⟨⟨h1, cx_n, mx_n⟩, ⟨b1, (cx_p (by decide)).trans b2, (e2 33 (by decide) (by decide)).trans b3⟩, ⟨c1, (cx_p (by decide)).trans c2, (e2 34 (by decide) (by decide)).trans c3⟩, ⟨d1, (e2 32 (by decide) (by decide)).trans d2⟩, ⟨by omega, (mx_p (by decide)).trans si_a⟩, ⟨(e2 29 (by decide) (by decide)).trans f1, (cx_p (by decide)).trans f2⟩, hX.st (Or.inl rfl), ((hM.st (by omega)).st (by omega)).st (by omega)⟩
theorem psh_t {c : Int32} : (mx (psh b o c) p').1 44 o = c := by
  rw [mx_o (by decide)]
  unfold psh
  rw [si_o (by decide)]
  exact si_a
theorem Kf.psh {c : Int32} (h : Kf r e o b y) (ho : o ≤ o1) : Kf r e o b (mx (psh y o1 c) p') := ((h.st (Or.inr (Or.inl ⟨rfl, ho⟩))).st (Or.inl rfl)).st (Or.inl rfl)
theorem Ul.dpx {d : Nat} (h : Ul σx σm r tp M p dx dm cn e o a b) (hd : d ≤ 10) : Ul σx σm r tp M p d dm cn e o (si a 997 3 (nI d)) b := by
  obtain ⟨⟨a1, a2, a3⟩, ⟨b1, b2, b3⟩, ⟨c1, c2, c3⟩, hd2, ho, ⟨f1, f2⟩, hX, hM⟩ := h
  exact ⟨⟨a1, (si_p (by decide)).trans a2, a3⟩, ⟨hd, si_a, b3⟩, ⟨c1, (si_p (by decide)).trans c2, c3⟩, hd2, ho, ⟨f1, (si_p (by decide)).trans f2⟩, hX.st (Or.inl rfl), hM⟩
theorem Ul.dpm {d : Nat} (h : Ul σx σm r tp M p dx dm cn e o a b) : Ul σx σm r tp M p dx d cn e o a (si b 999 33 (nI d)) := by
  obtain ⟨⟨a1, a2, a3⟩, ⟨b1, b2, b3⟩, ⟨c1, c2, c3⟩, ⟨d1, d2⟩, ⟨o1, o2⟩, ⟨f1, f2⟩, hX, hM⟩ := h
  exact ⟨⟨a1, a2, (si_p (by decide)).trans a3⟩, ⟨b1, b2, si_a⟩, ⟨c1, c2, (si_p (by decide)).trans c3⟩, ⟨d1, (si_p (by decide)).trans d2⟩, ⟨o1, (si_p (by decide)).trans o2⟩, ⟨(si_p (by decide)).trans f1, f2⟩, hX, hM.st (by omega)⟩
theorem Kf.low (h : Kf r e o1 b y) (ho : o ≤ o1) : Kf r e o b y := Kf.tr Kf.rf h (Nat.le_refl _) ho
/-! not -/
def notj : Nat → (Wds → Int32) → Wds → Int32
  | 0, ψ => ψ
  | j + 1, ψ => notj j (fun ws => if ψ ws = 0 then 1 else 0)
theorem notj_s : ∀ (j : Nat) (ψ : Wds → Int32), (fun ws => if notj j ψ ws = 0 then 1 else 0) = notj (j + 1) ψ := by
  intro j
  induction j with
  | zero => exact fun _ => rfl
  | succ j ih => exact fun ψ => ih _
theorem ans9 (hU : UB B tp σx σm r) : ∀ j n y e2 ψ, j < n → o + j ≤ 400 → Ul σx σm r tp M p dx (dx + j) cn e2 (o + j) a y → (∀ i, i < j → y.1 44 (o + i) = 9) → (o = 0 ∨ y.1 44 (o - 1) ≠ 9) → Ev r y e1 e2 (trq ψ) → e2 + j ≤ 5 * cn → ∃ y', m_answers_0 9 (fun s => some s) n y = some y' ∧ Ul σx σm r tp M p dx dx cn (e2 + j) o a y' ∧ Kf r e2 o y y' ∧ Ev r y' e1 (e2 + j) (trq (notj j ψ)) := by
  have h4 := hU.1.1
  intro j
  induction j with
  | zero =>
    intro n y e2 ψ hn hoj h h9 ht hE he
    obtain ⟨n, rfl⟩ : ∃ m, n = m + 1 := ⟨n - 1, by omega⟩
    have ho := h.2.2.2.2.1
    have hp := h.1.1
    exact ⟨y, ans_stop ho.2 (by omega) (by decide) ht _, h, Kf.rf, hE⟩
  | succ j ih =>
    intro n y e2 ψ hn hoj h h9 ht hE he
    obtain ⟨n, rfl⟩ : ∃ m, n = m + 1 := ⟨n - 1, by omega⟩
    have ho := h.2.2.2.2.1
    have hp := h.1.1
    have hcn := h.2.2.1.1
    have hen := h.ent (c := 9) (v := 0) hU (by omega)
    have h1 := h.wr (c := 9) (v := 0) (by omega)
    have hE1 : Ev r (en y r e2 9 0) e1 (e2 + 1) (trq (fun ws => if ψ ws = 0 then 1 else 0)) := by
      have := Ev.no hU.2.2.2.2.1 (hE.kf (Kf.rf (o := 0).wr (e1 := e2) (c := 9) (x := 0) (Nat.le_refl _)) (Nat.le_refl _)) (by omega) en_c
      have e3 : (fun ws => 1 - trq ψ ws) = trq (fun ws => if ψ ws = 0 then 1 else 0) := funext fun ws => tru_not _
      rw [← e3]
      exact this
    have h2 : Ul σx σm r tp M p dx (dx + j) cn (e2 + 1) (o + j) a (si (si (en y r e2 9 0) 999 35 (nI (o + j))) 999 33 (nI (dx + j))) := Ul.pop (o := o + j) h1 (by omega)
    have k2 : Kf r (e2 + 1) (o + j) (en y r e2 9 0) (si (si (en y r e2 9 0) 999 35 (nI (o + j))) 999 33 (nI (dx + j))) := (Kf.rf.st (Or.inl rfl)).st (Or.inl rfl)
    have k1 : Kf r e2 (o + j) y (en y r e2 9 0) := Kf.rf.wr (Nat.le_refl _)
    have k3 : Kf r e2 (o + j) y (si (si (en y r e2 9 0) 999 35 (nI (o + j))) 999 33 (nI (dx + j))) := k1.tr k2 (by omega) (Nat.le_refl _)
    obtain ⟨y', r1, r2, r3, r4⟩ := ih n _ (e2 + 1) _ (by omega) (by omega) h2 (fun i hi => by rw [k3.2.1 _ (by omega)]; exact h9 i (by omega)) (by
      rcases ht with x | x
      · exact Or.inl x
      · by_cases o0 : o = 0
        · exact Or.inl o0
        · exact Or.inr (by rw [k3.2.1 _ (by omega)]; exact x)) (hE1.kf k2 (Nat.le_refl _)) (by omega)
    refine ⟨y', ?_, by rw [show e2 + (j + 1) = e2 + 1 + j by omega]; exact r2, (k3.low (Nat.le_add_right _ _)).tr r3 (by omega) (Nat.le_refl _), by rw [show e2 + (j + 1) = e2 + 1 + j by omega]; exact r4⟩
    rw [m_answers_0, m_top_eq ho.2 (by omega)]
    show (if (if o + (j + 1) = 0 then -1 else y.1 44 (o + (j + 1) - 1)) = 9 then _ else _) = _
    rw [if_neg (show ¬ o + (j + 1) = 0 by omega), show o + (j + 1) - 1 = o + j by omega, if_pos (h9 j (by omega)), if_pos h.2.2.2.2.2.1.1, hen]
    show m_answers_0 9 _ n (si (si (en y r e2 9 0) 999 35 ((en y r e2 9 0).1 999 35 - 1)) 999 33 ((si (en y r e2 9 0) 999 35 ((en y r e2 9 0).1 999 35 - 1)).1 999 33 - 1)) = _
    rw [si_p (by decide : 33 ≠ 35), h1.2.2.2.2.1.2, h1.2.1.2.2, show nI (o + (j + 1)) - 1 = nI (o + j) from nI_m1 (m := o + (j + 1)) (by omega), show nI (dx + (j + 1)) - 1 = nI (dx + j) from nI_m1 (m := dx + (j + 1)) (by omega)]
    exact r1
/-- what waits on the stack for its second part -/
def Pd (r : Nat) (c : Int32) (t : Int32) (o e e2 op : Nat) (y : cS) (φ : Wds → Int32) : Prop := (op = o ∧ Ev r y e e2 (trq φ)) ∨ (op = o + 1 ∧ y.1 44 o = c ∧ ∃ e1 φ1 φ2, Ev r y e e1 (trq φ1) ∧ Ev r y e1 e2 (trq φ2) ∧ φ = fun ws => vBoth t (φ1 ws) (φ2 ws))
theorem ansB {t : Int32} (hU : UB B tp σx σm r) (hc : (c = 10 ∧ t = 1) ∨ (c = 11 ∧ t = 0)) {e2 : Nat} (hop : op ≤ 400) (h : Ul σx σm r tp M p dx dx cn e2 op a y) (hP : Pd r c t o e e2 op y φ) (ht : o = 0 ∨ y.1 44 (o - 1) ≠ c) (he : e2 + 1 ≤ 5 * cn) : ∃ y' e3, m_answers y c = some y' ∧ e2 ≤ e3 ∧ e3 ≤ e2 + 1 ∧ (op = o → e3 = e2) ∧ Ul σx σm r tp M p dx dx cn e3 o a y' ∧ Kf r e2 o y y' ∧ Ev r y' e e3 (trq φ) := by
  have h4 := hU.1.1
  have hp := h.1.1
  obtain ⟨ho1, ho2⟩ := h.2.2.2.2.1
  have c1 : c ≠ -1 ∧ c ≠ 9 ∧ c ≠ 0 ∧ c ≠ 1 := by rcases hc with ⟨rfl, -⟩ | ⟨rfl, -⟩ <;> decide
  have hmb : ∀ x y, m_both c (tru x) (tru y) = some (tru (vBoth t x y)) := by
    rcases hc with ⟨rfl, rfl⟩ | ⟨rfl, rfl⟩
    · exact mb_and
    · exact mb_or
  obtain ⟨n, hn⟩ : ∃ m, FU = m + 1 + 1 := ⟨FU - 2, by have := FU_gt (n := 1) (by decide); omega⟩
  unfold m_answers
  rw [hn]
  rcases hP with ⟨rfl, hE⟩ | ⟨rfl, ht2, e1, φ1, φ2, hE1, hE2, rfl⟩
  · exact ⟨y, e2, ans_stop ho2 (by omega) c1.1 ht _, Nat.le_refl _, by omega, fun _ => rfl, h, Kf.rf, hE⟩
  · have hcn := h.2.2.1.1
    have hen := h.ent (c := c) (v := 0) hU he
    have h1 := h.wr (c := c) (v := 0) he
    have l2 := hE2.1
    have hk : Kf r e2 (o + 1) y (en y r e2 c 0) := Kf.rf.wr (Nat.le_refl _)
    have h2 : Ul σx σm r tp M p dx dx cn (e2 + 1) o a (si (si (en y r e2 c 0) 999 35 (nI o)) 999 33 (nI dx)) := h1.pop hop
    have k2 : Kf r (e2 + 1) (o + 1) (en y r e2 c 0) (si (si (en y r e2 c 0) 999 35 (nI o)) 999 33 (nI dx)) := (Kf.rf.st (Or.inl rfl)).st (Or.inl rfl)
    have hEv : Ev r (en y r e2 c 0) e (e2 + 1) (trq (fun ws => vBoth t (φ1 ws) (φ2 ws))) := by
      rcases hc with ⟨rfl, rfl⟩ | ⟨rfl, rfl⟩
      · have h5 := Ev.op (x := 0) (o := 0) (f := fun x y => x &&& y) hU.2.2.2.2.1 hE1 hE2 Kf.rf (by omega) (by decide) (fun x y => rfl) (c := 10)
        have e5 : (fun ws => trq φ1 ws &&& trq φ2 ws) = trq (fun ws => vBoth 1 (φ1 ws) (φ2 ws)) := funext fun ws => (tru_both _ _).1
        rw [← e5]
        exact h5
      · have h5 := Ev.op (x := 0) (o := 0) (f := fun x y => x ||| y) hU.2.2.2.2.1 hE1 hE2 Kf.rf (by omega) (by decide) (fun x y => rfl) (c := 11)
        have e5 : (fun ws => trq φ1 ws ||| trq φ2 ws) = trq (fun ws => vBoth 0 (φ1 ws) (φ2 ws)) := funext fun ws => (tru_both _ _).2
        rw [← e5]
        exact h5
    refine ⟨_, e2 + 1, ?_, by omega, by omega, fun x => by omega, h2, (hk.tr k2 (by omega) (Nat.le_refl _)).low (by omega), hEv.kf k2 (Nat.le_refl _)⟩
    rw [m_answers_0, m_top_eq ho2 (by omega)]
    show (if (if o + 1 = 0 then -1 else y.1 44 (o + 1 - 1)) = c then _ else _) = _
    rw [if_neg (show ¬ o + 1 = 0 by omega), show o + 1 - 1 = o by omega, if_pos ht2, if_pos h.2.2.2.2.2.1.1, hen]
    show (if c = 9 then _ else m_answers_0 c _ (n + 1) (si (si (en y r e2 c 0) 999 35 ((en y r e2 c 0).1 999 35 - 1)) 999 33 ((si (en y r e2 c 0) 999 35 ((en y r e2 c 0).1 999 35 - 1)).1 999 33 - 0))) = _
    rw [if_neg c1.2.1, si_p (by decide : 33 ≠ 35), h1.2.2.2.2.1.2, h1.2.1.2.2, show nI (o + 1) - 1 = nI o from nI_m1 (m := o + 1) (by omega), Int32.sub_zero]
    refine ans_stop h2.2.2.2.2.1.2 (by omega) c1.1 ?_ _
    rcases ht with x | x
    · exact Or.inl x
    · by_cases o0 : o = 0
      · exact Or.inl o0
      · exact Or.inr (by rw [k2.2.1 _ (by omega), hk.2.1 _ (by omega)]; exact x)
end UT
