/-! PURE LAW: tests of a rule: recursive descent against the stack -/
set_option maxRecDepth 100000
/-- a part of a test is read, or both have told the fault; the model goes on with R -/
def UGP (σx σm : cS) (r tp p e o : Nat) (b : cS) (n : Nat) (lhs : Option cS) (R : Nat → cS → Option cS) (Q : Nat → Nat → Nat → cS → cS → (Wds → Int32) → Prop) (x : cS × Nat × Option (Wds → Int32)) : Prop := (x.2.2 = none ∧ x.2.1 + p ≤ tp ∧ ∃ y, lhs = some y ∧ Ud σx σm r x.1 y) ∨ (∃ φ p' cn' e' n' y, x.2.2 = some φ ∧ x.2.1 + p ≤ p' ∧ n + p ≤ n' + p' ∧ lhs = R n' y ∧ Kf r e o b y ∧ Q p' cn' e' x.1 y φ)
def UQF (σx σm : cS) (r tp : Nat) (M : Int32) (dx cn e o : Nat) (p' cn' e' : Nat) (a y : cS) (φ : Wds → Int32) : Prop := ∃ j ψ, o + j ≤ 400 ∧ Ul σx σm r tp M p' dx (dx + j) cn' e' (o + j) a y ∧ (∀ i, i < j → y.1 44 (o + i) = 9) ∧ Ev r y e e' (trq ψ) ∧ φ = notj j ψ ∧ e' + (dx + j) + 2 + 5 * cn ≤ e + 5 * cn'
def UQT (B : Nat → Int32) (σx σm : cS) (r tp : Nat) (M : Int32) (dx cn e o : Nat) (p' cn' e' : Nat) (a y : cS) (φ : Wds → Int32) : Prop := Ul σx σm r tp M p' dx dx cn' e' o a y ∧ Ev r y e e' (trq φ) ∧ e' + dx + 2 + 5 * cn ≤ e + 5 * cn' ∧ sk B tp p' = p'
def UQP (B : Nat → Int32) (σx σm : cS) (r tp : Nat) (M : Int32) (dx cn e o : Nat) (p' cn' e' : Nat) (a y : cS) (φ : Wds → Int32) : Prop := UQT B σx σm r tp M dx cn e o p' cn' e' a y φ ∧ wd B tp p' (stC 20) = false
section UR
variable {B : Nat → Int32} {tp p p' q w k r dx dm dm' cn cn0 e e0 e1 o o1 op s n : Nat} {σ β σ' β' σx σm a b y z a' b' : cS} {lo hi M v c : Int32} {φ ψ : Wds → Int32}
theorem st_e : stC 35 = stC 20 ∧ stC 36 = stC 19 ∧ stC 34 = stC 21 ∧ stC 42 = stC 18 ∧ stC 41 = stC 6 ∧ (stC 20).length = 3 ∧ (stC 19).length = 2 ∧ (stC 21).length = 3 ∧ (stC 18).length = 2 ∧ (stC 6).length = 5 := by decide +kernel
theorem wd_no {L1 L2 : List Int32} (h : wd B tp p L1 = true) (hl : L2.length ≠ L1.length) : wd B tp p L2 = false := by
  unfold wd at h ⊢
  have h1 : lt_ B tp p = L1.length := of_decide_eq_true (Bool.and_eq_true_iff.mp h).1
  rw [decide_eq_false (by omega), Bool.false_and]
theorem m_std (hB : TB B tp) (hM : TM B tp b) (h28 : b.1 999 28 = nI p) (hp : p ≤ 1000) (hL : (stC w).length ≤ 100) : m_stood b w = some (i01 (wd B tp p (stC w))) := by
  have h := m_stood_eq hB hM hp hL
  rw [← mx_id h28] at h
  exact h
theorem m_opens_2 (hc : c = 10 ∨ c = 11) (h : b.1 999 35 = nI o) (ho : o ≤ 401) : m_opens b c = some (psh b o c) := by
  unfold m_opens
  rw [if_neg (by rcases hc with rfl | rfl <;> decide), if_neg (by rcases hc with rfl | rfl <;> decide)]
  show gd (inb (b.1 999 35) 402) (some (si (si b 44 (ix (b.1 999 35)) c) 999 35 ((si b 44 (ix (b.1 999 35)) c).1 999 35 + 1))) = _
  rw [si_o (by decide), h, inbn (by omega) (by decide), ixn (by omega), nI_1]
  rfl
theorem m_opens_1 (hc : c = 9 ∨ c = 12) (h33 : b.1 999 33 = nI dm) (hd : dm ≤ 10) (h : b.1 999 35 = nI o) (ho : o ≤ 401) (h28 : b.1 999 28 = nI p) (h29 : b.1 999 29 = 0) : m_opens b c = if dm = 10 then some (psh (si (fm b 2 p) 999 33 (nI 11)) o c) else some (psh (si b 999 33 (nI (dm + 1))) o c) := by
  have key : ((if b.1 999 33 = 10 then (m_fails b 2 (b.1 999 28)).bind fun s => some s else some b : Option cS).bind fun s => some (si s 999 33 (s.1 999 33 + 1))) = if dm = 10 then some (si (fm b 2 p) 999 33 (nI 11)) else some (si b 999 33 (nI (dm + 1))) := by
    rw [h33, h28, show (2 : Int32) = nI 2 from rfl, m_fails_0 h29]
    by_cases c : dm = 10
    · subst c
      rw [if_pos (show nI 10 = 10 from rfl), if_pos rfl]
      show some (si (fm b 2 p) 999 33 ((fm b 2 p).1 999 33 + 1)) = _
      rw [show (fm b 2 p).1 999 33 = nI 10 from (si_p (by decide)).trans h33, nI_1]
    · rw [if_neg (show ¬ nI dm = 10 from fun x => c ((nI_eq (b := 10) (by omega) (by decide)).mp x)), if_neg c]
      show some (si b 999 33 (b.1 999 33 + 1)) = _
      rw [h33, nI_1]
  have fin : ∀ s : cS, s.1 999 35 = nI o → gd (inb (s.1 999 35) 402) (some (si (si s 44 (ix (s.1 999 35)) c) 999 35 ((si s 44 (ix (s.1 999 35)) c).1 999 35 + 1))) = some (psh s o c) := by
    intro s hs
    rw [si_o (by decide), hs, inbn (by omega) (by decide), ixn (by omega), nI_1]
    rfl
  have e1 : m_opens b c = (((if b.1 999 33 = 10 then (m_fails b 2 (b.1 999 28)).bind fun s => some s else some b : Option cS).bind fun s => some (si s 999 33 (s.1 999 33 + 1)))).bind fun s => gd (inb (s.1 999 35) 402) (some (si (si s 44 (ix (s.1 999 35)) c) 999 35 ((si s 44 (ix (s.1 999 35)) c).1 999 35 + 1))) := by
    unfold m_opens
    rcases hc with rfl | rfl
    · rw [if_pos rfl]; rfl
    · rw [if_neg (by decide), if_pos rfl]; rfl
  rw [e1, key]
  by_cases c1 : dm = 10
  · rw [if_pos c1, if_pos c1]
    exact fin _ ((si_p (by decide)).trans ((si_p (by decide)).trans h))
  · rw [if_neg c1, if_neg c1]
    exact fin _ ((si_p (by decide)).trans h)
theorem psh_p {i : Nat} (h : i ≠ 35) : (psh b o c).1 999 i = b.1 999 i := by
  unfold psh
  rw [si_p h, si_o (by decide)]
theorem G10_and (h : b.1 999 35 = nI o) (ho : o ≤ 401) (h28 : b.1 999 28 = nI p) : G10 n 1 0 b = T9 n (mx (psh b o 10) (p + 3)) 1 1 := by
  unfold G10
  rw [if_neg (by decide), if_pos rfl]
  show (m_opens b 10).bind _ = _
  rw [m_opens_2 (Or.inl rfl) h ho]
  show T9 n (si (psh b o 10) 999 28 ((psh b o 10).1 999 28 + nI 3)) 1 1 = _
  rw [psh_p (by decide), h28, nI_add]
  rfl
theorem G10_or {y : cS} (h11 : m_answers b 11 = some y) (h : y.1 999 35 = nI o) (ho : o ≤ 401) (h28 : y.1 999 28 = nI p) : G10 n 0 1 b = T9 n (mx (psh y o 11) (p + 2)) 1 1 := by
  unfold G10
  rw [if_pos rfl, if_neg (by decide), if_neg (by decide), h11]
  show (m_opens y 11).bind _ = _
  rw [m_opens_2 (Or.inr rfl) h ho]
  show T9 n (si (psh y o 11) 999 28 ((psh y o 11).1 999 28 + nI 2)) 1 1 = _
  rw [psh_p (by decide), h28, nI_add]
  rfl
theorem G10_no {y : cS} (h11 : m_answers b 11 = some y) : G10 n 0 0 b = C11 (n + 1) y := by
  unfold G10
  rw [if_pos rfl, if_pos rfl, h11]
  rfl
theorem C10_eq (hB : TB B tp) (hM : TM B tp b) (h28 : b.1 999 28 = nI p) (hp : p ≤ 1000) : C10 (n + 1) b = G10 n (i01 (wd B tp p (stC 20))) (i01 (wd B tp p (stC 19))) b := by
  rw [C10, m_std hB hM h28 hp (by rw [st_e.1, st_e.2.2.2.2.2.1]; decide), m_std hB hM h28 hp (by rw [st_e.2.1, st_e.2.2.2.2.2.2.1]; decide), st_e.1, st_e.2.1]
  rfl
/-- from behind a fact to behind what AND has to say -/
theorem close10 (hU : UB B tp σx σm r) {j e2 : Nat} (hn : 0 < n) (hoj : op + j ≤ 400) (h : Ul σx σm r tp M p dx (dx + j) cn e2 (op + j) a y) (h9 : ∀ i, i < j → y.1 44 (op + i) = 9) (ht9 : op = 0 ∨ y.1 44 (op - 1) ≠ 9) (ht : o = 0 ∨ y.1 44 (o - 1) ≠ 10) (hE : Ev r y e1 e2 (trq ψ)) (he : e2 + j + 1 ≤ 5 * cn) (hP : (op = o ∧ e1 = e ∧ φ = notj j ψ) ∨ (op = o + 1 ∧ y.1 44 o = 10 ∧ ∃ φ1, Ev r y e e1 (trq φ1) ∧ φ = fun ws => vBoth 1 (φ1 ws) (notj j ψ ws))) : ∃ y3 e3, T9 n y 0 1 = C10 n y3 ∧ e2 ≤ e3 ∧ e3 ≤ e2 + j + 1 ∧ (op = o → e3 = e2 + j) ∧ Ul σx σm r tp M (sk B tp p) dx dx cn e3 o (cx a (sk B tp p)) y3 ∧ Kf r e1 o y y3 ∧ Ev r y3 e e3 (trq φ) := by
  obtain ⟨n, rfl⟩ : ∃ m, n = m + 1 := ⟨n - 1, by omega⟩
  have h4 := hU.1.1
  have hp := h.1.1
  have ho := h.2.2.2.2.1.1
  have hk := sk_le (B := B) (tp := tp) (p := p)
  have hq := hk.2.1 hp
  have lE := hE.1
  obtain ⟨y1, r1, r2, r3, r4⟩ := ans9 hU j FU y e2 ψ (FU_gt (by omega)) hoj h h9 ht9 hE (by omega)
  have hl1 := r2.ids
  have hb1 := m_blanks_eq hU.1 (r2.2.2.2.2.2.2.2.tm hU.2.2.1) (show p ≤ 1000 by omega)
  rw [← hl1.2] at hb1
  have r5 := r2.mv (p' := sk B tp p) hq (by omega)
  have r6 : Kf r (e2 + j) op y1 (mx y1 (sk B tp p)) := Kf.rf.st (Or.inl rfl)
  have r7 : Kf r e2 op y (mx y1 (sk B tp p)) := r3.tr r6 (by omega) (Nat.le_refl _)
  have r8 := r4.kf r6 (Nat.le_refl _)
  have hP2 : Pd r 10 1 o e (e2 + j) op (mx y1 (sk B tp p)) φ := by
    rcases hP with ⟨x1, x2, x3⟩ | ⟨x1, x2, φ1, x3, x4⟩
    · subst x2; subst x3
      exact Or.inl ⟨x1, r8⟩
    · subst x4
      refine Or.inr ⟨x1, by rw [r7.2.1 _ (by omega)]; exact x2, e1, φ1, _, x3.kf r7 (by omega), r8, rfl⟩
  have ht2 : o = 0 ∨ (mx y1 (sk B tp p)).1 44 (o - 1) ≠ 10 := by
    rcases ht with x | x
    · exact Or.inl x
    · by_cases o0 : o = 0
      · exact Or.inl o0
      · refine Or.inr ?_
        have : o ≤ op := by rcases hP with ⟨x1, -⟩ | ⟨x1, -⟩ <;> omega
        rw [r7.2.1 _ (by omega)]
        exact x
  obtain ⟨y3, e3, s1, s2, s3, s3', s4, s5, s6⟩ := ansB hU (Or.inl ⟨rfl, rfl⟩) (by omega) r5 hP2 ht2 (by omega)
  have hoo : o ≤ op := by rcases hP with ⟨x1, -⟩ | ⟨x1, -⟩ <;> omega
  have s7 : Kf r e2 o y y3 := (r7.low hoo).tr s5 (by omega) (Nat.le_refl _)
  refine ⟨y3, e3, ?_, by omega, by omega, s3', s4, Kf.tr Kf.rf s7 (by omega) (Nat.le_refl _), s6⟩
  · have g28 : (mx y1 (sk B tp p)).1 999 28 = nI (sk B tp p) := mx_n
    have hMy := r5.2.2.2.2.2.2.2.tm hU.2.2.1
    rw [T9_0 h.2.2.2.2.2.1.1, show m_answers y 9 = some y1 from r1]
    show (m_blanks y1).bind _ = _
    rw [hb1]
    show (m_stood (mx y1 (sk B tp p)) 35).bind _ = _
    rw [m_std hU.1 hMy g28 (by omega) (by rw [st_e.1, st_e.2.2.2.2.2.1]; decide), m_std hU.1 hMy g28 (by omega) (by rw [st_e.2.1, st_e.2.2.2.2.2.2.1]; decide), s1, C10_eq hU.1 (s4.2.2.2.2.2.2.2.tm hU.2.2.1) s4.1.2.2 (by omega), st_e.1, st_e.2.1]
    rfl
end UR
