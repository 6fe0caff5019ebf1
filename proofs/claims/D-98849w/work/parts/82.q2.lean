/-! PURE LAW: count, part, seed, log, force, end, feed -/
set_option maxRecDepth 100000
section AE
variable {σx σm σx' σm' : cS} {rs : List RS} {im : IM} {mm vv ww t u lg un un' : Nat} {δ σ δ' σ' z w : cS}
theorem ct_sum (h1 : σx.1 999 0 = 1) (hn : Rn mm vv ww t u (vw σx 1000) σm) : JJ (x_count_202 σx (fun v => some v) FU 0 0) ((m_crossedAll σm).bind fun r => some r) (fun a b => a = b) := by
  have h8 := hn.v8
  have hz := nz_1 h1
  have dv : σx.1 1999 2 = nI vv := hn.dv
  have key : JJ (x_count_202 σx (fun v => some v) FU 0 0) (m_crossedAll σm) (fun a b => a = b) := by
    unfold m_crossedAll
    refine JJ.loop (S := Int32) (T := Int32) (Lx := fun n s i => x_count_202 σx (fun v => some v) n s i) (Lm := fun n s i => m_crossedAll_4 σm (fun v => some v) n s i) (I := fun _ a b => a = b) (N := vv) ?_ ?_ vv 0 (by omega) FU FU (FU_gt (by omega)) (FU_gt (by omega)) 0 0 rfl
    · intro n n' k a b hk hI kk
      subst hI
      show JJ (x_count_202 _ _ (n + 1) a (nI k)) (m_crossedAll_4 _ _ (n' + 1) a (nI k)) _
      rw [x_count_202, m_crossedAll_4]
      have e3 : σx.1 1019 k = σm.1 9 k := hn.cr (by omega)
      refine JJ.gl hz (JJ.el (by rw [dv]; exact nI_ge hk (by omega)) (JJ.er (by rw [hn.mv']; exact nI_ge hk (by omega)) (JJ.gl (inbn (by omega) (by decide)) (JJ.gr (inbn (by omega) (by decide)) ?_))))
      rw [ixn (by omega), nI_1, e3]
      exact kk _ _ rfl
    · intro n n' a b hI
      show JJ (x_count_202 _ _ (n + 1) a (nI vv)) (m_crossedAll_4 _ _ (n' + 1) b (nI vv)) _
      rw [x_count_202, m_crossedAll_4]
      exact JJ.gl hz (JJ.tl (by rw [dv]; exact nI_le (Nat.le_refl _) (by omega)) (JJ.tr (by rw [hn.mv']; exact nI_le (Nat.le_refl _) (by omega)) (JJ.ret hI)))
  obtain ⟨a, b, e1, e2, rfl⟩ := key
  exact ⟨a, a, e1, by rw [e2]; rfl, rfl⟩
theorem op_count (h : PL σx rs im σm) (v : Int32) : JJ (x_count σx v) (m_count σm v) (fun a b => a = b) := by
  unfold x_count m_count
  have hr := h.2.1
  have hg := h.2.2.1
  have ht := h.1
  by_cases c0 : v = 0
  · subst c0
    refine JJ.el (by decide) (JJ.el (by decide) (JJ.el (by decide) (JJ.el (by decide) (JJ.el (by decide) (JJ.el (by decide) (JJ.el (by decide) (JJ.el (by decide) (JJ.el (by decide) (JJ.bl (x_in_eq 0 0 12) (JJ.el (by decide) (JJ.tr rfl (?_))))))))))))
    rcases h.ps with ⟨h0, hv⟩ | ⟨h1, mm, vv, ww, t, lg, un, hV⟩
    · exact JJ.tl h0 (JJ.ret (hv.1 0 (by decide)).symm)
    · exact JJ.el (by rw [h1]; decide) (JJ.tl rfl (JJ.ret (hV.1.dm.trans (hV.1.m_).symm)))
  by_cases c1 : v = 1
  · subst c1
    refine JJ.el (by decide) (JJ.el (by decide) (JJ.el (by decide) (JJ.el (by decide) (JJ.el (by decide) (JJ.el (by decide) (JJ.el (by decide) (JJ.el (by decide) (JJ.el (by decide) (JJ.bl (x_in_eq 1 0 12) (JJ.el (by decide) (JJ.er (by decide) (JJ.tr rfl (?_)))))))))))))
    rcases h.ps with ⟨h0, hv⟩ | ⟨h1, mm, vv, ww, t, lg, un, hV⟩
    · exact JJ.tl h0 (JJ.ret (hv.1 1 (by decide)).symm)
    · exact JJ.el (by rw [h1]; decide) (JJ.el (by decide) (JJ.tl rfl (JJ.ret hV.1.1.2.1)))
  by_cases c2 : v = 2
  · subst c2
    refine JJ.el (by decide) (JJ.el (by decide) (JJ.el (by decide) (JJ.el (by decide) (JJ.el (by decide) (JJ.el (by decide) (JJ.el (by decide) (JJ.el (by decide) (JJ.el (by decide) (JJ.bl (x_in_eq 2 0 12) (JJ.el (by decide) (JJ.er (by decide) (JJ.er (by decide) (JJ.tr rfl (?_))))))))))))))
    rcases h.ps with ⟨h0, hv⟩ | ⟨h1, mm, vv, ww, t, lg, un, hV⟩
    · exact JJ.tl h0 (JJ.ret (hv.1 2 (by decide)).symm)
    · exact JJ.el (by rw [h1]; decide) (JJ.el (by decide) (JJ.el (by decide) (JJ.tl rfl (JJ.ret (hV.1.dv.trans (hV.1.mv).symm)))))
  by_cases c3 : v = 3
  · subst c3
    refine JJ.el (by decide) (JJ.el (by decide) (JJ.el (by decide) (JJ.el (by decide) (JJ.el (by decide) (JJ.el (by decide) (JJ.el (by decide) (JJ.el (by decide) (JJ.el (by decide) (JJ.bl (x_in_eq 3 0 12) (JJ.el (by decide) (JJ.er (by decide) (JJ.er (by decide) (JJ.er (by decide) (JJ.tr rfl (?_)))))))))))))))
    rcases h.ps with ⟨h0, hv⟩ | ⟨h1, mm, vv, ww, t, lg, un, hV⟩
    · exact JJ.tl h0 (JJ.ret (hv.1 3 (by decide)).symm)
    · exact JJ.el (by rw [h1]; decide) (JJ.el (by decide) (JJ.el (by decide) (JJ.el (by decide) (JJ.tl rfl (JJ.ret (hV.1.dw.trans (hV.1.mw).symm))))))
  by_cases c4 : v = 4
  · subst c4
    exact JJ.tl rfl (JJ.er (by decide) (JJ.er (by decide) (JJ.er (by decide) (JJ.er (by decide) (JJ.tr rfl (JJ.ret (hr.2.1.trans hr.2.2.1.symm)))))))
  by_cases c5 : v = 5
  · subst c5
    exact JJ.el (by decide) (JJ.tl rfl (JJ.er (by decide) (JJ.er (by decide) (JJ.er (by decide) (JJ.er (by decide) (JJ.er (by decide) (JJ.tr rfl (JJ.ret (hg.2.1.1)))))))))
  by_cases c6 : v = 6
  · subst c6
    refine JJ.el (by decide) (JJ.el (by decide) (JJ.tl rfl (JJ.bl (x_in_eq 6 0 12) (JJ.el (by decide) (JJ.er (by decide) (JJ.er (by decide) (JJ.er (by decide) (JJ.er (by decide) (JJ.er (by decide) (JJ.er (by decide) (JJ.tr rfl (?_))))))))))))
    rcases h.ps with ⟨h0, hv⟩ | ⟨h1, mm, vv, ww, t, lg, un, hV⟩
    · exact JJ.tl h0 (JJ.ret (hv.1 5 (by decide)).symm)
    · exact JJ.el (by rw [h1]; decide) (JJ.el (by decide) (JJ.el (by decide) (JJ.el (by decide) (JJ.el (by decide) (JJ.el (by decide) (JJ.el (by decide) (JJ.tl rfl (JJ.ret (hV.1.dt.trans (hV.1.mt).symm)))))))))
  by_cases c7 : v = 7
  · subst c7
    refine JJ.el (by decide) (JJ.el (by decide) (JJ.el (by decide) (JJ.tl rfl (JJ.bl (x_in_eq 7 0 12) (JJ.el (by decide) (JJ.er (by decide) (JJ.er (by decide) (JJ.er (by decide) (JJ.er (by decide) (JJ.er (by decide) (JJ.er (by decide) (JJ.er (by decide) (JJ.tr rfl (?_))))))))))))))
    rcases h.ps with ⟨h0, hv⟩ | ⟨h1, mm, vv, ww, t, lg, un, hV⟩
    · exact JJ.tl h0 (JJ.ret (hv.1 4 (by decide)).symm)
    · exact JJ.el (by rw [h1]; decide) (JJ.el (by decide) (JJ.el (by decide) (JJ.el (by decide) (JJ.el (by decide) (JJ.el (by decide) (JJ.el (by decide) (JJ.el (by decide) (JJ.tl rfl (JJ.ret hV.1.bd)))))))))
  by_cases c8 : v = 8
  · subst c8
    refine JJ.el (by decide) (JJ.el (by decide) (JJ.el (by decide) (JJ.el (by decide) (JJ.tl rfl (JJ.bl (x_in_eq 8 0 12) (JJ.el (by decide) (JJ.er (by decide) (JJ.er (by decide) (JJ.er (by decide) (JJ.er (by decide) (JJ.er (by decide) (JJ.er (by decide) (JJ.er (by decide) (JJ.er (by decide) (JJ.tr rfl (?_))))))))))))))))
    rcases h.ps with ⟨h0, hv⟩ | ⟨h1, mm, vv, ww, t, lg, un, hV⟩
    · refine JJ.tl h0 ⟨0, 0, rfl, ?_, rfl⟩
      unfold m_crossedAll
      obtain ⟨n, hn⟩ : ∃ n, FU = n + 1 := ⟨FU - 1, by have := FU_gt (n := 0) (by decide); omega⟩
      rw [hn, m_crossedAll_4, if_pos (by rw [show ix 2 = 2 from rfl, hv.1 2 (by decide)]; decide)]
      rfl
    · exact JJ.el (by rw [h1]; decide) (JJ.el (by decide) (JJ.el (by decide) (JJ.el (by decide) (JJ.el (by decide) (JJ.el (by decide) (JJ.el (by decide) (JJ.el (by decide) (JJ.el (by decide) (JJ.tl rfl (ct_sum h1 hV.1))))))))))
  by_cases c9 : v = 9
  · subst c9
    refine JJ.el (by decide) (JJ.el (by decide) (JJ.el (by decide) (JJ.el (by decide) (JJ.el (by decide) (JJ.tl rfl (JJ.bl (x_in_eq 9 0 12) (JJ.el (by decide) (JJ.er (by decide) (JJ.er (by decide) (JJ.er (by decide) (JJ.er (by decide) (JJ.er (by decide) (JJ.er (by decide) (JJ.er (by decide) (JJ.er (by decide) (JJ.er (by decide) (JJ.tr rfl (?_))))))))))))))))))
    rcases h.ps with ⟨h0, hv⟩ | ⟨h1, mm, vv, ww, t, lg, un, hV⟩
    · exact JJ.tl h0 (JJ.ret (hv.1 6 (by decide)).symm)
    · exact JJ.el (by rw [h1]; decide) (JJ.el (by decide) (JJ.el (by decide) (JJ.el (by decide) (JJ.el (by decide) (JJ.el (by decide) (JJ.el (by decide) (JJ.el (by decide) (JJ.el (by decide) (JJ.el (by decide) (JJ.tl rfl (JJ.ret (hV.2.2.1.1.1.trans (hV.2.2.1.1.2.1).symm))))))))))))
  by_cases c10 : v = 10
  · subst c10
    refine JJ.el (by decide) (JJ.el (by decide) (JJ.el (by decide) (JJ.el (by decide) (JJ.el (by decide) (JJ.el (by decide) (JJ.tl rfl (JJ.bl (x_in_eq 10 0 12) (JJ.el (by decide) (JJ.er (by decide) (JJ.er (by decide) (JJ.er (by decide) (JJ.er (by decide) (JJ.er (by decide) (JJ.er (by decide) (JJ.er (by decide) (JJ.er (by decide) (JJ.er (by decide) (JJ.er (by decide) (JJ.tr rfl (?_))))))))))))))))))))
    rcases h.ps with ⟨h0, hv⟩ | ⟨h1, mm, vv, ww, t, lg, un, hV⟩
    · exact JJ.tl h0 (JJ.ret hv.2.symm)
    · exact JJ.el (by rw [h1]; decide) (JJ.el (by decide) (JJ.el (by decide) (JJ.el (by decide) (JJ.el (by decide) (JJ.el (by decide) (JJ.el (by decide) (JJ.el (by decide) (JJ.el (by decide) (JJ.el (by decide) (JJ.el (by decide) (JJ.ret (hV.2.2.2.2.1.1.trans (hV.2.2.2.2.1.2.1).symm))))))))))))
  by_cases c11 : v = 11
  · subst c11
    exact JJ.el (by decide) (JJ.el (by decide) (JJ.el (by decide) (JJ.el (by decide) (JJ.el (by decide) (JJ.el (by decide) (JJ.el (by decide) (JJ.tl rfl (JJ.er (by decide) (JJ.er (by decide) (JJ.er (by decide) (JJ.er (by decide) (JJ.er (by decide) (JJ.er (by decide) (JJ.er (by decide) (JJ.er (by decide) (JJ.er (by decide) (JJ.er (by decide) (JJ.er (by decide) (JJ.tr rfl (JJ.ret (hg.1.1)))))))))))))))))))))
  by_cases c12 : v = 12
  · subst c12
    exact JJ.el (by decide) (JJ.el (by decide) (JJ.el (by decide) (JJ.el (by decide) (JJ.el (by decide) (JJ.el (by decide) (JJ.el (by decide) (JJ.el (by decide) (JJ.tl rfl (JJ.er (by decide) (JJ.er (by decide) (JJ.er (by decide) (JJ.er (by decide) (JJ.er (by decide) (JJ.er (by decide) (JJ.er (by decide) (JJ.er (by decide) (JJ.er (by decide) (JJ.er (by decide) (JJ.er (by decide) (JJ.er (by decide) (JJ.tr rfl (JJ.ret (by obtain ⟨tp, -, a, b, -⟩ := ht; exact a.trans b.symm)))))))))))))))))))))))
  have hib : ib v 0 12 = 0 := by
    apply ib_0
    rintro ⟨a, b⟩
    obtain ⟨n, hn, rfl⟩ := nI_of ((n_le _ _).mpr a)
    have hb := (nI_leI (b := 12) hn (by decide)).mp b
    rcases (by omega : n = 0 ∨ n = 1 ∨ n = 2 ∨ n = 3 ∨ n = 4 ∨ n = 5 ∨ n = 6 ∨ n = 7 ∨ n = 8 ∨ n = 9 ∨ n = 10 ∨ n = 11 ∨ n = 12) with rfl | rfl | rfl | rfl | rfl | rfl | rfl | rfl | rfl | rfl | rfl | rfl | rfl
    · exact c0 rfl
    · exact c1 rfl
    · exact c2 rfl
    · exact c3 rfl
    · exact c4 rfl
    · exact c5 rfl
    · exact c6 rfl
    · exact c7 rfl
    · exact c8 rfl
    · exact c9 rfl
    · exact c10 rfl
    · exact c11 rfl
    · exact c12 rfl
  exact JJ.el c4 (JJ.el c5 (JJ.el c6 (JJ.el c7 (JJ.el c8 (JJ.el c9 (JJ.el c10 (JJ.el c11 (JJ.el c12 (JJ.bl (x_in_eq v 0 12) (JJ.tl hib (JJ.er c0 (JJ.er c1 (JJ.er c2 (JJ.er c3 (JJ.er c4 (JJ.er c5 (JJ.er c6 (JJ.er c7 (JJ.er c8 (JJ.er c9 (JJ.er c10 (JJ.er c11 (JJ.er c12 (JJ.ret rfl))))))))))))))))))))))))
/-! part -/
theorem gcd_ok {ρ : Type} (σ : cS) (v1 v2 v3 : Int32) (K : Int32 → Option ρ) : ∀ (d A B : Nat), B < 2 ^ d → A < 2 ^ 31 → B < 2 ^ 31 → 0 < A → ∃ g : Nat, 0 < g ∧ g < 2 ^ 31 ∧ (∀ n, 2 * d < n → gcdF n (nI A) (nI B) = some (nI g)) ∧ ∀ n, 2 * d < n → m_part_67 σ v1 v2 v3 K n (nI B) (nI A) = K (nI g) := by
  have zero : ∀ (A : Nat), (∀ n, 0 < n → gcdF n (nI A) (nI 0) = some (nI A)) ∧ ∀ n, 0 < n → m_part_67 σ v1 v2 v3 K n (nI 0) (nI A) = K (nI A) := by
    intro A
    refine ⟨fun n hn => ?_, fun n hn => ?_⟩
    · obtain ⟨k, rfl⟩ : ∃ k, n = k + 1 := ⟨n - 1, by omega⟩
      rw [gcdF]; exact if_pos rfl
    · obtain ⟨k, rfl⟩ : ∃ k, n = k + 1 := ⟨n - 1, by omega⟩
      rw [m_part_67]; exact if_pos rfl
  have step : ∀ (A B : Nat), A < 2 ^ 31 → B < 2 ^ 31 → 0 < B → (∀ n, gcdF (n + 1) (nI A) (nI B) = gcdF n (nI B) (nI (A % B))) ∧ ∀ n, m_part_67 σ v1 v2 v3 K (n + 1) (nI B) (nI A) = m_part_67 σ v1 v2 v3 K n (nI (A % B)) (nI B) := by
    intro A B hA hB h0
    have hne := nI_ne0 h0 hB
    refine ⟨fun n => ?_, fun n => ?_⟩
    · rw [gcdF, if_neg hne, pk_rem hA h0 hB]
    · rw [m_part_67, if_neg hne, pk_rem hA h0 hB]
      have : nz (nI B) = true := by unfold nz; rw [decide_eq_false hne]; rfl
      rw [this]; rfl
  intro d
  induction d with
  | zero =>
    intro A B hB hA hB' h0
    have : B = 0 := by omega
    subst this
    exact ⟨A, h0, hA, fun n hn => (zero A).1 n (by omega), fun n hn => (zero A).2 n (by omega)⟩
  | succ d ih =>
    intro A B hB hA hB' h0
    by_cases b0 : B = 0
    · subst b0
      exact ⟨A, h0, hA, fun n hn => (zero A).1 n (by omega), fun n hn => (zero A).2 n (by omega)⟩
    obtain ⟨s1, s2⟩ := step A B hA hB' (by omega)
    have hlt : A % B < B := Nat.mod_lt _ (by omega)
    by_cases c0 : A % B = 0
    · refine ⟨B, by omega, hB', fun n hn => ?_, fun n hn => ?_⟩
      · obtain ⟨k, rfl⟩ : ∃ k, n = k + 1 := ⟨n - 1, by omega⟩
        rw [s1, c0]; exact (zero B).1 k (by omega)
      · obtain ⟨k, rfl⟩ : ∃ k, n = k + 1 := ⟨n - 1, by omega⟩
        rw [s2, c0]; exact (zero B).2 k (by omega)
    obtain ⟨r1, r2⟩ := step B (A % B) hB' (by omega) (by omega)
    have hlt2 : B % (A % B) < 2 ^ d := by
      have h1 : B % (A % B) < A % B := Nat.mod_lt _ (by omega)
      have h2 : B % (A % B) + (A % B) ≤ B := by
        have e := Nat.div_add_mod B (A % B)
        have q1 : 1 ≤ B / (A % B) := (Nat.le_div_iff_mul_le (by omega)).mpr (by omega)
        have q2 : (A % B) * 1 ≤ (A % B) * (B / (A % B)) := Nat.mul_le_mul_left _ q1
        omega
      rw [Nat.pow_succ] at hB
      omega
    obtain ⟨g, g0, g1, g2, g3⟩ := ih (A % B) (B % (A % B)) hlt2 (by omega) (Nat.lt_trans (Nat.mod_lt B (show 0 < A % B by omega)) (by omega)) (by omega)
    refine ⟨g, g0, g1, fun n hn => ?_, fun n hn => ?_⟩
    · obtain ⟨k, rfl⟩ : ∃ k, n = k + 1 + 1 := ⟨n - 2, by omega⟩
      rw [s1, r1]; exact g2 k (by omega)
    · obtain ⟨k, rfl⟩ : ∃ k, n = k + 1 + 1 := ⟨n - 2, by omega⟩
      rw [s2, r2]; exact g3 k (by omega)
theorem lk_20 {x : Int32} (h : lk x) : ∃ n, n ≤ 40 ∧ x + 20 = nI n := by
  unfold lk at h
  have c : (20 : Int32).toInt = 20 := by decide
  have e : (x + 20).toInt = x.toInt + 20 := by rw [b_add (by rw [c]; omega) (by rw [c]; omega), c]
  obtain ⟨n, hn, q⟩ := nI_of (x := x + 20) (by rw [i_lt, e]; rw [show (0 : Int32).toInt = 0 by decide]; omega)
  refine ⟨n, ?_, q⟩
  have : (nI n).toInt = n := nI_toInt hn
  rw [← q, e] at this
  omega
theorem op_part (h : PL σx rs im σm) (v : Int32) : JJ (x_part σx v) (m_part σm v) (fun a b => a = b) := by
  unfold x_part m_part
  rcases q_isStrip h with ⟨h0, hs⟩ | ⟨h1, hs, mm, vv, ww, t, lg, un, hV⟩
  · exact JJ.tl h0 (JJ.br hs (JJ.tr rfl (JJ.ret rfl)))
  have h10 := hV.1.m10
  have h2 : 2 ≤ mm := hV.1.2.2.2.2.2.1
  have hz := nz_1 h1
  have dm : σx.1 1999 0 = nI mm := hV.1.dm
  refine JJ.el (by rw [h1]; decide) (JJ.br hs (JJ.er (by decide) (JJ.bl (x_in_eq v 0 1) (JJ.br (m_in_eq v 0 1) (JJ.ii Iff.rfl (fun _ _ => JJ.ret rfl) (fun _ _ => ?_))))))
  rw [dm, hV.1.m', show (41 : Int32) = nI 41 from rfl, pk_mul]
  refine JJ.loop (S := Int32) (T := Int32) (Lx := fun n s i => x_part_23 σx v _ n s i) (Lm := fun n s i => m_part_23 σm v _ n s i) (I := fun j a b => a = b ∧ ∃ W, W ≤ 40 * j ∧ a = nI W) (N := mm) ?_ ?_ mm 0 (by omega) FU FU (FU_gt (by omega)) (FU_gt (by omega)) 0 0 ⟨rfl, 0, by omega, rfl⟩
  · intro n n' j a b hj ⟨hI, W, hW, ea⟩ kk
    subst hI
    subst ea
    show JJ (x_part_23 _ _ _ (n + 1) (nI W) (nI j)) (m_part_23 _ _ _ (n' + 1) (nI W) (nI j)) _
    rw [x_part_23, m_part_23]
    have el : σx.1 1016 j = σm.1 2 j := hV.1.ln (by omega)
    obtain ⟨l, hl, e20⟩ := lk_20 (hV.1.lb (by omega : j < 10))
    refine JJ.gl hz (JJ.el (by rw [dm]; exact nI_ge hj (by omega)) (JJ.er (by rw [hV.1.m']; exact nI_ge hj (by omega)) (JJ.gl (inbn (by omega) (by decide)) (JJ.gr (inbn (by omega) (by decide)) ?_))))
    rw [ixn (by omega), el, e20, nI_add, nI_1]
    exact kk _ _ ⟨rfl, W + l, by omega, rfl⟩
  · intro n n' a b ⟨hI, W, hW, ea⟩
    subst hI
    subst ea
    show JJ (x_part_23 _ _ _ (n + 1) (nI W) (nI mm)) (m_part_23 _ _ _ (n' + 1) (nI W) (nI mm)) _
    rw [x_part_23, m_part_23]
    refine JJ.gl hz (JJ.tl (by rw [dm]; exact nI_le (Nat.le_refl _) (by omega)) (JJ.tr (by rw [hV.1.m']; exact nI_le (Nat.le_refl _) (by omega)) ?_))
    obtain ⟨g, g0, g1, g2, g3⟩ := gcd_ok σm v (nI W) (nI (41 * mm)) (fun v_12 => if v = 0 then gd (nz v_12) (some (nI W / v_12)) else gd (nz v_12) (some (nI (41 * mm) / v_12))) 9 (41 * mm) W (by omega) (by omega) (by omega) (by omega)
    have hx : x_divisor (nI (41 * mm)) (nI W) = some (nI g) := g2 64 (by decide)
    rw [g3 FU (FU_gt (by decide))]
    have hg : nz (nI g) = true := by unfold nz; rw [decide_eq_false (nI_ne0 g0 g1)]; rfl
    exact JJ.ii Iff.rfl (fun _ _ => JJ.bl hx (JJ.gl hg (JJ.gr hg (JJ.ret rfl)))) (fun _ _ => JJ.bl hx (JJ.gl hg (JJ.gr hg (JJ.ret rfl))))
theorem op_seed (h : PL σx rs im σm) (v : Int32) : JP rs im (x_seed σx v) (m_seed σm v) := by
  unfold x_seed m_seed
  refine JJ.ii Iff.rfl (fun c _ => ?_) (fun _ _ => JJ.ret ⟨rfl, h⟩)
  obtain ⟨n, hn, rfl⟩ := nI_of ((n_le _ _).mpr c)
  refine JJ.ret ⟨h.2.2.1.1.1, h.gen (fun k hk => si_o (by omega)) (fun i hi => si_p (by omega)) ⟨fun b hb h5 i hi => ?_, by rw [si_o (by decide)]⟩ (fun i _ => by rw [si_o (by decide)]) (fun b hb => si_o (by omega)) (fun i _ => by rw [si_o (by decide)]) ?_ ?_⟩
  · by_cases e : b = 1
    · subst e
      exact si_p (by have : i < 7 := hi; show i ≠ 7; omega)
    · rw [si_o e]
  · exact ⟨by rw [si_a]; exact (si_a (σ := σm) (k := 1) (i := 7)).symm, by rw [si_a]; exact ⟨n, hn, rfl⟩⟩
  · have e : (si σm 1 (ix 7) (nI n)).1 1 8 = σm.1 1 8 := si_p (by decide)
    rw [si_p (by decide), e]
    exact h.2.2.1.2.1
theorem op_force (h : PL σx rs im σm) (v : Int32) : JP rs im (x_force σx v) (m_force σm v) := by
  have hr := h.2.1
  have hlen := hr.1
  have set : Fo rs.length v → JP rs im (some (si σx 999 7 v, σx.1 999 7)) (some (si σm 1 (ix 8) v, σm.1 1 (ix 8))) := by
    intro hf
    refine JJ.ret ⟨h.2.2.1.2.1.1, h.gen (fun k hk => si_o (by omega)) (fun i hi => si_p (by omega)) ⟨fun b hb h5 i hi => ?_, by rw [si_o (by decide)]⟩ (fun i _ => by rw [si_o (by decide)]) (fun b hb => si_o (by omega)) (fun i _ => by rw [si_o (by decide)]) ?_ ?_⟩
    · by_cases e : b = 1
      · subst e
        exact si_p (by have : i < 7 := hi; show i ≠ 8; omega)
      · rw [si_o e]
    · have e : (si σm 1 (ix 8) v).1 1 7 = σm.1 1 7 := si_p (by decide)
      rw [si_p (by decide), e]
      exact h.2.2.1.1
    · exact ⟨by rw [si_a]; exact (si_a (σ := σm) (k := 1) (i := 8)).symm, by rw [si_a]; exact hf⟩
  have cm : (-1 : Int32).toInt = -1 := by decide
  have hm : ∀ c : Int32, σm.1 999 31 - 1 = c → m_force σm v = if ib v (-1) c = 0 then some (σm, -2) else some (si σm 1 (ix 8) v, σm.1 1 (ix 8)) := by
    intro c hc
    unfold m_force
    rw [hc]
    exact congrArg (fun z => Option.bind z _) (m_in_eq v (-1) c)
  obtain ⟨c, hc, hct⟩ : ∃ c : Int32, σm.1 999 31 - 1 = c ∧ c.toInt = (rs.length : Int) - 1 := by
    by_cases e : rs.length = 0
    · exact ⟨-1, by rw [hr.2.2.1, e]; rfl, by rw [e]; decide⟩
    · exact ⟨nI (rs.length - 1), by rw [hr.2.2.1, nI_m1 (by omega)], by rw [nI_toInt (by omega)]; omega⟩
  rw [hm c hc]
  unfold x_force
  rw [hr.2.1]
  by_cases e1 : v = -1
  · subst e1
    refine JJ.tl rfl (JJ.er ?_ (set (Or.inl rfl)))
    rw [ib_1 ⟨(i_le _ _).mpr (Int.le_refl _), (i_le _ _).mpr (by rw [hct, cm]; omega)⟩]
    decide
  · refine JJ.el e1 ?_
    rcases pk_ix v (n := rs.length) (by omega) with q | q | ⟨j, hj, rfl⟩
    · refine JJ.tl q (JJ.tr ?_ (JJ.ret ⟨rfl, h⟩))
      apply ib_0
      rintro ⟨a, -⟩
      rw [i_le, cm] at a
      rw [i_lt, show (0 : Int32).toInt = 0 by decide] at q
      exact e1 ((i_eq _ _).mpr (by rw [cm]; omega))
    · have q1 := (i_le _ _).mp q
      rw [nI_toInt (by omega)] at q1
      refine JJ.el (by rw [i_lt, show (0 : Int32).toInt = 0 by decide]; omega) (JJ.el (by rw [i_lt, nI_toInt (by omega)]; omega) (JJ.tr ?_ (JJ.ret ⟨rfl, h⟩)))
      apply ib_0
      rintro ⟨-, b⟩
      rw [i_le, hct] at b
      omega
    · refine JJ.el (nI_pos (by omega)) (JJ.tl (nI_lt hj (by omega)) (JJ.er ?_ (set (Or.inr ⟨j, hj, rfl⟩))))
      rw [ib_1 ⟨(i_le _ _).mpr (by rw [cm, nI_toInt (by omega)]; omega), (i_le _ _).mpr (by rw [hct, nI_toInt (by omega)]; omega)⟩]
      decide
end AE
