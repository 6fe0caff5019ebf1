/-! PURE LAW: op_rule -/
set_option maxRecDepth 100000
theorem Fo.mono {n m : Nat} {v : Int32} (h : Fo n v) (hm : n ≤ m) : Fo m v := h.imp id (fun ⟨r, h1, h2⟩ => ⟨r, by omega, h2⟩)
/-- the tape, the rules may be others -/
theorem PL.rules {σx σx' σm σm' : cS} {rs rs' : List RS} {im : IM} (h : PL σx rs im σm) (x1 : ∀ k, k ≠ 997 → k ≠ 998 → k ≠ 999 → σx'.1 k = σx.1 k) (x2 : ∀ i, i ≠ 10 → i ≠ 15 → σx'.1 999 i = σx.1 999 i) (m1 : ∀ k, ¬ (37 ≤ k ∧ k ≤ 44) → k ≠ 999 → σm'.1 k = σm.1 k) (m2 : ∀ i, ¬ (27 ≤ i ∧ i ≤ 35) → σm'.1 999 i = σm.1 999 i) (ht : Pt σx' σm') (hr : Pr rs' σx' σm') (hn : rs.length ≤ rs'.length) : PL σx' rs' im σm' := by
  obtain ⟨-, -, ⟨g1, g2, g3, g4⟩, hs, hi⟩ := h
  have him : ∀ b ∈ imA, ¬ (37 ≤ b ∧ b ≤ 44) ∧ b ≠ 999 := by decide
  have eV : EmV σm σm' := ⟨fun b hb _ i _ => by rw [m1 b (him b hb).1 (him b hb).2], m2 51 (by omega)⟩
  refine ⟨ht, hr, ⟨?_, ?_, (m2 36 (by omega)).trans g3, fun k h1 h2 i => by rw [x1 k (by omega) (by omega) (by omega)]; exact g4 k h1 h2 i⟩, ?_, ⟨fun k hk => ?_, fun k hk => (x1 k (by omega) (by omega) (by omega)).trans (hi.2 k hk)⟩⟩
  · rw [x2 6 (by decide) (by decide), m1 1 (by omega) (by decide)]; exact g1
  · rw [x2 7 (by decide) (by decide), m1 1 (by omega) (by decide)]; exact ⟨g2.1, g2.2.mono hn⟩
  · rcases hs with ⟨a, b⟩ | ⟨a, b⟩
    · exact Or.inl ⟨(x2 0 (by decide) (by decide)).trans a, b.em eV⟩
    · exact Or.inr ⟨(x2 0 (by decide) (by decide)).trans a, (b.em eV).ex (eqD.of (fun k hk => x1 (1000 + k) (by omega) (by omega) (by omega)))⟩
  · rcases hi.1 k hk with ⟨a, b⟩ | ⟨a, b, c1, c2, c3⟩
    · exact Or.inl ⟨a, by rw [m1 65 (by omega) (by decide)]; exact b⟩
    · refine Or.inr ⟨a, by rw [m1 65 (by omega) (by decide)]; exact b, ?_, ?_, ?_⟩
      · rw [x1 (990 + k) (by omega) (by omega) (by omega), m1 64 (by omega) (by decide)]; exact c1
      · rw [x1 (990 + k) (by omega) (by omega) (by omega), m1 64 (by omega) (by decide)]; exact ⟨c2.1, c2.2.mono hn⟩
      · have eu := unp_em (σ := σm) (σ' := σm') hk (fun i hi => by rw [m1 64 (by omega) (by decide)])
        rw [x1 (990 + k) (by omega) (by omega) (by omega)]
        rcases c3 with ⟨p, q⟩ | ⟨p, q⟩
        · exact Or.inl ⟨p, q.em eu⟩
        · exact Or.inr ⟨p, (q.em eu).ex (eqD.of (fun j hj => x1 (10000 + 1000 * k + j) (by omega) (by omega) (by omega)))⟩
theorem nI_wild (v : Int32) : ∃ o, 400 < o ∧ nI o = v := by
  have e : nI v.toBitVec.toNat = v := Int32.toBitVec_inj.mp (BitVec.eq_of_toNat_eq (pk_tn v.toBitVec.isLt))
  refine ⟨v.toBitVec.toNat + 4294967296, by omega, ?_⟩
  rw [← nI_add, e, show nI 4294967296 = 0 by decide +kernel, Int32.add_zero]
theorem Um.sl {r r' : Nat} {σm b : cS} (h : Um r σm b) (hr : r' < r) : Sl r' σm b := ⟨fun i hi => h.2.2.1 _ (by omega), by rw [h.2.1], fun i hi => h.2.2.2.1 _ (by omega)⟩
theorem pbT_U {σx a : cS} (h : Ux σx a) (h0 : ∀ k, k ≠ 997 → (clT σx).1 k = σx.1 k) : (∀ k, k ≠ 997 → k ≠ 998 → (pbT (clT σx) a).1 k = σx.1 k) ∧ (pbT (clT σx) a).1 998 = a.1 998 := by
  refine ⟨fun k h1 h2 => ?_, (if_pos tI_mem.1.2.1 : (if 998 ∈ tIds then a.1 998 else (clT σx).1 998) = a.1 998)⟩
  show (if k ∈ tIds then a.1 k else (clT σx).1 k) = _
  split
  · exact h k h1 h2
  · exact h0 k h1
section UJ
variable {σx σm : cS} {rs : List RS} {im : IM}
/-- rule: equal answers, the relation with the new rule, 400 cells at most -/
theorem op_rule (h : PL σx rs im σm) : JJ (x_rule σx) (m_rule σm) (fun a b => a.2.1 = b.2 ∧ a.2.2.1 ≤ 400 ∧ ((a.2.2.2 = none ∧ PL a.1 rs im b.1) ∨ ∃ R, a.2.2.2 = some R ∧ a.2.1 = nI rs.length ∧ PL a.1 (rs ++ [R]) im b.1)) := by
  obtain ⟨⟨tp, t1, t2, t3, t4⟩, ⟨r1, r2, r3, r4⟩, ⟨-, -, g3, -⟩, -⟩ := id h
  unfold x_rule m_rule
  rw [r2, r3]
  by_cases c6 : rs.length = 6
  · rw [if_pos (show nI rs.length = 6 by rw [c6]; rfl), if_pos (show nI rs.length = 6 by rw [c6]; rfl)]
    exact JJ.ret ⟨rfl, Nat.zero_le _, Or.inl ⟨rfl, h⟩⟩
  have hn6 : ¬ nI rs.length = 6 := fun x => c6 ((nI_eq (b := 6) (by omega) (by decide)).mp x)
  rw [if_neg hn6, if_neg hn6]
  obtain ⟨r, hr⟩ : ∃ r, rs.length = r := ⟨_, rfl⟩
  rw [hr] at r1 r2 r3 c6 hn6 ⊢
  have hr6 : r < 6 := by omega
  -- what rule starts from
  obtain ⟨m0, hm0⟩ : ∃ m, m = si σm 999 30 (nI r) := ⟨_, rfl⟩
  have hst : m_starts (si σm 999 30 (nI r)) = some (si (si (si (si (si m0 999 28 0) 999 29 0) 999 32 0) 999 33 0) 999 34 0) := by rw [hm0]; rfl
  rw [hst]
  obtain ⟨b0, hb0⟩ : ∃ b, b = si (si (si (si (si m0 999 28 0) 999 29 0) 999 32 0) 999 33 0) 999 34 0 := ⟨_, rfl⟩
  have m0o : ∀ i, i ≠ 30 → m0.1 999 i = σm.1 999 i := fun i hi => by rw [hm0]; exact si_p hi
  have m0k : ∀ k, k ≠ 999 → m0.1 k = σm.1 k := fun k hk => by rw [hm0]; exact si_o hk
  have b0p : ∀ i, i ≠ 28 → i ≠ 29 → i ≠ 32 → i ≠ 33 → i ≠ 34 → b0.1 999 i = m0.1 999 i := fun i i1 i2 i3 i4 i5 => by rw [hb0, si_p i5, si_p i4, si_p i3, si_p i2, si_p i1]
  have b0k : ∀ k, k ≠ 999 → b0.1 k = m0.1 k := fun k hk => by rw [hb0, si_o hk, si_o hk, si_o hk, si_o hk, si_o hk]
  have hc0 : ∀ k, k ≠ 997 → (clT σx).1 k = σx.1 k := fun k hk => by unfold clT; exact sA_o hk
  have hc7 : ∀ i, (clT σx).1 997 i = 0 := fun i => by unfold clT; rw [sA_s]
  have hUB : UB (σm.1 37) tp (clT σx) m0 r := by
    refine ⟨⟨t1, fun i hi => (t4 i hi).2⟩, ⟨by rw [hc0 999 (by decide)]; exact t2, fun i hi => by rw [hc0 9 (by decide)]; exact (t4 i hi).1⟩, ⟨(m0o 27 (by decide)).trans t3, fun i hi => by rw [m0k 37 (by decide)]⟩, by rw [hm0]; exact si_a, hr6, (m0o 36 (by decide)).trans g3⟩
  obtain ⟨o, ho1, ho2⟩ := nI_wild (b0.1 999 35)
  have hUl : Ul (clT σx) m0 r tp (nI 0) 0 0 0 0 0 o (clT σx) b0 := by
    have e28 : b0.1 999 28 = 0 := by rw [hb0, si_p (by decide), si_p (by decide), si_p (by decide), si_p (by decide)]; exact si_a
    have e29 : b0.1 999 29 = 0 := by rw [hb0, si_p (by decide), si_p (by decide), si_p (by decide)]; exact si_a
    have e32 : b0.1 999 32 = 0 := by rw [hb0, si_p (by decide), si_p (by decide)]; exact si_a
    have e33 : b0.1 999 33 = 0 := by rw [hb0, si_p (by decide)]; exact si_a
    have e34 : b0.1 999 34 = 0 := by rw [hb0]; exact si_a
    exact ⟨⟨Nat.zero_le _, hc7 2, e28⟩, ⟨by decide, hc7 3, e33⟩, ⟨by decide, hc7 4, e34⟩, ⟨by decide, e32⟩, ⟨Or.inl ho1, ho2.symm⟩, ⟨e29, hc7 5⟩, fun _ _ _ => rfl, fun k k1 k2 => b0k k k2, by rw [b0k 40 (by decide)], fun i _ => by rw [b0k 38 (by decide), b0k 39 (by decide)]; exact ⟨rfl, rfl⟩, fun i _ => by rw [b0k 41 (by decide), b0k 42 (by decide), b0k 43 (by decide)]; exact ⟨rfl, rfl, rfl⟩, fun i i1 i2 i3 i4 i5 i6 => b0p i i1 i2 i3 i4 i5⟩
  rw [← hb0]
  obtain ⟨⟨a1, c1, o1⟩, ⟨b1, v1⟩, j1, j2, jc, jr⟩ := j_rloop hUB 12 0 (by decide) FU FU (FU_gt (by decide)) (FU_gt (by decide)) _ _ _ _ _ _ [] rfl hUl (fun i q hi => by cases hi)
  dsimp only at jc jr
  have hK : ∀ (K : cS → Int32 → Option (cS × Int32)) n σ v w, m_rule_27 K n σ v w = (m_rule_27 (fun s v => some (s, v)) n σ v w).bind fun x => K x.1 x.2 := by
    intro K n
    induction n with
    | zero => exact fun _ _ _ => rfl
    | succ n ih =>
      intro σ v w
      rw [m_rule_27, m_rule_27]
      by_cases c : w = 0
      · rw [if_pos c, if_pos c]; rfl
      · rw [if_neg c, if_neg c]
        cases m_ruleClause σ v with
        | none => rfl
        | some s =>
          show (m_goesOn s).bind _ = ((m_goesOn s).bind _).bind _
          cases m_goesOn s with
          | none => rfl
          | some z => exact ih z.1 (v + 1) z.2
  have hx : t_ruleTold (clT σx) = some (a1, c1 + 1 + 1, o1) := by
    unfold t_ruleTold
    rw [j1]
    rfl
  have j2' : m_rule_27 (fun s v => some (s, v)) FU b0 0 1 = some (b1, v1) := j2
  rw [hx]
  have kd : ∀ {f : cS}, Um r m0 f → (∀ k, ¬ (37 ≤ k ∧ k ≤ 44) → k ≠ 999 → (si (si (si f 999 27 0) 40 r v1) 999 31 0).1 k = σm.1 k) := fun hf k k1 k2 => by rw [si_o k2, si_o (by omega), si_o k2, hf.1 k (by omega) k2, m0k k k2]
  -- behind the loop, on the model's side
  have fin : ∀ t : Nat, (if b1.1 999 29 = 0 then t = 1 else t = 0) → ∀ f : cS, f = si (si (si b1 999 27 0) 40 r v1) 999 31 (nI (r + t)) → (∀ k, ¬ (37 ≤ k ∧ k ≤ 44) → k ≠ 999 → Um r m0 b1 → f.1 k = σm.1 k) := by
    intro t _ f hf k k1 k2 hu
    rw [hf, si_o k2, si_o (by omega), si_o k2, hu.1 k (by omega) k2, m0k k k2]
  have hmod : ∀ t : Nat, t ≤ 1 → (if b1.1 999 29 = 0 then some (1 : Int32) else some 0) = some (nI t) → Um r m0 b1 → (m_starts (si σm 999 30 (nI r))).isSome = true → (m_rule_27 (fun σ_10 v_11 => (nmb (si σ_10 999 27 0) fun σ_12 => (gd (inb ((si σ_10 999 27 0).1 999 30) 6) (((if ((si σ_12 40 (ix ((si σ_10 999 27 0).1 999 30)) v_11).1 999 29) = 0 then (some (1)) else (some (0)) : Option (Int32)).bind fun t_15 => (nmb (si σ_12 40 (ix ((si σ_10 999 27 0).1 999 30)) v_11) fun σ_17 => (if ((si σ_17 999 31 (((si σ_12 40 (ix ((si σ_10 999 27 0).1 999 30)) v_11).1 999 31) + t_15)).1 999 29) ≤ 0 then (some ((si σ_17 999 31 (((si σ_12 40 (ix ((si σ_10 999 27 0).1 999 30)) v_11).1 999 31) + t_15)), (((si σ_17 999 31 (((si σ_12 40 (ix ((si σ_10 999 27 0).1 999 30)) v_11).1 999 31) + t_15)).1 999 31) - 1))) else (some ((si σ_17 999 31 (((si σ_12 40 (ix ((si σ_10 999 27 0).1 999 30)) v_11).1 999 31) + t_15)), ((-2) - ((si σ_17 999 31 (((si σ_12 40 (ix ((si σ_10 999 27 0).1 999 30)) v_11).1 999 31) + t_15)).1 999 29))))))))))) FU b0 0 1) = (if b1.1 999 29 ≤ 0 then some (si (si (si b1 999 27 0) 40 r v1) 999 31 (nI (r + t)), nI (r + t) - 1) else some (si (si (si b1 999 27 0) 40 r v1) 999 31 (nI (r + t)), -2 - b1.1 999 29)) := by
    intro t ht1 ht hu _
    rw [hK, j2']
    have f30 : (si b1 999 27 0).1 999 30 = nI r := by rw [si_p (by decide), hu.slot hUB.2.2.2.1]
    have f29 : (si (si b1 999 27 0) 40 r v1).1 999 29 = b1.1 999 29 := by rw [si_o (by decide), si_p (by decide)]
    have f31 : (si (si b1 999 27 0) 40 r v1).1 999 31 = nI r := by rw [si_o (by decide), si_p (by decide), hu.2.2.2.2 31 (by decide) (by decide) (by decide) (by decide) (by decide) (by decide), m0o 31 (by decide)]; exact r3
    show gd (inb ((si b1 999 27 0).1 999 30) 6) (((if ((si (si b1 999 27 0) 40 (ix ((si b1 999 27 0).1 999 30)) v1).1 999 29) = 0 then (some (1)) else (some (0)) : Option (Int32)).bind fun t_15 => (if ((si (si (si b1 999 27 0) 40 (ix ((si b1 999 27 0).1 999 30)) v1) 999 31 (((si (si b1 999 27 0) 40 (ix ((si b1 999 27 0).1 999 30)) v1).1 999 31) + t_15)).1 999 29) ≤ 0 then (some ((si (si (si b1 999 27 0) 40 (ix ((si b1 999 27 0).1 999 30)) v1) 999 31 (((si (si b1 999 27 0) 40 (ix ((si b1 999 27 0).1 999 30)) v1).1 999 31) + t_15)), (((si (si (si b1 999 27 0) 40 (ix ((si b1 999 27 0).1 999 30)) v1) 999 31 (((si (si b1 999 27 0) 40 (ix ((si b1 999 27 0).1 999 30)) v1).1 999 31) + t_15)).1 999 31) - 1))) else (some ((si (si (si b1 999 27 0) 40 (ix ((si b1 999 27 0).1 999 30)) v1) 999 31 (((si (si b1 999 27 0) 40 (ix ((si b1 999 27 0).1 999 30)) v1).1 999 31) + t_15)), ((-2) - ((si (si (si b1 999 27 0) 40 (ix ((si b1 999 27 0).1 999 30)) v1) 999 31 (((si (si b1 999 27 0) 40 (ix ((si b1 999 27 0).1 999 30)) v1).1 999 31) + t_15)).1 999 29))))))) = _
    rw [f30, inbn hr6 (by decide), ixn (by omega), f29, f31, ht]
    show (if (si (si (si b1 999 27 0) 40 r v1) 999 31 (nI r + nI t)).1 999 29 ≤ 0 then some (si (si (si b1 999 27 0) 40 r v1) 999 31 (nI r + nI t), (si (si (si b1 999 27 0) 40 r v1) 999 31 (nI r + nI t)).1 999 31 - 1) else some (si (si (si b1 999 27 0) 40 r v1) 999 31 (nI r + nI t), -2 - (si (si (si b1 999 27 0) 40 r v1) 999 31 (nI r + nI t)).1 999 29)) = _
    rw [nI_add, si_p (by decide : 29 ≠ 31), f29, si_a]
  have hPt : ∀ {x m : cS}, x.1 999 10 = 0 → m.1 999 27 = 0 → Pt x m := fun e1 e2 => ⟨0, by decide, e1, e2, fun i hi => absurd hi (Nat.not_lt_zero i)⟩
  have hone : (m_starts (si σm 999 30 (nI r))).isSome = true := by rw [hst]; rfl
  have c400 : c1 + 1 + 1 + 1 ≤ 400 := by omega
  rcases jr with ⟨e, k, q, ⟨f1, f2⟩, hX, ⟨f3, hk, hq⟩, hS⟩ | ⟨R, e, eo, ev, hR, h29, hX, hS, he, hcl⟩
  · subst e
    obtain ⟨p1, p2⟩ := pbT_U (σx := σx) (a := a1) (fun k k1 k2 => (hX k k1 k2).trans (hc0 k k1)) hc0
    have hz : ¬ b1.1 999 29 = 0 := by rw [f3]; exact nI_ne0 (by omega) (by omega)
    have hM := hmod 0 (by decide) (by rw [if_neg hz]; rfl) hS hone
    show JJ ((x_faulted (pbT (clT σx) a1)).bind fun r => some (si (pbT (clT σx) a1) 999 10 0, r, c1 + 1 + 1 + 1, none)) (m_rule_27 _ FU b0 0 1) _
    rw [hM, if_neg (by rw [f3]; exact nI_ge (a := 0) (by omega) (by omega))]
    refine JJ.bl rfl (JJ.ret ⟨?_, c400, Or.inl ⟨rfl, ?_⟩⟩)
    · dsimp only
      rw [p2, f1, f2, f3, show (8 : Int32) = nI 8 from rfl, pk_mul, show (1 : Int32) = nI 1 from rfl, nI_add, nI_add]
    · dsimp only
      refine h.rules (fun k k1 k2 k3 => by rw [si_o k3]; exact p1 k k1 k2) (fun i i1 i2 => by rw [si_p i1, p1 999 (by decide) (by decide)]) (fun k k1 k2 => by rw [si_o k2, si_o (by omega), si_o k2, hS.1 k (by omega) k2, m0k k k2]) (fun i hi => ?_) (hPt si_a (by rw [si_p (by decide), si_o (by decide)]; exact si_a)) ⟨by omega, ?_, ?_, fun r' hr' => (r4 r' hr').mv ?_⟩ (Nat.le_refl _)
      · rw [si_p (by omega), si_o (by decide), si_p (by omega), hS.2.2.2.2 i (by omega) (by omega) (by omega) (by omega) (by omega) (by omega), m0o i (by omega)]
      · rw [si_p (by decide), p1 999 (by decide) (by decide), hr]; exact r2
      · rw [hr]; exact si_a
      · rw [hr] at hr'
        have s1 : Sl r' σm m0 := Sl.of (fun k k1 k2 => m0k k (by omega))
        have s2 := hS.sl (r' := r') hr'
        refine (s1.tr s2).tr ⟨fun i hi => ?_, ?_, fun i hi => ?_⟩
        · rw [si_o (by decide), si_o (by decide), si_o (by decide), si_o (by decide), si_o (by decide), si_o (by decide)]; exact ⟨rfl, rfl⟩
        · rw [si_o (by decide), si_p (by omega), si_o (by decide)]
        · rw [si_o (by decide), si_o (by decide), si_o (by decide), si_o (by decide), si_o (by decide), si_o (by decide), si_o (by decide), si_o (by decide), si_o (by decide)]; exact ⟨rfl, rfl, rfl⟩
  · subst eo
    obtain ⟨p1, p2⟩ := pbT_U (σx := σx) (a := a1) (fun k k1 k2 => (hX k k1 k2).trans (hc0 k k1)) hc0
    have hM := hmod 1 (by decide) (by rw [if_pos h29]; rfl) hS hone
    show JJ (gd (inb (nI r) 6) (some (si (si (pbT (clT σx) a1) 999 15 ((pbT (clT σx) a1).1 999 15 + 1)) 999 10 0, nI r, c1 + 1 + 1 + 1, some R))) (m_rule_27 _ FU b0 0 1) _
    rw [hM, if_pos (by rw [h29]; decide), p1 999 (by decide) (by decide), show σx.1 999 15 = nI r from r2, nI_1]
    have hlen : (rs ++ [R]).length = r + 1 := by rw [List.length_append, hr]; rfl
    refine JJ.gl (inbn hr6 (by decide)) (JJ.ret ⟨?_, c400, Or.inr ⟨R, rfl, rfl, ?_⟩⟩)
    · dsimp only
      rw [nI_m1 (by omega), show r + 1 - 1 = r by omega]
    · dsimp only
      have sl : ∀ r', r' < r → Sl r' σm (si (si (si b1 999 27 0) 40 r v1) 999 31 (nI (r + 1))) := by
        intro r' hr'
        have s1 : Sl r' σm m0 := Sl.of (fun k k1 k2 => m0k k (by omega))
        have s2 := hS.sl (r' := r') hr'
        refine (s1.tr s2).tr ⟨fun i hi => ?_, ?_, fun i hi => ?_⟩
        · rw [si_o (by decide), si_o (by decide), si_o (by decide), si_o (by decide), si_o (by decide), si_o (by decide)]; exact ⟨rfl, rfl⟩
        · rw [si_o (by decide), si_p (by omega), si_o (by decide)]
        · rw [si_o (by decide), si_o (by decide), si_o (by decide), si_o (by decide), si_o (by decide), si_o (by decide), si_o (by decide), si_o (by decide), si_o (by decide)]; exact ⟨rfl, rfl, rfl⟩
      refine h.rules (fun k k1 k2 k3 => by rw [si_o k3, si_o k3]; exact p1 k k1 k2) (fun i i1 i2 => by rw [si_p i1, si_p i2, p1 999 (by decide) (by decide)]) (fun k k1 k2 => by rw [si_o k2, si_o (by omega), si_o k2, hS.1 k (by omega) k2, m0k k k2]) (fun i hi => ?_) (hPt si_a (by rw [si_p (by decide), si_o (by decide)]; exact si_a)) ⟨by omega, ?_, ?_, fun r' hr' => ?_⟩ (by omega)
      · rw [si_p (by omega), si_o (by decide), si_p (by omega), hS.2.2.2.2 i (by omega) (by omega) (by omega) (by omega) (by omega) (by omega), m0o i (by omega)]
      · rw [si_p (by decide), si_a, hlen]
      · rw [hlen]; exact si_a
      · rw [hlen] at hr'
        by_cases c : r' = r
        · subst c
          have eg : (rs ++ [R]).getD r' [] = R := by
            rw [List.getD_eq_getElem?_getD, List.getElem?_append_right (by omega), hr, Nat.sub_self]
            rfl
          rw [eg]
          refine cl_rule (e := e) hr6 (by rw [si_o (by decide), si_a]; exact ev) hR (fun i u hi => ?_) he
          have hb := hcl i u hi
          refine UCL.kc (e := e) (here := 12 * r' + i + 1) hb ⟨fun i _ => ?_, fun i _ => ?_⟩ (Nat.le_refl _) (by omega)
          · rw [si_o (by decide), si_o (by decide), si_o (by decide), si_o (by decide), si_o (by decide), si_o (by decide)]; exact ⟨rfl, rfl⟩
          · rw [si_o (by decide), si_o (by decide), si_o (by decide), si_o (by decide), si_o (by decide), si_o (by decide), si_o (by decide), si_o (by decide), si_o (by decide)]; exact ⟨rfl, rfl, rfl⟩
        · have eg : (rs ++ [R]).getD r' [] = rs.getD r' [] := by
            rw [List.getD_eq_getElem?_getD, List.getD_eq_getElem?_getD, List.getElem?_append_left (by omega)]
          rw [eg]
          exact (r4 r' (by omega)).mv (sl r' (by omega))
end UJ
