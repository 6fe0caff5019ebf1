/-! PURE LAW: a rule's text, whole -/
set_option maxRecDepth 100000
/-- a rule that was read, or a fault told by both -/
def URL (σx σm : cS) (r tp p : Nat) (x : cS × Nat × Option RS) (y : cS × Int32) : Prop := (x.2.1 = 0 ∨ x.2.1 + 4 + p ≤ tp) ∧ ((x.2.2 = none ∧ ∃ k q, (x.1.1 998 6 = nI k ∧ x.1.1 998 7 = nI q) ∧ Ux σx x.1 ∧ (y.1.1 999 29 = nI (1 + 8 * q + k) ∧ k ≤ 7 ∧ q ≤ 400) ∧ Um r σm y.1) ∨ ∃ R e, x.2.2 = some R ∧ y.2 = nI R.length ∧ R.length ≤ 12 ∧ y.1.1 999 29 = 0 ∧ Ux σx x.1 ∧ Um r σm y.1 ∧ e ≤ 300 ∧ ∀ i q, R[i]? = some q → UCL r e y.1 i q)
section UI
variable {B : Nat → Int32} {tp p p' q w k r dx dm dm' cn cn0 e e0 e1 e2 o o1 op s n n1 N j c : Nat} {σ β σ' β' σx σm a b y z a' b' b1 τ : cS} {lo hi M v : Int32} {φ ψ : Wds → Int32}
theorem URL.up {p1 c : Nat} {x : cS × Nat × Option RS} {y : cS × Int32} (h : URL σx σm r tp p1 x y) (hc : c + 4 + p ≤ p1) (hp : p1 ≤ tp) : URL σx σm r tp p (x.1, x.2.1 + c, x.2.2) y := by
  refine ⟨Or.inr ?_, h.2⟩
  show x.2.1 + c + 4 + p ≤ tp
  rcases h.1 with h | h <;> omega
theorem t_oneOf_12_eq (hB : TB B tp) (h : TC B tp σ) (hp : p ≤ tp) (hs : sk B tp p = p) : t_oneOf_12 (cx σ p) = some (cx σ p, if wd B tp p (stC 6) = true then 0 else -1) := by
  have hL : (stC 6).length = 5 := st_e.2.2.2.2.2.2.2.2.2
  obtain ⟨n, hn⟩ : ∃ m, FU = m + 1 + 1 := ⟨FU - 2, by have := FU_gt (n := 1) (by decide); omega⟩
  unfold t_oneOf_12
  rw [hn, t_oneOf_12_2, if_neg (by decide), show inb (0 : Int32) 1 = true from inbn (n := 0) (N := 1) (by decide) (by decide), t_isWord_eq hB h hp (by rw [hL]; decide), hs]
  cases hw : wd B tp p (stC 6) with
  | true => rfl
  | false =>
    show t_oneOf_12_2 (fun σ_7 => some (σ_7, -1)) (n + 1) (cx σ p) (0 + 1) = _
    rw [t_oneOf_12_2, if_pos (by decide)]
    rfl
theorem om_goesdm (hU : UB B tp σx σm r) (h : Dm r σm k q b) : OO (m_goesOn b) (fun z => z.2 = 0 ∧ z.1.1 999 29 = nI (1 + 8 * q + k) ∧ Um r σm z.1) := by
  have h4 := hU.1.1
  obtain ⟨p, hp, ep⟩ := h.2.2
  unfold m_goesOn
  rw [mx_id ep, m_blanks_eq hU.1 (h.2.1.tm hU.2.2.1) (by omega)]
  generalize sk B tp p = s
  have hz : ¬ (mx b s).1 999 29 = 0 := by rw [mx_p (by decide)]; exact h.nz
  show OO ((if (mx b s).1 999 29 = 0 then _ else some (mx b s) : Option cS).bind _) _
  rw [if_neg hz]
  show OO ((if (mx b s).1 999 29 = 0 then _ else some 0 : Option Int32).bind _) _
  rw [if_neg hz]
  exact OO.ret ⟨rfl, by dsimp only; rw [si_p (by decide), mx_p (by decide)]; exact h.1.1, (h.2.1.st (by omega)).st (by omega)⟩
theorem j_rdead {x : cS × Nat × Option RS} {n' : Nat} {v : Int32} (hU : UB B tp σx σm r) (hx : x.2.2 = none) (hc : x.2.1 = 0 ∨ x.2.1 + 4 + p ≤ tp) (hd : Ud σx σm r x.1 b) (hn : 0 < n') : JJ (some x) ((m_goesOn b).bind fun (σ_9, r_8) => m_rule_27 (fun s v => some (s, v)) n' σ_9 v r_8) (URL σx σm r tp p) := by
  obtain ⟨n', rfl⟩ : ∃ m, n' = m + 1 := ⟨n' - 1, by omega⟩
  obtain ⟨k, q, h1, h2, h3⟩ := hd
  refine JJ.or (om_goesdm hU h3) (fun ⟨z, s⟩ ⟨e1, e2, e3⟩ => ?_)
  dsimp only at e1 e2 e3
  subst e1
  show JJ _ (m_rule_27 _ (n' + 1) z v 0) _
  rw [m_rule_27]
  exact JJ.tr rfl (JJ.ret ⟨hc, Or.inl ⟨hx, k, q, h1, h2, ⟨e2, h3.1.2⟩, e3⟩⟩)
theorem Ul.setM {M' : Int32} (h : Ul σx σm r tp M p dx dm cn e o a b) : Ul σx σm r tp M' p dx dm cn e o (si a 997 5 M') b := by
  obtain ⟨⟨a1, a2, a3⟩, ⟨b1, b2, b3⟩, ⟨c1, c2, c3⟩, hd2, ho, ⟨f1, f2⟩, hX, hM⟩ := h
  exact ⟨⟨a1, (si_p (by decide)).trans a2, a3⟩, ⟨b1, (si_p (by decide)).trans b2, b3⟩, ⟨c1, (si_p (by decide)).trans c2, c3⟩, hd2, ho, ⟨f1, si_a⟩, hX.st (Or.inl rfl), hM⟩
theorem UCL.ot {i : Nat} {u : (Wds → Int64) × Option (Wds → Int32)} (h : UCL r e b i u) (hy : ∀ k, k ≠ 999 → y.1 k = b.1 k) : UCL r e y i u := by
  obtain ⟨x0, x1, x2, h1, h2, h3, h4, h5, h6⟩ := h
  have mv : ∀ {u v : Nat} {V : Wds → Int64}, Ev r b u v V → Ev r y u v V := fun hE => hE.mv (fun i hi => by rw [hy 38 (by decide), hy 39 (by decide)]; exact ⟨rfl, rfl⟩)
  refine ⟨x0, x1, x2, by rw [hy 41 (by decide)]; exact h1, by rw [hy 42 (by decide)]; exact h2, by rw [hy 43 (by decide)]; exact h3, h4, mv h5, ?_⟩
  rcases h6 with x | ⟨τ, x, hE⟩
  · exact Or.inl x
  · exact Or.inr ⟨τ, x, mv hE⟩
theorem m_rcl_eq (hU : UB B tp σx σm r) (h : Ul σx σm r tp M p dx dm cn e o a b) (hc : c ≤ 12) : m_ruleClause b (nI c) = if wd B tp (sk B tp p) (stC 6) = true then (if c = 12 then some (fm (mx b (sk B tp p)) 4 (sk B tp p)) else m_clB (nI (12 * r + c)) (mx b (sk B tp p + 5))) else some (fm (mx b (sk B tp p)) 0 (sk B tp p)) := by
  have h4 := hU.1.1
  have hp := h.1.1
  have h29 := h.2.2.2.2.2.1.1
  have hS := h.2.2.2.2.2.2.2
  have hTm := hS.tm hU.2.2.1
  have hr := hU.2.2.2.2.1
  have hq := (sk_le (B := B) (tp := tp) (p := p)).2.1 hp
  have hL : (stC 6).length = 5 := st_e.2.2.2.2.2.2.2.2.2
  have hb := m_blanks_eq hU.1 hTm (show p ≤ 1000 by omega)
  rw [← h.ids.2] at hb
  have hz : ∀ p, (mx b p).1 999 29 = 0 := fun p => (mx_p (by decide)).trans h29
  unfold m_ruleClause
  rw [hb]
  generalize sk B tp p = q at *
  show (m_stood (mx b q) 41).bind _ = _
  rw [m_std hU.1 hTm.mx mx_n (by omega) (by rw [st_e.2.2.2.2.1, hL]; decide), st_e.2.2.2.2.1]
  cases hw : wd B tp q (stC 6) with
  | false =>
    show (m_fails (mx b q) (nI 0) ((mx b q).1 999 28)).bind _ = _
    rw [mx_n, m_fails_0 (hz q)]
    rfl
  | true =>
    rw [if_pos rfl]
    show (if nI c = 12 then (m_fails (mx b q) (nI 4) ((mx b q).1 999 28)).bind _ else _) = _
    by_cases c12 : c = 12
    · rw [if_pos (show nI c = 12 by rw [c12]; rfl), if_pos c12, mx_n, m_fails_0 (hz q)]
      rfl
    · rw [if_neg (show ¬ nI c = 12 from fun x => c12 ((nI_eq (b := 12) (by omega) (by decide)).mp x)), if_neg c12]
      have e1 : si (mx b q) 999 28 ((mx b q).1 999 28 + 5) = mx b (q + 5) := by
        rw [mx_n, show (5 : Int32) = nI 5 from rfl, nI_add]
        exact mx_mx
      have e2 : 12 * (mx b (q + 5)).1 999 30 + nI c = nI (12 * r + c) := by
        rw [mx_p (by decide), hS.slot hU.2.2.2.1, show (12 : Int32) = nI 12 from rfl, pk_mul, nI_add]
      show gd (inb (12 * (si (mx b q) 999 28 ((mx b q).1 999 28 + 5)).1 999 30 + nI c) 72) (m_clB (12 * (si (mx b q) 999 28 ((mx b q).1 999 28 + 5)).1 999 30 + nI c) (si (mx b q) 999 28 ((mx b q).1 999 28 + 5))) = _
      rw [e1, e2, inbn (by omega) (by decide)]
      rfl
theorem j_rloop (hU : UB B tp σx σm r) : ∀ d c, c + d = 12 → ∀ n n', d < n → d + 1 < n' → ∀ a b p cn e o rs, rs.length = c → Ul σx σm r tp (nI c) p 0 0 cn e o a b → (∀ i q, rs[i]? = some q → UCL r e b i q) → JJ (t_ruleTold_8 n a rs) (m_rule_27 (fun s v => some (s, v)) n' b (nI c) 1) (URL σx σm r tp p) := by
  have h4 := hU.1.1
  have hr := hU.2.2.2.2.1
  intro d
  induction d using Nat.strongRecOn with
  | ind d ih =>
    intro c hc n n' hn hn' a b p cn e o rs hrs hL hcl
    obtain ⟨n, rfl⟩ : ∃ m, n = m + 1 := ⟨n - 1, by omega⟩
    obtain ⟨n', rfl⟩ : ∃ m, n' = m + 1 := ⟨n' - 1, by omega⟩
    have hp := hL.1.1
    have hX := hL.2.2.2.2.2.2.1
    have hS := hL.2.2.2.2.2.2.2
    have hTx := hX.tc hU.2.1
    have hk := sk_le (B := B) (tp := tp) (p := p)
    have hq := hk.2.1 hp
    have hpq := hk.1
    have hmq := m_rcl_eq hU hL (show c ≤ 12 by omega)
    have hsee := t_see_eq hU.1 hTx hp
    rw [← hL.ids.1] at hsee
    have hone := t_oneOf_12_eq hU.1 hTx hq sk_sk
    have hLq := hL.mv (p' := sk B tp p) hq (by have := hL.2.2.2.2.1.1; omega)
    have hL6 : (stC 6).length = 5 := st_e.2.2.2.2.2.2.2.2.2
    generalize sk B tp p = q at *
    rw [t_ruleTold_8, m_rule_27]
    refine JJ.er (by decide) (JJ.bl hsee (JJ.bl hone ?_))
    rw [hmq]
    have hXq := hLq.2.2.2.2.2.2.1
    have hM5 : (cx a q).1 997 5 = nI c := hLq.2.2.2.2.2.1.2
    cases hw : wd B tp q (stC 6) with
    | false =>
      rw [if_neg (by decide), if_neg (by decide)]
      refine JJ.el (by decide) ?_
      show JJ ((t_demand (cx a q) 0 (nI 0) ((cx a q).1 997 2)).bind _) _ _
      rw [cx_n, t_demand_0]
      show JJ (some (fx (cx a q) 0 q, 0, none)) ((m_goesOn (fm (mx b q) 0 q)).bind _) _
      exact j_rdead hU rfl (Or.inl rfl) ⟨0, q, fx_k, hXq.fxx, hS.dd (by omega) (by omega) (by omega)⟩ (by omega)
    | true =>
      have hl5 := wd_len hw (by rw [hL6]; decide)
      rw [hL6] at hl5
      rw [if_pos rfl, if_pos rfl]
      refine JJ.tl rfl ?_
      show JJ ((t_demand (cx a q) 1 0 ((cx a q).1 997 2)).bind _) _ _
      rw [t_demand_1]
      show JJ (if 12 ≤ (cx a q).1 997 5 then _ else _) _ _
      rw [hM5, cx_n]
      by_cases c12 : c = 12
      · rw [if_pos c12, if_pos (show (12 : Int32) ≤ nI c from nI_le (a := 12) (by omega) (by omega))]
        show JJ ((t_demand (cx a q) 0 (nI 4) (nI q)).bind _) ((m_goesOn (fm (mx b q) 4 q)).bind _) _
        rw [t_demand_0]
        show JJ (some (fx (cx a q) 4 q, 0, none)) _ _
        exact j_rdead hU rfl (Or.inl rfl) ⟨4, q, fx_k, hXq.fxx, hS.dd (by omega) (by omega) (by omega)⟩ (by omega)
      · rw [if_neg c12, if_neg (show ¬ (12 : Int32) ≤ nI c from nI_ge (a := c) (b := 12) (by omega) (by decide)), t_demand_1]
        have h5 := (hLq.setM (M' := nI (c + 1))).mv (p' := q + 5) hl5 (by have := hLq.2.2.2.2.1.1; omega)
        rw [mx_mx] at h5
        show JJ ((t_clauseHere (si (si (cx a q) 997 5 ((cx a q).1 997 5 + 1)) 997 2 ((si (cx a q) 997 5 ((cx a q).1 997 5 + 1)).1 997 2 + 5))).bind fun (σ_135, c_134, o_136) => addc c_134 (thy σ_135 o_136 fun φ_140 => gd (inb (nI rs.length) 12) (((t_takesSign σ_135 59).bind fun (σ_155, r_154) => if r_154 = 0 then (((t_ends σ_155).bind fun (σ_159, o_160) => thy σ_159 o_160 fun _ => some (σ_159, 0, some (rs ++ [φ_140])))) else (t_ruleTold_8 n σ_155 (rs ++ [φ_140])))))) _ _
        rw [hM5, nI_1, si_p (by decide : 2 ≠ 5), cx_n, show (5 : Int32) = nI 5 from rfl, nI_add]
        refine JJ.bd (j_clause hU h5 rfl (show c < 12 by omega)) ?_
        rintro ⟨a2, c2, o2⟩ b2 (⟨v1, v2, v3⟩ | ⟨φ, p2, cn2, e2, o3, v1, v2, v3, v4, v5, v6, v7⟩)
        · dsimp only at v1 v2 v3
          subst v1
          show JJ (some (a2, 0 + c2, none)) _ _
          exact j_rdead (x := (a2, 0 + c2, none)) (p := p) (n' := n') hU rfl (Or.inr (by show 0 + c2 + 4 + p ≤ tp; omega)) v3 (by omega)
        · dsimp only at v1 v2 v3
          subst v1
          have hp2 := v3.1.1
          have hX2 := v3.2.2.2.2.2.2.1
          have hS2 := v3.2.2.2.2.2.2.2
          have h29 := v3.2.2.2.2.2.1.1
          have hcn2 := v3.2.2.1.1
          have he2 := v3.2.2.2.1.1
          have hsee2 := t_see_eq hU.1 (hX2.tc hU.2.1) hp2
          rw [v7, ← v3.ids.1] at hsee2
          have hgo := m_goesOn_eq hU.1 (hS2.tm hU.2.2.1) h29 hp2
          rw [← v3.ids.2, v7] at hgo
          have hcls : ∀ {y : cS}, (∀ k, k ≠ 999 → y.1 k = b2.1 k) → ∀ i u, (rs ++ [φ])[i]? = some u → UCL r e2 y i u := by
            intro y hy i u hi
            refine UCL.ot ?_ hy
            by_cases il : i < rs.length
            · rw [List.getElem?_append_left il] at hi
              have hcb : UCL r e (mx b (q + 5)) i u := (hcl i u hi).ot (fun k hk => mx_o hk)
              exact hcb.kc v4 v6 (by omega)
            · rw [List.getElem?_append_right (by omega)] at hi
              have e0 : i - rs.length = 0 := by
                by_cases x : i - rs.length = 0
                · exact x
                · rw [List.getElem?_eq_none (by simp only [List.length_cons, List.length_nil]; omega)] at hi
                  cases hi
              rw [e0] at hi
              have e9 : φ = u := by simpa using hi
              rw [← e9, show i = c by omega]
              exact v5
          have hts : t_takesSign a2 59 = if sg B tp p2 = 59 then some (cx a2 (p2 + 1), 1) else some (a2, 0) := by
            unfold t_takesSign
            rw [hsee2]
            show (if sg B tp p2 = 59 then some (si a2 997 2 (a2.1 997 2 + 1), 1) else some (a2, 0)) = _
            rw [v3.1.2.1, nI_1]
            rfl
          have hen : t_ends a2 = if sg B tp p2 = -1 then some (a2, some ()) else some (fx a2 0 p2, none) := by
            unfold t_ends
            rw [hsee2]
            show (if sg B tp p2 = -1 then (t_demand a2 1 0 (a2.1 997 2)).bind _ else (t_demand a2 0 (nI 0) (a2.1 997 2)).bind _) = _
            rw [v3.1.2.1, t_demand_0, t_demand_1]
            rfl
          have hlen : (rs ++ [φ]).length = c + 1 := by rw [List.length_append, hrs]; rfl
          obtain ⟨n', rfl⟩ : ∃ m, n' = m + 1 := ⟨n' - 1, by omega⟩
          refine JJ.add (Q := fun x y => URL σx σm r tp p (x.1, x.2.1 + c2, x.2.2) y) ?_ (fun _ _ h => h)
          refine JJ.gl (inbn (by omega) (by decide)) ?_
          rw [hgo, hts]
          by_cases t1 : tp ≤ p2
          · have hs1 : sg B tp p2 = -1 := (sg_m1 hU.1).mpr t1
            rw [if_pos t1, hs1, if_neg (by decide)]
            rw [hs1, if_pos rfl] at hen
            refine JJ.bl rfl (JJ.br rfl (JJ.tl rfl (JJ.bl hen ?_)))
            show JJ _ (m_rule_27 (fun s v => some (s, v)) (n' + 1) (mx b2 (p2 + 1)) (nI (c + 1)) 0) _
            rw [m_rule_27]
            refine JJ.tr rfl ?_
            show JJ (some (a2, 0, some (rs ++ [φ] : RS))) _ _
            refine JJ.ret ⟨Or.inr (by show 0 + c2 + 4 + p ≤ tp; omega), Or.inr ⟨rs ++ [φ], e2, rfl, by rw [hlen], by omega, (mx_p (by decide)).trans h29, hX2, hS2.st (by omega), by omega, hcls (fun k hk => mx_o hk)⟩⟩
          · rw [if_neg t1]
            by_cases t2 : sg B tp p2 = 59
            · have hp2t : p2 < tp := ((sg_is hU.1 (by decide)).mp t2).1
              rw [if_pos t2, if_pos t2]
              have h7 := v3.mv (p' := p2 + 1) (by omega) (by have := v3.2.2.2.2.1.1; omega)
              show JJ (t_ruleTold_8 n (cx a2 (p2 + 1)) (rs ++ [φ])) (m_rule_27 _ (n' + 1) (mx b2 (p2 + 1)) (nI (c + 1)) 1) _
              exact JJ.mono (ih (d - 1) (by omega) (c + 1) (by omega) n (n' + 1) (by omega) (by omega) _ _ _ _ _ _ _ hlen h7 (hcls (fun k hk => mx_o hk))) (fun x y hx => hx.up (by omega) (by omega))
            · have hs1 : ¬ sg B tp p2 = -1 := fun x => t1 ((sg_m1 hU.1).mp x)
              rw [if_neg t2, if_neg t2]
              rw [if_neg hs1] at hen
              refine JJ.bl rfl (JJ.br rfl (JJ.tl rfl (JJ.bl hen ?_)))
              show JJ _ (m_rule_27 (fun s v => some (s, v)) (n' + 1) (si (fm (mx b2 p2) 0 p2) 999 28 (nI (p2 + 1))) (nI (c + 1)) 0) _
              rw [m_rule_27]
              refine JJ.tr rfl ?_
              show JJ (some (fx a2 0 p2, 0, none)) _ _
              refine JJ.ret ⟨Or.inr (by show 0 + c2 + 4 + p ≤ tp; omega), Or.inl ⟨rfl, 0, p2, fx_k, hX2.fxx, ⟨by rw [si_p (by decide)]; exact si_a, by decide, by omega⟩, ((hS2.st (by omega)).st (by omega)).st (by omega)⟩⟩
end UI