/-! PURE LAW: a strip's text, whole -/
set_option maxRecDepth 100000
/-- the class has thrown, the model has told it -/
def Le (σx σm a b : cS) : Prop := ∃ k q, (a.1 998 6 = nI k ∧ a.1 998 7 = nI q) ∧ Sx σx a ∧ (b.1 999 29 = nI (1 + 8 * q + k) ∧ k ≤ 7 ∧ q ≤ 400) ∧ Sm σm b
section SL
variable {B : Nat → Int32} {tp p q w c k mm vv ww : Nat} {σ β σ' β' σx σm a b a' b' : cS} {lo hi M : Int32}
/-- a line by its number -/
theorem j_line {i : Nat} (hB : TB B tp) (hC : TC B tp σx) (hM : TM B tp σm) (h : Lvv σx σm tp M mm vv ww a b) (hi : i < 6) (hl : lok mm vv ww c i = true) : JJ (t_line a (nI i)) (m_stripPart b (nI i)) (Lpp σx σm tp M) := by
  obtain ⟨l1, l2, l3, l4⟩ := lok_t hl
  have h2 := h.2.2.2.2.2.2.2.2.2.2.2.1
  have hi' : i = 0 ∨ i = 1 ∨ i = 2 ∨ i = 3 ∨ i = 4 ∨ i = 5 := by omega
  have mm2 : i ≠ 0 → 2 ≤ mm := by
    intro x
    have : mm = 0 ∨ 2 ≤ mm := h.2.2.2.2.2.2.2.2.2.2.2.1
    omega
  rcases hi' with rfl | rfl | rfl | rfl | rfl | rfl
  · obtain rfl : mm = 0 := by omega
    exact j_head hB hC hM h
  · exact j_mile hB hC hM h (mm2 (by decide))
  · exact j_warm hB hC hM h (mm2 (by decide))
  · exact j_soft hB hC hM h (mm2 (by decide))
  · exact j_vill hB hC hM h (mm2 (by decide)) (l3 rfl)
  · exact j_want hB hC hM h (mm2 (by decide)) (l4 rfl)
theorem j_dead {P : (cS × Option Unit) → cS → Prop} {K' : cS → Option cS} {n' : Nat} {v : Int32} (hB : TB B tp) (hM : TM B tp σm) (hk : a.1 998 6 = nI k ∧ a.1 998 7 = nI q) (hX : Sx σx a) (hd : Dd σm k q b) (hn : 0 < n') (bad : ∀ b, Le σx σm a b → JJ (some (a, none)) (K' b) P) : JJ (some (a, none)) ((m_goesOn b).bind fun (σ_21, r_20) => m_readsAll_85 K' n' σ_21 v r_20) P := by
  obtain ⟨n', rfl⟩ : ∃ m, n' = m + 1 := ⟨n' - 1, by omega⟩
  refine JJ.or (om_goesd hB hM hd) (fun ⟨z, r⟩ ⟨e1, e2, e3⟩ => ?_)
  dsimp only at e1 e2 e3
  subst e1
  show JJ _ (m_readsAll_85 K' (n' + 1) z v 0) _
  rw [m_readsAll_85]
  exact JJ.tr rfl (bad z ⟨k, q, hk, hX, ⟨e2, hd.1.2⟩, e3⟩)
theorem fx_e : (fx a k q).1 998 6 = nI k ∧ (fx a k q).1 998 7 = nI q := ⟨(si_p (by decide)).trans si_a, si_a⟩
theorem Sx.fx (h : Sx σx a) : Sx σx (fx (cx a p) k q) := ((h.st (by omega)).st (by omega)).st (by omega)
theorem Sm.dd (h : Sm σm b) (hk : k ≤ 7) (hq : q ≤ 400) (hp : p ≤ 500) : Dd σm k q (fm (mx b p) k q) := ⟨⟨si_a, hk, hq⟩, (h.st (by omega)).st (by omega), p, hp, (si_p (by decide)).trans mx_n⟩
theorem m_clause_eq (hB : TB B tp) (hM : TM B tp b) (hp : p ≤ tp) (h29 : b.1 999 29 = 0) (hc : c ≤ 40) (hcm : c = 0 ↔ mm = 0) (h3 : b.1 17 2 = nI vv) (h4 : b.1 17 3 = nI ww) (hv : vv ≤ 8) (hw : ww ≤ 8) {F : Nat} (hF : fwi (fun i => wd B tp (sk B tp p) (stC i)) 6 0 = F) : m_stripClause (mx b p) (nI c) = if F = 6 then some (fm (mx b (sk B tp p)) 0 (sk B tp p)) else if lok mm vv ww c F = true then (m_stripPart (mx b (sk B tp p + (stC F).length)) (nI F)).bind fun σ_17 => some σ_17 else some (fm (mx b (sk B tp p)) 4 (sk B tp p)) := by
  have h400 := hB.1
  have hq := (sk_le (B := B) (tp := tp) (p := p)).2.1 hp
  unfold m_stripClause
  rw [m_blanks_eq hB hM (by omega)]
  generalize sk B tp p = q at *
  have hF6 := fwi_le (fun i => wd B tp q (stC i)) 6 0
  have hz : (mx b q).1 999 29 = 0 := (mx_p (by decide)).trans h29
  rw [hF] at hF6
  show m_stripClause_11 (mx b q) (nI c) _ _ FU 0 = _
  rw [m_clause11 hB hM (by omega), hF, mx_n]
  by_cases e : F = 6
  · rw [if_pos e, if_pos (show nI F = 6 by rw [e]; rfl), show (0 : Int32) = nI 0 from rfl, m_fails_0 hz]
    rfl
  · have f6 : F < 6 := by omega
    rw [if_neg e, if_neg (show ¬ nI F = 6 from fun x => e ((nI_eq (b := 6) (by omega) (by decide)).mp x)), m_isFull_eq f6 hc hcm (by rw [mx_o (by decide)]; exact h3) (by rw [mx_o (by decide)]; exact h4) hv hw]
    cases hl : lok mm vv ww c F with
    | true =>
      rw [if_pos rfl]
      show (m_stripWord (nI F)).bind _ = _
      rw [m_stripWord_eq F f6]
      show gd (decide (swd F < 43)) ((m_stripPart (si (mx b q) 999 28 (nI q + nI (stC (swd F)).length)) (nI F)).bind fun σ_17 => some σ_17) = _
      rw [decide_eq_true (swd_lt F f6), (swd_e F f6).1, nI_add, show si (mx b q) 999 28 (nI (q + (stC F).length)) = mx b (q + (stC F).length) from mx_mx]
      rfl
    | false =>
      rw [if_neg (by decide)]
      show (m_fails (mx b q) 4 (nI q)).bind _ = _
      rw [show (4 : Int32) = nI 4 from rfl, m_fails_0 hz]
      rfl
theorem j_loop {P : (cS × Option Unit) → cS → Prop} {Kx : cS → Option (cS × Option Unit)} {K' : cS → Option cS} (hB : TB B tp) (hC : TC B tp σx) (hM : TM B tp σm)
    (good : ∀ a b mm vv ww, 2 ≤ mm → b.1 999 29 = 0 → Sx σx a → Sm σm b → RX mm vv ww a b → JJ (Kx a) (K' b) P)
    (bad : ∀ a b, Le σx σm a b → JJ (some (a, none)) (K' b) P) :
    ∀ d c, c + d = 40 → ∀ n n', d < n → d + 1 < n' → ∀ a b mm vv ww, (c = 0 ↔ mm = 0) → Lvv σx σm tp (nI c) mm vv ww a b → JJ (t_stripTold_15 (fun s => (t_ends s).bind fun (s1, o) => thr s1 o fun _ => Kx s1) n a) (m_readsAll_85 K' n' b (nI c) 1) P := by
  have h4 := hB.1
  intro d
  induction d using Nat.strongRecOn with
  | ind d ih =>
    intro c hc n n' hn hn' a b mm vv ww hcm hL
    obtain ⟨n, rfl⟩ : ∃ m, n = m + 1 := ⟨n - 1, by omega⟩
    obtain ⟨n', rfl⟩ : ∃ m, n' = m + 1 := ⟨n' - 1, by omega⟩
    obtain ⟨⟨p, hp, e1, e2⟩, ⟨h29, h5⟩, hX, hS, hR⟩ := hL
    have hR' := hR
    obtain ⟨⟨⟨s0, s0'⟩, s1, ⟨s2, s2'⟩, ⟨s3, s3'⟩, -⟩, -, -, -, -, -, m10, m2, v8, w8⟩ := hR'
    have hq := (sk_le (B := B) (tp := tp) (p := p)).2.1 hp
    have hTx := hX.tc hC
    have hTm := hS.tm hM
    have hsee := t_see_eq hB hTx hp
    rw [← cx_id e1] at hsee
    have hone := t_oneOf_11_eq hB hTx hq sk_sk
    obtain ⟨F, hF⟩ : ∃ F, fwi (fun i => wd B tp (sk B tp p) (stC i)) 6 0 = F := ⟨_, rfl⟩
    have hcl := m_clause_eq hB hTm hp h29 (by omega : c ≤ 40) hcm s2' s3' v8 w8 hF
    rw [← mx_id e2] at hcl
    rw [hF] at hone
    have hF6 := fwi_le (fun i => wd B tp (sk B tp p) (stC i)) 6 0
    rw [hF] at hF6
    generalize sk B tp p = q at *
    rw [t_stripTold_15, m_readsAll_85]
    refine JJ.er (by decide) (JJ.bl hsee (JJ.bl hone ?_))
    by_cases c6 : F = 6
    · rw [if_pos c6] at hcl
      rw [if_pos c6]
      refine JJ.tl rfl (JJ.br hcl ?_)
      show JJ ((t_demand (cx a q) 0 (nI 0) ((cx a q).1 997 2)).bind _) _ _
      rw [cx_n, t_demand_0]
      show JJ (some (fx (cx a q) 0 q, none)) _ _
      exact j_dead hB hM fx_e hX.fx (hS.dd (by omega) (by omega) (by omega)) (by omega) (bad _)
    · have f6 : F < 6 := by omega
      have hw : wd B tp q (stC F) = true := hF6.2 (by omega)
      rw [if_neg c6] at hcl
      rw [if_neg c6]
      refine JJ.el (nI_nm1 (by omega)) ?_
      show JJ ((t_demand (cx a q) 1 0 ((cx a q).1 997 2)).bind _) _ _
      rw [t_demand_1]
      show JJ ((t_canBe (cx a q) (nI F)).bind _) _ _
      rw [t_canBe_eq f6 (by omega : c ≤ 40) ((cx_p (by decide)).trans h5) (by rw [cx_o (by decide)]; exact s0) m10 (by rw [cx_o (by decide)]; exact s2) (by rw [cx_o (by decide)]; exact s3) v8 w8]
      cases hl : lok mm vv ww c F with
      | false =>
        rw [hl, if_neg (by decide)] at hcl
        refine JJ.br hcl ?_
        show JJ ((t_demand (cx a q) 0 (nI 4) ((cx a q).1 997 2)).bind _) _ _
        rw [cx_n, t_demand_0]
        show JJ (some (fx (cx a q) 4 q, none)) _ _
        exact j_dead hB hM fx_e hX.fx (hS.dd (by omega) (by omega) (by omega)) (by omega) (bad _)
      | true =>
        rw [hl, if_pos rfl] at hcl
        rw [hcl]
        obtain ⟨l1, l2, -, -⟩ := lok_t hl
        have hlen := (swd_e F f6).2.1
        have hwl : lt_ B tp q = (stC F).length := by
          unfold wd at hw
          exact of_decide_eq_true (Bool.and_eq_true_iff.mp hw).1
        have hlt : q + (stC F).length ≤ tp := by
          have := ltf_le B (tp - q) q
          unfold lt_ at hwl
          omega
        refine JJ.bl (a := 1) rfl (JJ.bl (t_demand_1 (σ := cx a q) (k := 4)) ?_)
        show JJ (gd (inb (nI F) 6) (gd (decide (ix (nI F) < 43)) ((t_line (si (si (cx a q) 997 5 ((cx a q).1 997 5 + 1)) 997 2 ((si (cx a q) 997 5 ((cx a q).1 997 5 + 1)).1 997 2 + nI (stC (ix (nI F))).length)) (nI F)).bind _))) _ _
        rw [inbn f6 (by decide), ixn (by omega), decide_eq_true (show F < 43 by omega), cx_p (by decide), h5, nI_1, si_p (by decide : 2 ≠ 5), cx_n, nI_add]
        have hL2 : Lvv σx σm tp (nI (c + 1)) mm vv ww (si (si (cx a q) 997 5 (nI (c + 1))) 997 2 (nI (q + (stC F).length))) (mx b (q + (stC F).length)) := by
          refine ⟨⟨_, hlt, si_a, mx_n⟩, ⟨(mx_p (by decide)).trans h29, (si_p (by decide)).trans si_a⟩, ((hX.st (by omega)).st (by omega)).st (by omega), hS.st (by omega), hR.of (fun k k1 k2 => ?_) (fun k k1 k2 => mx_o (by omega))⟩
          rw [si_o (by omega), si_o (by omega), cx_o (by omega)]
        show JJ ((t_line (si (si (cx a q) 997 5 (nI (c + 1))) 997 2 (nI (q + (stC F).length))) (nI F)).bind _) (((m_stripPart (mx b (q + (stC F).length)) (nI F)).bind fun σ_17 => some σ_17).bind _) _
        rw [Option.bind_assoc]
        refine JJ.bd (j_line hB hC hM hL2 f6 hl) ?_
        rintro ⟨a2, o⟩ b2 hab
        rcases hab with ⟨e, hLd⟩ | ⟨e, mm', vv', ww', hm2, hLv⟩
        · dsimp only at e hLd
          subst e
          obtain ⟨k, q', e, x, hd⟩ := hLd
          show JJ (some (a2, none)) ((m_goesOn b2).bind _) _
          exact j_dead hB hM e x hd (by omega) (bad _)
        · dsimp only at e hLv
          subst e
          obtain ⟨⟨p', hp', e1', e2'⟩, ⟨h29', h5'⟩, hX', hS', hR'⟩ := hLv
          have hq' := (sk_le (B := B) (tp := tp) (p := p')).2.1 hp'
          have hsee' := t_see_eq hB (hX'.tc hC) hp'
          rw [← cx_id e1'] at hsee'
          have hsee2 := t_see_eq hB (hX'.tc hC) hq'
          rw [sk_sk] at hsee2
          have hgo := m_goesOn_eq hB (hS'.tm hM) h29' hp'
          rw [← mx_id e2'] at hgo
          generalize sk B tp p' = r at *
          show JJ ((t_takesSign a2 59).bind _) ((m_goesOn b2).bind _) _
          unfold t_takesSign
          rw [hsee', hgo]
          show JJ ((if sg B tp r = 59 then some (si (cx a2 r) 997 2 ((cx a2 r).1 997 2 + 1), 1) else some (cx a2 r, 0) : Option (cS × Int32)).bind _) _ _
          rw [cx_n, nI_1, show si (cx a2 r) 997 2 (nI (r + 1)) = cx a2 (r + 1) from cx_cx]
          obtain ⟨n', rfl⟩ : ∃ m, n' = m + 1 := ⟨n' - 1, by omega⟩
          by_cases t1 : tp ≤ r
          · have hs1 : sg B tp r = -1 := (sg_m1 hB).mpr t1
            rw [if_pos t1, hs1, if_neg (by decide)]
            show JJ (((t_see (cx a2 r)).bind _).bind _) (m_readsAll_85 K' (n' + 1) (mx b2 (r + 1)) (nI (c + 1)) 0) _
            rw [hsee2, hs1, m_readsAll_85]
            refine JJ.tr rfl ?_
            show JJ (Kx (cx a2 r)) _ _
            exact good _ _ mm' vv' ww' hm2 ((mx_p (by decide)).trans h29') (hX'.st (by omega)) (hS'.st (by omega)) (hR'.of (fun k k1 k2 => cx_o (by omega)) (fun k k1 k2 => mx_o (by omega)))
          · rw [if_neg t1]
            by_cases t2 : sg B tp r = 59
            · rw [if_pos t2, if_pos t2]
              refine JJ.bl rfl (JJ.br rfl (JJ.el (by decide) ?_))
              exact ih (d - 1) (by omega) (c + 1) (by omega) n (n' + 1) (by omega) (by omega) _ _ mm' vv' ww' ⟨fun x => by omega, fun x => by omega⟩ ⟨⟨r + 1, by omega, cx_n, mx_n⟩, ⟨(mx_p (by decide)).trans h29', (cx_p (by decide)).trans h5'⟩, hX'.st (by omega), hS'.st (by omega), hR'.of (fun k k1 k2 => cx_o (by omega)) (fun k k1 k2 => mx_o (by omega))⟩
            · rw [if_neg t2, if_neg t2]
              show JJ (((t_see (cx a2 r)).bind _).bind _) (m_readsAll_85 K' (n' + 1) (si (fm (mx b2 r) 0 r) 999 28 (nI (r + 1))) (nI (c + 1)) 0) _
              rw [hsee2, m_readsAll_85]
              refine JJ.tr rfl ?_
              have hs1 : ¬ sg B tp r = -1 := fun x => t1 ((sg_m1 hB).mp x)
              show JJ ((if sg B tp r = -1 then _ else ((t_demand (cx a2 r) 0 (nI 0) ((cx a2 r).1 997 2)).bind _)).bind _) _ _
              rw [if_neg hs1, cx_n, t_demand_0]
              show JJ (some (fx (cx a2 r) 0 r, none)) _ _
              exact bad _ _ ⟨0, r, fx_e, hX'.fx, ⟨by rw [si_p (by decide)]; exact si_a, by decide, by omega⟩, ((hS'.st (by omega)).st (by omega)).st (by omega)⟩
end SL
