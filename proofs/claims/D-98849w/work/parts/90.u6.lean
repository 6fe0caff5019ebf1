/-! PURE LAW: a compare of a rule -/
set_option maxRecDepth 100000
noncomputable def t_comp (σ_6 : cS) : Option (cS × Nat × Option (Wds → Int32)) := ((t_sum σ_6).bind fun (σ_10, c_9, o_11) => addc c_9 (thy σ_10 o_11 fun φ_15 => ((t_see σ_10).bind fun (σ_22, r_21) => ((t_sign σ_22).bind fun (σ_25, o_26) => thy σ_25 o_26 fun r_24 => ((t_makes σ_25 (σ_22.1 997 2)).bind fun (σ_29, o_30) => thy σ_29 o_30 fun _ => addc 1 (((t_sum σ_29).bind fun (σ_36, c_35, o_37) => addc c_35 (thy σ_36 o_37 fun φ_41 => some (σ_36, 0, some (fun ws => vCmp r_24 (φ_15 ws) (φ_41 ws)))))))))))
noncomputable def m_cmpG (r_4 : Int32) (σ_2 : cS) : Option cS := ((m_isCounted σ_2 (σ_2.1 999 28)).bind fun σ_7 => ((if r_4 = 61 then (some (0)) else (((m_sign (si σ_7 999 28 ((σ_7.1 999 28) + 1))).bind fun r_33 => if r_33 = 61 then (some (1)) else (some (0)))) : Option (Int32)).bind fun t_8 => (((if t_8 = 0 then (some (0)) else (some (1)) : Option (Int32)).bind fun t_10 => (nmb (si σ_7 999 28 ((σ_7.1 999 28) + 1)) fun σ_12 => (((m_sum (si σ_12 999 28 (((si σ_7 999 28 ((σ_7.1 999 28) + 1)).1 999 28) + t_10))).bind fun σ_15 => if r_4 = 61 then (((m_entry σ_15 6 0).bind fun σ_29 => some σ_29)) else (if r_4 = 60 then (if t_8 = 0 then (((m_entry σ_15 4 0).bind fun σ_25 => some σ_25)) else (((m_entry σ_15 5 0).bind fun σ_27 => some σ_27))) else (if t_8 = 0 then (((m_entry σ_15 8 0).bind fun σ_20 => some σ_20)) else (((m_entry σ_15 7 0).bind fun σ_22 => some σ_22)))))))))))
noncomputable def m_cmpK (σ_2 : cS) : Option cS := (m_sign σ_2).bind fun r_4 => if r_4 = 60 then m_cmpG r_4 σ_2 else if r_4 = 61 then m_cmpG r_4 σ_2 else if r_4 = 62 then m_cmpG r_4 σ_2 else ((m_fails σ_2 0 (σ_2.1 999 28)).bind fun σ_96 => some σ_96)
theorem m_comp_eq {σ : cS} : m_compared σ = (m_sum σ).bind m_cmpK := rfl
section UC
variable {B : Nat → Int32} {tp p p' q w k r dx dm cn cn0 e e0 e1 o o1 s : Nat} {σ β σ' β' σx σm a b y z a' b' : cS} {lo hi M v c : Int32} {φ : Wds → Int64}
/-- behind a sign a second one, the code of the compare, its sign in the class -/
def sq (B : Nat → Int32) (tp p : Nat) (c : Int32) : Nat := if c = 61 then 0 else if p + 1 < tp ∧ B (p + 1) = 61 then 1 else 0
def cdC (c : Int32) (s : Nat) : Int32 := if c = 61 then 6 else if c = 60 then (if s = 0 then 4 else 5) else if s = 0 then 8 else 7
def sgC (c : Int32) (s : Nat) : Int32 := if c = 61 then 2 else if c = 60 then (if s = 0 then 0 else 1) else if s = 0 then 4 else 3
def isC (B : Nat → Int32) (tp p : Nat) : Bool := decide (p < tp) && (decide (B p = 60) || (decide (B p = 61) || decide (B p = 62)))
theorem sq_le : sq B tp p c ≤ 1 ∧ (p < tp → p + 1 + sq B tp p c ≤ tp) := by
  unfold sq
  split
  · exact ⟨by omega, fun _ => by omega⟩
  · split
    · exact ⟨by omega, fun _ => by omega⟩
    · exact ⟨by omega, fun _ => by omega⟩
theorem isC_t (h : isC B tp p = true) : p < tp ∧ (B p = 60 ∨ B p = 61 ∨ B p = 62) := by
  unfold isC at h
  rw [Bool.and_eq_true_iff, decide_eq_true_eq, Bool.or_eq_true_iff, Bool.or_eq_true_iff, decide_eq_true_eq, decide_eq_true_eq, decide_eq_true_eq] at h
  exact h
theorem cd_mb (hc : c = 60 ∨ c = 61 ∨ c = 62) : (cdC c s ≠ 0 ∧ cdC c s ≠ 1 ∧ cdC c s ≠ 9) ∧ ∀ x y, m_both (cdC c s) x y = some (tru (vCmp (sgC c s) x y)) := by
  unfold cdC sgC
  by_cases h : s = 0
  · rcases hc with rfl | rfl | rfl
    · rw [if_neg (by decide), if_pos rfl, if_pos h, if_neg (by decide), if_pos rfl, if_pos h]
      exact ⟨by decide, mb_cmp (by decide)⟩
    · rw [if_pos rfl, if_pos rfl]
      exact ⟨by decide, mb_cmp (by decide)⟩
    · rw [if_neg (by decide), if_neg (by decide), if_pos h, if_neg (by decide), if_neg (by decide), if_pos h]
      exact ⟨by decide, mb_cmp (by decide)⟩
  · rcases hc with rfl | rfl | rfl
    · rw [if_neg (by decide), if_pos rfl, if_neg h, if_neg (by decide), if_pos rfl, if_neg h]
      exact ⟨by decide, mb_cmp (by decide)⟩
    · rw [if_pos rfl, if_pos rfl]
      exact ⟨by decide, mb_cmp (by decide)⟩
    · rw [if_neg (by decide), if_neg (by decide), if_neg h, if_neg (by decide), if_neg (by decide), if_neg h]
      exact ⟨by decide, mb_cmp (by decide)⟩
theorem sg_lt (h : p < tp) (hB : TB B tp) (hc : B p = 60 ∨ B p = 61 ∨ B p = 62) : sg B tp p = B p := by
  rcases hc with e | e | e <;> rw [e]
  · exact (sg_is hB (by decide)).mpr ⟨h, e⟩
  · exact (sg_is hB (by decide)).mpr ⟨h, e⟩
  · exact (sg_is hB (by decide)).mpr ⟨h, e⟩
theorem cmpG_eq (hB : TB B tp) (hM : TM B tp z) (h28 : z.1 999 28 = nI p) (hp : p < tp) (hs : m_isCounted b (b.1 999 28) = some z) : m_cmpG c b = (m_sum (mx z (p + 1 + sq B tp p c))).bind fun u => m_entry u (cdC c (sq B tp p c)) 0 := by
  have h4 := hB.1
  have e1 : si z 999 28 (z.1 999 28 + 1) = mx z (p + 1) := by rw [h28, nI_1]; rfl
  have e2 : ∀ t : Nat, si (mx z (p + 1)) 999 28 ((mx z (p + 1)).1 999 28 + nI t) = mx z (p + 1 + t) := fun t => by rw [mx_n, nI_add]; exact mx_mx
  have e2' : si (mx z (p + 1)) 999 28 ((mx z (p + 1)).1 999 28 + 0) = mx z (p + 1 + 0) := e2 0
  have e2'' : si (mx z (p + 1)) 999 28 ((mx z (p + 1)).1 999 28 + 1) = mx z (p + 1 + 1) := e2 1
  have bid : ∀ u : Option cS, (u.bind fun s => some s) = u := fun u => by cases u <;> rfl
  unfold m_cmpG
  rw [hs]
  show ((if c = 61 then some 0 else (m_sign (si z 999 28 (z.1 999 28 + 1))).bind _ : Option Int32).bind fun t_8 => ((if t_8 = 0 then some 0 else some 1 : Option Int32).bind fun t_10 => (m_sum (si (si z 999 28 (z.1 999 28 + 1)) 999 28 ((si z 999 28 (z.1 999 28 + 1)).1 999 28 + t_10))).bind fun σ_15 => if c = 61 then (m_entry σ_15 6 0).bind _ else (if c = 60 then (if t_8 = 0 then (m_entry σ_15 4 0).bind _ else (m_entry σ_15 5 0).bind _) else (if t_8 = 0 then (m_entry σ_15 8 0).bind _ else (m_entry σ_15 7 0).bind _)))) = _
  rw [e1, m_sign_eq hB hM (by omega)]
  simp only [bid]
  unfold sq cdC
  by_cases c61 : c = 61
  · rw [if_pos c61, if_pos c61]
    show (m_sum (si (mx z (p + 1)) 999 28 ((mx z (p + 1)).1 999 28 + 0))).bind _ = _
    rw [e2']
    refine congrArg (Option.bind _) (funext fun u => ?_)
    rw [if_pos c61, if_pos c61]
  · rw [if_neg c61, if_neg c61]
    show ((if sg B tp (p + 1) = 61 then some 1 else some 0 : Option Int32).bind _) = _
    rw [ifc (sg_is (p := p + 1) (c := 61) hB (by decide))]
    by_cases c1 : p + 1 < tp ∧ B (p + 1) = 61
    · rw [if_pos c1, if_pos c1]
      show (m_sum (si (mx z (p + 1)) 999 28 ((mx z (p + 1)).1 999 28 + 1))).bind _ = _
      rw [e2'']
      refine congrArg (Option.bind _) (funext fun u => ?_)
      rw [if_neg c61, if_neg c61]
      by_cases c60 : c = 60
      · rw [if_pos c60, if_pos c60]; rfl
      · rw [if_neg c60, if_neg c60]; rfl
    · rw [if_neg c1, if_neg c1]
      show (m_sum (si (mx z (p + 1)) 999 28 ((mx z (p + 1)).1 999 28 + 0))).bind _ = _
      rw [e2']
      refine congrArg (Option.bind _) (funext fun u => ?_)
      rw [if_neg c61, if_neg c61]
      by_cases c60 : c = 60
      · rw [if_pos c60, if_pos c60]; rfl
      · rw [if_neg c60, if_neg c60]; rfl
theorem cmpK_eq (hB : TB B tp) (hM : TM B tp b) (h28 : b.1 999 28 = nI p) (hp : p ≤ 1000) : m_cmpK b = if isC B tp p = true then m_cmpG (B p) b else (m_fails b 0 (nI p)) := by
  have bid : ∀ u : Option cS, (u.bind fun s => some s) = u := fun u => by cases u <;> rfl
  have hg := m_sign_eq hB hM (show p < 2 ^ 31 by omega)
  rw [← mx_id h28] at hg
  unfold m_cmpK
  rw [hg, h28]
  show (if sg B tp p = 60 then m_cmpG (sg B tp p) b else if sg B tp p = 61 then m_cmpG (sg B tp p) b else if sg B tp p = 62 then m_cmpG (sg B tp p) b else ((m_fails b 0 (nI p)).bind fun s => some s)) = _
  rw [bid]
  by_cases c : isC B tp p = true
  · obtain ⟨c1, c2⟩ := isC_t c
    rw [if_pos c, sg_lt c1 hB c2]
    rcases c2 with e | e | e <;> rw [e]
    · rfl
    · rfl
    · rfl
  · rw [if_neg c]
    have hn : ∀ d : Int32, 0 ≤ d.toInt ∧ d.toInt ≤ 127 → (d = 60 ∨ d = 61 ∨ d = 62) → ¬ sg B tp p = d := by
      intro d hd h6 x
      obtain ⟨x1, x2⟩ := (sg_is hB hd).mp x
      apply c
      unfold isC
      rw [decide_eq_true x1, x2]
      rcases h6 with rfl | rfl | rfl <;> rfl
    rw [if_neg (hn 60 (by decide) (by decide)), if_neg (hn 61 (by decide) (by decide)), if_neg (hn 62 (by decide) (by decide))]
/-- behind a fault -/
theorem om_cmpK (hU : UB B tp σx σm r) (h : Dm r σm k q b) : OO (m_cmpK b) (Dm r σm k q) := by
  have h4 := hU.1.1
  have hM := h.2.1.tm hU.2.2.1
  have hd := h
  obtain ⟨p, hp, ep⟩ := h.2.2
  rw [cmpK_eq hU.1 hM ep (by omega)]
  by_cases c : isC B tp p = true
  · have c1 := (isC_t c).1
    have hle := sq_le (B := B) (tp := tp) (p := p) (c := B p)
    rw [if_pos c, cmpG_eq (z := si b 999 34 (b.1 999 34 + 1)) (p := p) hU.1 ((hd.st (i := 34) (by omega)).2.1.tm hU.2.2.1) ((si_p (by decide)).trans ep) c1 (isC_d hd)]
    refine OO.bd (om_sum hU ((hd.st (i := 34) (by omega)).mv (by omega))) (fun u hu => ?_)
    rw [m_entry_d hu.nz]
    exact OO.ret hu
  · rw [if_neg c, m_fails_d hd.nz]
    exact OO.ret hd
/-- a sign in the class -/
theorem t_sign_eq (hB : TB B tp) (hC : TC B tp σ) (hp : p ≤ tp) (hs : sk B tp p = p) : t_sign (cx σ p) = if isC B tp p = true then some (cx σ (p + 1 + sq B tp p (B p)), some (sgC (B p) (sq B tp p (B p)))) else some (fx (cx σ p) 0 p, none) := by
  have h4 := hB.1
  have h0 := t_see_eq hB hC hp
  rw [hs] at h0
  have e1 : si (cx σ p) 997 2 (nI p + 1) = cx σ (p + 1) := by rw [nI_1]; exact cx_cx
  have e2 : si (cx σ (p + 1)) 997 2 (nI (p + 1) + 1) = cx σ (p + 1 + 1) := by rw [nI_1]; exact cx_cx
  unfold t_sign
  rw [h0]
  have main : ∀ c : Int32, (c = 60 ∨ c = 61 ∨ c = 62) → B p = c → p < tp → (if c = 61 then some (cx σ (p + 1), some 2) else (if (cx σ (p + 1)).1 999 10 ≤ (cx σ (p + 1)).1 997 2 then (if c = 60 then some (cx σ (p + 1), some 0) else some (cx σ (p + 1), some 4)) else gd (inb ((cx σ (p + 1)).1 997 2) 400) (if (cx σ (p + 1)).1 9 (ix ((cx σ (p + 1)).1 997 2)) = 61 then (if c = 60 then some (si (cx σ (p + 1)) 997 2 ((cx σ (p + 1)).1 997 2 + 1), some 1) else some (si (cx σ (p + 1)) 997 2 ((cx σ (p + 1)).1 997 2 + 1), some 3)) else (if c = 60 then some (cx σ (p + 1), some 0) else some (cx σ (p + 1), some 4)))) : Option (cS × Option Int32)) = some (cx σ (p + 1 + sq B tp p (B p)), some (sgC (B p) (sq B tp p (B p)))) := by
    intro c hc hb hpt
    rw [hb]
    unfold sq sgC
    by_cases c61 : c = 61
    · rw [if_pos c61, if_pos c61, if_pos c61]
    · rw [if_neg c61, if_neg c61, if_neg c61, hC.cx.1, cx_n, e2]
      by_cases c1 : p + 1 < tp
      · rw [if_neg (nI_ge c1 (by omega)), inbn (by omega) (by decide), ixn (by omega), hC.cx.2 _ c1]
        show (if B (p + 1) = 61 then _ else _) = _
        by_cases c2 : B (p + 1) = 61
        · have c12 : p + 1 < tp ∧ B (p + 1) = 61 := ⟨c1, c2⟩
          rw [if_pos c2, if_pos c12]
          by_cases c60 : c = 60
          · rw [if_pos c60, if_pos c60]; rfl
          · rw [if_neg c60, if_neg c60]; rfl
        · have c12 : ¬ (p + 1 < tp ∧ B (p + 1) = 61) := fun x => c2 x.2
          rw [if_neg c2, if_neg c12]
          by_cases c60 : c = 60
          · rw [if_pos c60, if_pos c60]; rfl
          · rw [if_neg c60, if_neg c60]; rfl
      · have c12 : ¬ (p + 1 < tp ∧ B (p + 1) = 61) := fun x => c1 x.1
        rw [if_pos (nI_le (by omega) (by omega)), if_neg c12]
        by_cases c60 : c = 60
        · rw [if_pos c60, if_pos c60]; rfl
        · rw [if_neg c60, if_neg c60]; rfl
  by_cases c : isC B tp p = true
  · obtain ⟨c1, c2⟩ := isC_t c
    have hm := main (B p) c2 rfl c1
    rw [if_pos c]
    rw [← hm]
    have hsg := sg_lt c1 hB c2
    show (if sg B tp p = 60 then (t_demand (cx σ p) 1 0 ((cx σ p).1 997 2)).bind _ else if sg B tp p = 61 then (t_demand (cx σ p) 1 0 ((cx σ p).1 997 2)).bind _ else if sg B tp p = 62 then (t_demand (cx σ p) 1 0 ((cx σ p).1 997 2)).bind _ else _) = _
    rw [hsg, t_demand_1]
    have e3 : si (cx σ p) 997 2 ((cx σ p).1 997 2 + 1) = cx σ (p + 1) := by rw [cx_n]; exact e1
    rcases c2 with e | e | e <;> rw [e]
    · show (if (60 : Int32) = 61 then some (si (cx σ p) 997 2 ((cx σ p).1 997 2 + 1), some 2) else (if (si (cx σ p) 997 2 ((cx σ p).1 997 2 + 1)).1 999 10 ≤ (si (cx σ p) 997 2 ((cx σ p).1 997 2 + 1)).1 997 2 then _ else _)) = _
      simp only [e3]
      rfl
    · show some (si (cx σ p) 997 2 ((cx σ p).1 997 2 + 1), some 2) = _
      rw [e3]
      rfl
    · show (if (62 : Int32) = 61 then some (si (cx σ p) 997 2 ((cx σ p).1 997 2 + 1), some 2) else (if (si (cx σ p) 997 2 ((cx σ p).1 997 2 + 1)).1 999 10 ≤ (si (cx σ p) 997 2 ((cx σ p).1 997 2 + 1)).1 997 2 then _ else _)) = _
      simp only [e3]
      rfl
  · rw [if_neg c]
    have hn : ∀ d : Int32, 0 ≤ d.toInt ∧ d.toInt ≤ 127 → (d = 60 ∨ d = 61 ∨ d = 62) → ¬ sg B tp p = d := by
      intro d hd h6 x
      obtain ⟨x1, x2⟩ := (sg_is hB hd).mp x
      apply c
      unfold isC
      rw [decide_eq_true x1, x2]
      rcases h6 with rfl | rfl | rfl <;> rfl
    show (if sg B tp p = 60 then _ else if sg B tp p = 61 then _ else if sg B tp p = 62 then _ else (t_demand (cx σ p) 0 (nI 0) ((cx σ p).1 997 2)).bind _) = _
    rw [if_neg (hn 60 (by decide) (by decide)), if_neg (hn 61 (by decide) (by decide)), if_neg (hn 62 (by decide) (by decide)), cx_n, t_demand_0]
    rfl
/-- truth of a test, as entries answer it -/
def trq (φ : Wds → Int32) : Wds → Int64 := fun ws => tru (φ ws)
def QC (B : Nat → Int32) (tp r e0 cn0 : Nat) (p' cn' e' : Nat) (y : cS) (φ : Wds → Int32) : Prop := Ev r y e0 e' (trq φ) ∧ e' + 12 + 5 * cn0 ≤ e0 + 5 * cn' ∧ sk B tp p' = p'
theorem fx_k {k q : Nat} : (fx a k q).1 998 6 = nI k ∧ (fx a k q).1 998 7 = nI q := ⟨(si_p (by decide)).trans si_a, si_a⟩
theorem j_comp (hU : UB B tp σx σm r) (h : Ul σx σm r tp M p dx dm cn e o a b) : JJ (t_comp a) (m_compared b) (UP σx σm r tp M p dx dm e o b (fun p' cn' e' y φ => p < p' ∧ QC B tp r e cn p' cn' e' y φ)) := by
  have h4 := hU.1.1
  unfold t_comp
  rw [m_comp_eq]
  refine JJ.bd (j_sum hU h) ?_
  rintro ⟨a2, c4, o2⟩ b2 hv
  rcases hv with ⟨v1, v2, k', q', v3, v4, v5⟩ | ⟨φ2, p2, cn2, e2, v1, v2, v3, v4, v5, v8, v6, v7⟩
  · dsimp only at v1 v2 v3 v4 v5
    subst v1
    show JJ (addc c4 (some (a2, 0, none))) (m_cmpK b2) _
    obtain ⟨y, e1, hy⟩ := om_cmpK hU v5
    exact ⟨_, y, rfl, e1, UP.none_ (by show 0 + c4 + _ ≤ tp; omega) ⟨k', q', v3, v4, hy⟩⟩
  · dsimp only at v1 v2 v3
    subst v1
    have hl2 := v3.ids
    have hp2 := v3.1.1
    have w2 := v8.1
    have ho := v3.2.2.2.2.1.1
    have hcn := v3.2.2.1
    have h29 := v3.2.2.2.2.2.1.1
    have hX := v3.2.2.2.2.2.2.1
    have hS := v3.2.2.2.2.2.2.2
    have hTx := hX.tc hU.2.1
    have hsee := t_see_eq hU.1 hTx hp2
    rw [v7] at hsee
    have hsg := t_sign_eq hU.1 hTx hp2 v7
    have hbk := cmpK_eq hU.1 (hS.tm hU.2.2.1) v3.1.2.2 (by omega)
    rw [hbk]
    show JJ (addc c4 ((t_see a2).bind _)) _ _
    rw [hl2.1, hsee]
    show JJ (addc c4 ((t_sign (cx a2 p2)).bind _)) _ _
    rw [hsg]
    by_cases c : isC B tp p2 = true
    · obtain ⟨c1, c2⟩ := isC_t c
      have hle := sq_le (B := B) (tp := tp) (p := p2) (c := B p2)
      rw [if_pos c, if_pos c]
      generalize hsq : sq B tp p2 (B p2) = s at *
      have hmc := m_isC_eq (q := p2) hcn.2.2 hcn.1 h29
      show JJ (addc c4 ((t_makes (cx a2 (p2 + 1 + s)) ((cx a2 p2).1 997 2)).bind _)) _ _
      rw [cx_n, t_makes_eq (cn := cn2) ((cx_p (by decide)).trans hcn.2.1) hcn.1]
      by_cases c60 : cn2 = 60
      · rw [if_pos c60] at hmc
        have hdd : Dm r σm 3 p2 (si (fm b2 3 p2) 999 34 (nI 61)) := (hS.fmm (by omega) (by omega) (by omega) v3.1.2.2).st (by omega)
        rw [if_pos c60, cmpG_eq (z := si (fm b2 3 p2) 999 34 (nI 61)) (p := p2) hU.1 (hdd.2.1.tm hU.2.2.1) (((si_p (by decide)).trans (si_p (by decide))).trans v3.1.2.2) c1 (by rw [v3.1.2.2]; exact hmc), hsq]
        show JJ (some (fx (cx a2 (p2 + 1 + s)) 3 p2, 0 + c4, none)) _ _
        refine JJ.or (om_sum hU (hdd.mv (by omega))) (fun u hu => ?_)
        rw [m_entry_d hu.nz]
        exact JJ.ret (UP.none_ (by show 0 + c4 + _ ≤ tp; omega) ⟨3, p2, fx_k, (hX.st (Or.inl rfl)).fxx, hu⟩)
      · rw [if_neg c60] at hmc
        have v9 := (v3.cnt (by omega)).mv (p' := p2 + 1 + s) (hle.2 c1) (by omega)
        rw [if_neg c60, cmpG_eq (z := si b2 999 34 (nI (cn2 + 1))) (p := p2) hU.1 ((hS.st (by omega)).tm hU.2.2.1) ((si_p (by decide)).trans v3.1.2.2) c1 (by rw [v3.1.2.2]; exact hmc), hsq]
        have k3 : Kf r e2 o b2 (mx (si b2 999 34 (nI (cn2 + 1))) (p2 + 1 + s)) := (Kf.rf.st (Or.inl rfl)).st (Or.inl rfl)
        show JJ (addc c4 (addc 1 ((t_sum (si (cx a2 (p2 + 1 + s)) 997 4 (nI (cn2 + 1)))).bind _))) _ _
        rw [show si (cx a2 (p2 + 1 + s)) 997 4 (nI (cn2 + 1)) = cx (si a2 997 4 (nI (cn2 + 1))) (p2 + 1 + s) from si_cm (by decide)]
        refine JJ.add (Q := UP σx σm r tp M p2 dx dm e2 o b2 (fun p' cn' e' y φ => p2 < p' ∧ QC B tp r e cn p' cn' e' y φ)) ?_ (fun x y hx => hx.up (by omega) v4 (by omega) rfl (fun p' _ _ _ z => ⟨by have := z.1; omega, z.2⟩))
        refine JJ.add (Q := UP σx σm r tp M (p2 + 1 + s) dx dm e2 o (mx (si b2 999 34 (nI (cn2 + 1))) (p2 + 1 + s)) (fun p' cn' e' y φ => p2 < p' ∧ QC B tp r e cn p' cn' e' y φ)) ?_ (fun x y hx => hx.up (by omega) k3 (Nat.le_refl _) rfl (fun _ _ _ _ z => z))
        refine JJ.bd (j_sum hU v9) ?_
        rintro ⟨a3, c5, o3⟩ b3 hv
        rcases hv with ⟨x1, x2, k', q', x3, x4, x5⟩ | ⟨φ3, p3, cn3, e3, x1, x2, x3, x4, x5, x8, x6, x7⟩
        · dsimp only at x1 x2 x3 x4 x5
          subst x1
          show JJ (some (a3, 0 + c5, none)) _ _
          rw [m_entry_d x5.nz]
          exact JJ.ret (UP.none_ (by show 0 + c5 + _ ≤ tp; omega) ⟨k', q', x3, x4, x5⟩)
        · dsimp only at x1 x2 x3
          subst x1
          have w3 := x8.1
          have w4 := x3.2.2.1.1
          have w5 := v3.2.2.2.1.1
          have w6 := x3.2.2.2.1.1
          obtain ⟨d1, d2⟩ := cd_mb (s := s) c2
          have hen := x3.ent (c := cdC (B p2) s) (v := 0) hU (by omega)
          have x9 := x3.wr (c := cdC (B p2) s) (v := 0) (by omega)
          have hEv := Ev.op (x := 0) (f := fun x y => tru (vCmp (sgC (B p2) s) x y)) hU.2.2.2.2.1 (v8.kf k3 (Nat.le_refl _)) x8 x4 (by omega) d1 d2
          show JJ (some (a3, 0 + c5, some (fun ws => vCmp (sgC (B p2) s) (φ2 ws) (φ3 ws)))) _ _
          rw [hen]
          exact JJ.ret (Or.inr ⟨_, p3, cn3, e3 + 1, rfl, by show 0 + c5 + (p2 + 1 + s) ≤ p3; omega, x9, x4.wr (by omega), by omega, hEv, by omega, x7⟩)
    · rw [if_neg c, if_neg c, show (0 : Int32) = nI 0 from rfl, m_fails_0 h29]
      show JJ (some (fx (cx a2 p2) 0 p2, 0 + c4, none)) _ _
      exact JJ.ret (UP.none_ (by show 0 + c4 + _ ≤ tp; omega) ⟨0, p2, fx_k, (hX.st (Or.inl rfl)).fxx, hS.fmm (by omega) (by omega) (by omega) v3.1.2.2⟩)
end UC
