/-! PURE LAW: push, all rows -/
set_option maxRecDepth 100000
/-- best and its row, as the model has them -/
def Am (O n : Nat) (b : cS) (best : Int32) (acc : Option (Nat × Nat)) : Prop := match acc with
  | none => best = -1
  | some (v, r) => v ≤ 3 ∧ best = nI v ∧ ∀ j, j < n → b.1 55 j = zi (dgt O n r j)
def Ax (O n : Nat) (a : cS) (acc : Option (Nat × Nat)) : Prop := match acc with
  | none => a.1 999 18 = -1
  | some (v, r) => v ≤ 3 ∧ a.1 999 18 = nI v ∧ ∀ j, j < n → a.1 17 j = zi (dgt O n r j)
theorem upb_none {val : Nat → Option Nat} {acc : Option (Nat × Nat)} {p : Nat} (h : val p = none) : upb val acc p = acc := by unfold upb; rw [h]
theorem upb_new {val : Nat → Option Nat} {p v : Nat} (h : val p = some v) : upb val none p = some (v, p) := by unfold upb; rw [h]
theorem upb_old {val : Nat → Option Nat} {p v b r : Nat} (h : val p = some v) : upb val (some (b, r)) p = if v < b then some (v, p) else some (b, r) := by unfold upb; rw [h]
theorem valp_le {O n p v : Nat} {B : Int32} {β0 : cS} (h : valp O B β0 n p = some v) : v ≤ n ∧ v = cnp O n p ∧ okp O B n p = true := by
  unfold valp at h
  by_cases c : okp O B n p = true ∧ awp (Mp O β0 n p) = true
  · rw [if_pos c] at h
    cases h
    exact ⟨cnp_le O n p, rfl, c.1⟩
  · rw [if_neg c] at h
    cases h
section FR
variable {σx σm σx' σm' : cS} {rs : List RS} {im : IM} {cz mm vv ww t u lg un un' O n : Nat} {δ σ δ' σ' z w a b c β β0 : cS} {R : Option RS} {B : Int32}
/-- all rows in the model -/
theorem om_finds (hO : O = 2 * mm + 1) (hn : 1 ≤ n ∧ n ≤ 3) (ht : t ≤ 999) (hN : Rn mm vv ww t t δ σm) (hL : LawR R σm) : ∃ β0, Rm 0 mm vv ww t t δ β0 ∧ LawR R β0 ∧ OO (m_findsPush σm (nI n)) (fun q => Em σm q.1 ∧ Am O n q.1 q.2 (fol (valp O (σm.1 1 4) β0 n) none 0 (O ^ n))) := by
  have h10 := hN.m10
  have h2 : 2 ≤ mm := hN.2.2.2.2.2.1
  have hOn : O ^ n ≤ 9261 := by
    have h21 : O ≤ 21 := by omega
    have h1 : O ^ n ≤ 21 ^ n := Nat.pow_le_pow_left h21 n
    have h2 : 21 ^ n ≤ 21 ^ 3 := Nat.pow_le_pow_right (by decide) hn.2
    have h3 : (21 : Nat) ^ 3 = 9261 := by decide
    omega
  obtain ⟨β0, hk, k1, k2, k3⟩ := om_kept σm
  have hβ : Rn mm vv ww t t δ β0 := hN.em k2.ev
  have lβ := hL.em k2
  refine ⟨β0, hβ.z0, lβ, ?_⟩
  have eO : (2 : Int32) * σm.1 1 (ix 0) + 1 = nI O := by rw [hN.m', show (2 : Int32) = nI 2 from rfl, pk_mul, nI_1, hO]
  unfold m_findsPush
  rw [eO]
  refine OO.loop (S := Int32) (L := fun f s i => m_findsPush_19 σm (nI n) (-1) (nI O) _ f s i) (I := fun j s => s = nI (O ^ j)) (N := n) ?_ ?_ n 0 (by omega) FU (FU_gt (by omega)) 1 (by rw [Nat.pow_zero]; rfl)
  · intro f j s hj hI kk
    subst hI
    show OO (m_findsPush_19 _ _ _ _ _ (f + 1) _ (nI j)) _
    rw [m_findsPush_19, nI_1, pk_mul, ← Nat.pow_succ]
    exact OO.e (nI_ge hj (by omega)) (kk _ rfl)
  intro f s hI
  subst hI
  show OO (m_findsPush_19 _ _ _ _ _ (f + 1) _ (nI n)) _
  rw [m_findsPush_19]
  refine OO.t (nI_le (Nat.le_refl _) (by omega)) (OO.b hk ?_)
  refine OO.loop (S := cS × Int32) (L := fun f s i => m_findsPush_44 (nI n) (nI O) (nI (O ^ n)) (fun σ_22 v_23 => some (σ_22, v_23)) f s.1 s.2 i) (I := fun row s => (Kp σm s.1 ∧ Em σm s.1) ∧ Am O n s.1 s.2 (fol (valp O (σm.1 1 4) β0 n) none 0 row)) (N := O ^ n) ?_ ?_ (O ^ n) 0 (by omega) FU (FU_gt (by omega)) (β0, -1) ⟨⟨k1, k2⟩, rfl⟩
  · rintro f row ⟨b, best⟩ hrow ⟨⟨g1, g2⟩, hA⟩ kk
    dsimp only at g1 g2 hA
    show OO (m_findsPush_44 _ _ _ _ (f + 1) b best (nI row)) _
    rw [m_findsPush_44, nI_1, nI_zi]
    refine OO.e (nI_ge hrow (by omega)) ?_
    refine om_digits ⟨by omega, by omega⟩ hn.2 (by omega) (fun b1 d1 d2 => ?_)
    obtain ⟨g1', g2'⟩ := KE.q (σm := σm) (a := b) (b := b1) d1 (by decide) g1 g2
    have hδ : Rm 0 mm vv ww t t δ b1 := (hN.em g2'.ev).z0
    refine OO.bd (om_pushesBy (B := σm.1 1 4) hO hn.2 ht h10 (fun _ _ _ => trivial) hδ hβ.z0 (hL.em g2') lβ g1' (g2'.1.1.1 1 (by decide) (by decide) 4 (by decide)) d2) ?_
    rintro ⟨b2, r⟩ ⟨q1, q2, q3, q4⟩
    dsimp only at q1 q2 q3 q4
    refine OO.bd q1.back2 (fun b3 ⟨⟨e1, e2⟩, e3⟩ => ?_)
    have e54 : ∀ j, j < n → b3.1 54 j = zi (dgt O n row j) := fun j hj => by rw [e3 54 (by decide) (by decide) (by decide), q2]; exact d2 j hj
    have e55 : b3.1 55 = b.1 55 := by rw [e3 55 (by decide) (by decide) (by decide), q3, d1 55 (by decide)]
    have same : ∀ acc, Am O n b best acc → Am O n b3 best acc := by
      intro acc h
      rcases acc with _ | ⟨v, r⟩
      · exact h
      · exact ⟨h.1, h.2.1, fun j hj => by rw [e55]; exact h.2.2 j hj⟩
    have step : fol (valp O (σm.1 1 4) β0 n) none 0 (row + 1) = upb (valp O (σm.1 1 4) β0 n) (fol (valp O (σm.1 1 4) β0 n) none 0 row) row := by
      show upb _ _ (0 + row) = _
      rw [Nat.zero_add]
    have copy : ∀ v, v ≤ 3 → (∃ x, fol (valp O (σm.1 1 4) β0 n) none 0 (row + 1) = x ∧ x = some (v, row)) → OO ((m_copies b3 54 55).bind fun σ_18 => m_findsPush_44 (nI n) (nI O) (nI (O ^ n)) (fun σ_22 v_23 => some (σ_22, v_23)) f σ_18 (nI v) (nI (row + 1))) (fun q => Em σm q.1 ∧ Am O n q.1 q.2 (fol (valp O (σm.1 1 4) β0 n) none 0 (O ^ n))) := by
      rintro v hv ⟨x, hx, rfl⟩
      refine OO.bd (om_copies (p := 54) (q := 55) (N := 3) rfl rfl (by decide) (by decide)) (fun b4 ⟨c1, c2⟩ => ?_)
      refine kk (b4, nI v) ⟨KE.q c1 (by decide) e2 e1, ?_⟩
      rw [hx]
      exact ⟨hv, rfl, fun j hj => by rw [c2 j (by omega)]; exact e54 j hj⟩
    cases hv : valp O (σm.1 1 4) β0 n row with
    | none =>
      rw [hv] at q4
      subst q4
      refine OO.t rfl (kk (b3, best) ⟨⟨e2, e1⟩, ?_⟩)
      rw [step, upb_none hv]
      exact same _ hA
    | some v =>
      rw [hv] at q4
      subst q4
      have hv3 : v ≤ 3 := Nat.le_trans (valp_le hv).1 hn.2
      refine OO.e (nI_nm1 (by omega)) ?_
      cases hacc : fol (valp O (σm.1 1 4) β0 n) none 0 row with
      | none =>
        rw [hacc] at hA
        have hb : best = -1 := hA
        subst hb
        exact OO.t rfl (copy v hv3 ⟨_, rfl, by rw [step, hacc, upb_new hv]⟩)
      | some p =>
        obtain ⟨bv, br⟩ := p
        rw [hacc] at hA
        obtain ⟨a1, a2, a3⟩ := hA
        subst a2
        refine OO.e (nI_nm1 (by omega)) ?_
        by_cases c : bv ≤ v
        · refine OO.t (nI_le c (by omega)) (kk (b3, nI bv) ⟨⟨e2, e1⟩, ?_⟩)
          rw [step, hacc, upb_old hv, if_neg (by omega)]
          exact same _ ⟨a1, rfl, a3⟩
        · exact OO.e (nI_ge (by omega) (by omega)) (copy v hv3 ⟨_, rfl, by rw [step, hacc, upb_old hv, if_pos (by omega)]⟩)
  · rintro f ⟨b, best⟩ ⟨⟨g1, g2⟩, hA⟩
    dsimp only at g1 g2 hA
    show OO (m_findsPush_44 _ _ _ _ (f + 1) b best (nI (O ^ n))) _
    rw [m_findsPush_44]
    exact OO.t (nI_le (Nat.le_refl _) (by omega)) (OO.ret ⟨g2, hA⟩)
/-! the class -/
theorem OO.zloop {α S : Type} {L : Nat → S → Int32 → Option α} {I : Nat → S → Prop} {N : Nat} {P : α → Prop}
    (step : ∀ n j s, j < N → I j s → (∀ s', I (j + 1) s' → OO (L n s' (zi (j + 1))) P) → OO (L (n + 1) s (zi j)) P)
    (stop : ∀ n s, I N s → OO (L (n + 1) s (zi N)) P) :
    ∀ d j, j + d = N → ∀ n, d < n → ∀ s, I j s → OO (L n s (zi j)) P := by
  intro d
  induction d with
  | zero =>
    intro j hj n h1 s hI
    obtain ⟨n, rfl⟩ : ∃ k, n = k + 1 := ⟨n - 1, by omega⟩
    have : j = N := by omega
    subst this
    exact stop n s hI
  | succ d ih =>
    intro j hj n h1 s hI
    obtain ⟨n, rfl⟩ : ∃ k, n = k + 1 := ⟨n - 1, by omega⟩
    exact step n j s (by omega) hI (fun s' h => ih (j + 1) (by omega) n (by omega) s' h)
/-- chunk δ is where the prefix p of k digits comes to -/
def Dk (mm vv ww t O : Nat) (R : Option RS) (β0 : cS) (k p : Nat) (δ : cS) : Prop := ∃ β, Mp O β0 k p = some β ∧ LawR R β ∧ Rm 0 mm vv ww (t + k) (t + k) δ β
theorem Dk.of {k p : Nat} (h : Dk mm vv ww t O R β0 k p δ) (e : ∀ j, j < 1000 → δ'.1 j = δ.1 j) : Dk mm vv ww t O R β0 k p δ' := by
  obtain ⟨β, h1, h2, h3⟩ := h
  exact ⟨β, h1, h2, h3.ex (eqD.of e)⟩
theorem vw_pbc {a δ : cS} {c : Nat} : ∀ k, k < 1000 → (vw (pb a c δ) c).1 k = δ.1 k := fun _ hk => vw_pb hk
/-- a night of a trial's copy -/
theorem xs_goes {c : Nat} (h : Rm 0 mm vv ww t t (vw a c) β) (hL : LawR R β) (ht : t + 1 < 1000000) (hC : CC (vw σx 1000) (vw a c)) : OO (d_goes (vw a c) R) (fun p => ∃ β', ((m_goesNight β).bind fun p => some p.1) = some β' ∧ LawR R β' ∧ Rm 0 mm vv ww (t + 1) (t + 1) (vw (pb a c p.1) c) β' ∧ CC (vw σx 1000) (vw (pb a c p.1) c)) := by
  obtain ⟨p, q, e1, e2, q1, q2, q3⟩ := jn_goes0 h hL ht
  exact ⟨p, e1, q.1, by rw [e2]; rfl, hL.mv q2, q1.ex (eqD.of vw_pbc), CC.of (hC.fx q3) vw_pbc⟩
theorem xs_push {c m : Nat} {v : Int32} (h : Rm 0 mm vv ww t t (vw a c) β) (hL : LawR R β) (hm : m < mm) (hC : CC (vw σx 1000) (vw a c)) : OO (d_pushes (vw a c) (nI m) v) (fun z => ∃ β', m_pushes β (nI m) v = some β' ∧ LawR R β' ∧ Rm 0 mm vv ww t t (vw (pb a c z) c) β' ∧ CC (vw σx 1000) (vw (pb a c z) c)) := by
  obtain ⟨z, β', e1, e2, q1, q2, q3⟩ := jn_push0 h hm v
  exact ⟨z, e1, β', e2, hL.mv q2, q1.ex (eqD.of vw_pbc), CC.of (hC.fx q3) vw_pbc⟩
/-- the next night's copy: made, pushed, gone on -/
theorem xs_step {c c' k p d : Nat} (hO : O = 2 * mm + 1) (h10 : mm ≤ 10) (hd : d < O) (hk : k ≤ 4) (ht : t ≤ 999) (hc : 3000 ≤ c ∧ c ≤ 7000 ∧ 3000 ≤ c' ∧ c' ≤ 7000 ∧ (c' + 1000 ≤ c ∨ c + 1000 ≤ c')) (hQ : Qd σx a) (hR : x_law σx rs = some R) (hD : Dk mm vv ww t O R β0 k p (vw a c)) (hC : CC (vw σx 1000) (vw a c)) (hC' : CC (vw σx 1000) (vw a c')) {ρ : Type} {P : ρ → Prop} {K : cS → Option ρ} (hK : ∀ a', Ch c' a a' → Qd σx a' → CC (vw σx 1000) (vw a' c') → Dk mm vv ww t O R β0 (k + 1) (p * O + d) (vw a' c') → OO (K a') P) :
    OO ((d_standsAs (vw2 a c' c)).bind fun s7 => ((if zi d = -1 then some (pb2 a c' c s7) else if (zi d - zi d / 2 * 2) = 0 then ((d_pushes (vw (pb2 a c' c s7) c') (zi d / 2) (-2)).bind fun s => some (pb (pb2 a c' c s7) c' s)) else ((d_pushes (vw (pb2 a c' c s7) c') (zi d / 2) 2).bind fun s => some (pb (pb2 a c' c s7) c' s)) : Option cS)).bind fun s8 => (x_law s8 rs).bind fun R_11 => (d_goes (vw s8 c') R_11).bind fun x => K (pb s8 c' x.1)) P := by
  obtain ⟨β, eM, lβ, rβ⟩ := hD
  refine OO.bd (ox_standsAs a (by omega)) (fun s7 ⟨z1, z2⟩ => ?_)
  have r7 : Rm 0 mm vv ww (t + k) (t + k) (vw (pb2 a c' c s7) c') β := rβ.sta (CC.sw hC hC') z2
  have c7 : CC (vw σx 1000) (vw (pb2 a c' c s7) c') := hC'.sta z2
  have q7 : Qd σx (pb2 a c' c s7) := hQ.ch (by omega) z1
  have nextM : ∀ β', stp β (cdp d) = some β' → Mp O β0 (k + 1) (p * O + d) = some β' := by
    intro β' h
    show (Mp O β0 k ((p * O + d) / O)).bind _ = _
    rw [show (p * O + d) / O = p by rw [Nat.mul_comm, Nat.mul_add_div (by omega), Nat.div_eq_of_lt hd, Nat.add_zero], show (p * O + d) % O = d by rw [Nat.mul_comm, Nat.mul_add_mod, Nat.mod_eq_of_lt hd], eM]
    exact h
  have goes : ∀ (s8 β1 : cS), Ch c' a s8 → Qd σx s8 → CC (vw σx 1000) (vw s8 c') → LawR R β1 → Rm 0 mm vv ww (t + k) (t + k) (vw s8 c') β1 → (∀ β', ((m_goesNight β1).bind fun p => some p.1) = some β' → stp β (cdp d) = some β') → OO ((x_law s8 rs).bind fun R_11 => (d_goes (vw s8 c') R_11).bind fun x => K (pb s8 c' x.1)) P := by
    intro s8 β1 h1 h2 h3 h4 h5 h6
    refine OO.b (h2.law hR) (OO.bd (xs_goes h5 h4 (by omega) h3) (fun x ⟨β', e1, e2, e3, e4⟩ => ?_))
    exact hK _ (h1.tr Ch.pb) (h2.ch (by omega) Ch.pb) e4 ⟨β', nextM β' (h6 β' e1), e2, e3⟩
  cases d with
  | zero =>
    refine OO.b (if_pos rfl) ?_
    exact goes _ β z1 q7 c7 lβ r7 (fun β' h => h)
  | succ i =>
    rw [show zi (i + 1) = nI i from rfl, show (2 : Int32) = nI 2 from rfl, pk_rem (by omega) (by decide) (by decide), pk_div (by omega) (by decide) (by decide)]
    rcases (by omega : i % 2 = 0 ∨ i % 2 = 1) with q | q
    · rw [q]
      obtain ⟨z, e1, β1, e2, e3, e4, e5⟩ := xs_push (v := -2) r7 lβ (by omega : i / 2 < mm) c7
      refine OO.b (a := pb (pb2 a c' c s7) c' z) ?_ (goes _ β1 (z1.tr Ch.pb) (q7.ch (by omega) Ch.pb) e5 e3 e4 (fun β' h => ?_))
      · rw [if_neg (nI_nm1 (by omega)), if_pos (show nI 0 = 0 from rfl)]
        have : d_pushes (vw (pb2 a c' c s7) c') (nI (i / 2)) (-nI 2) = some z := e1
        rw [this]; rfl
      · show (m_pushes β (nI (i / 2)) (if i % 2 = 1 then 2 else -2)).bind _ = _
        rw [if_neg (by omega), e2]; exact h
    · rw [q]
      obtain ⟨z, e1, β1, e2, e3, e4, e5⟩ := xs_push (v := 2) r7 lβ (by omega : i / 2 < mm) c7
      refine OO.b (a := pb (pb2 a c' c s7) c' z) ?_ (goes _ β1 (z1.tr Ch.pb) (q7.ch (by omega) Ch.pb) e5 e3 e4 (fun β' h => ?_))
      · rw [if_neg (nI_nm1 (by omega)), if_neg (show ¬ nI 1 = 0 by decide)]
        have : d_pushes (vw (pb2 a c' c s7) c') (nI (i / 2)) (nI 2) = some z := e1
        rw [this]; rfl
      · show (m_pushes β (nI (i / 2)) (if i % 2 = 1 then 2 else -2)).bind _ = _
        rw [if_pos (by omega), e2]; exact h
/-- what holds between the trials of level k and before them -/
def Lv (O n k p : Nat) (σx a0 a : cS) : Prop := Qd σx a ∧ (∀ j, j ≤ n → CC (vw σx 1000) (vw a (3000 + 1000 * j))) ∧ (∀ b, 3000 ≤ b → b < 4000 + 1000 * k → a.1 b = a0.1 b) ∧ ∀ j, j < k → a.1 16 j = zi (p / O ^ (k - 1 - j) % O)
/-- all rows behind a prefix are no better -/
theorem fol_cut {k p many v r : Nat} (hkn : k ≤ n) (hO : 0 < O) (hm : many = cnp O k p) (hv : v ≤ many) : fol (valp O B β0 n) (some (v, r)) (p * O ^ (n - k)) (O ^ (n - k)) = some (v, r) := by
  refine fol_skip (fun q h1 h2 => ?_)
  cases hq : valp O B β0 n q with
  | none => exact Or.inl rfl
  | some w =>
    refine Or.inr ⟨w, v, r, rfl, rfl, ?_⟩
    have e := (valp_le hq).2.1
    have hp : q / O ^ (n - k) = p := by
      have hpos : 0 < O ^ (n - k) := Nat.pow_pos hO
      refine Nat.div_eq_of_lt_le h1 ?_
      rw [Nat.add_mul, Nat.one_mul]; exact h2
    have := pre_cn O (n - k) k q
    rw [hp, show k + (n - k) = n by omega] at this
    omega
theorem fol_bad {k p : Nat} {acc : Option (Nat × Nat)} (hkn : k ≤ n) (hO : 0 < O) (hb : okp O B k p = false) : fol (valp O B β0 n) acc (p * O ^ (n - k)) (O ^ (n - k)) = acc := by
  refine fol_skip (fun q h1 h2 => Or.inl ?_)
  cases hq : valp O B β0 n q with
  | none => rfl
  | some w =>
    have e := (valp_le hq).2.2
    have hp : q / O ^ (n - k) = p := by
      have hpos : 0 < O ^ (n - k) := Nat.pow_pos hO
      refine Nat.div_eq_of_lt_le h1 ?_
      rw [Nat.add_mul, Nat.one_mul]; exact h2
    have := pre_ok O B (n - k) k q (by rw [show k + (n - k) = n by omega]; exact e)
    rw [hp, hb] at this
    exact absurd this (by decide)
/-- a leaf: a row of pushes is all tried -/
theorem xs_leaf {k p : Nat} {a0 : cS} {acc : Option (Nat × Nat)} (hkn : k = n) (hn : n ≤ 3) (hL : Lv O n k p σx a0 a) (hD : Dk mm vv ww t O R β0 k p (vw a (3000 + 1000 * k))) (hok : okp O B k p = true) (hA : Ax O n a acc) (hcut : ∀ v r, acc = some (v, r) → cnp O k p < v) :
    OO ((d_areWants (vw a (3000 + 1000 * k))).bind fun r => if r = 0 then some a else nmb (si a 999 18 (nI (cnp O k p))) fun s => some (sA s 17 (va_cpy (s.1 16) (s.1 17) (ix 0) (ix 0) (ix 3)))) (fun a' => Lv O n k p σx a0 a' ∧ Ax O n a' (fol (valp O B β0 n) acc (p * O ^ (n - k)) (O ^ (n - k)))) := by
  subst hkn
  obtain ⟨β, eM, lβ, rβ⟩ := hD
  obtain ⟨r, hr, e1, e2⟩ := jn_wants rβ
  rw [Nat.sub_self, Nat.pow_zero, Nat.mul_one]
  have ef : fol (valp O B β0 k) acc p 1 = upb (valp O B β0 k) acc p := rfl
  rw [ef]
  refine OO.b e1 ?_
  rcases hr with rfl | rfl
  · refine OO.t rfl (OO.ret ⟨hL, ?_⟩)
    have : valp O B β0 k p = none := by
      unfold valp
      rw [if_neg]
      rintro ⟨-, q⟩
      rw [eM] at q
      have q : decide (m_areWantsSo β = some 1) = true := q
      rw [e2] at q
      exact absurd (of_decide_eq_true q) (by decide)
    rw [upb_none this]; exact hA
  · refine OO.e (by decide) (OO.n (OO.ret ?_))
    have hv : valp O B β0 k p = some (cnp O k p) := by
      unfold valp
      rw [if_pos]
      refine ⟨hok, ?_⟩
      rw [eM]
      show decide (m_areWantsSo β = some 1) = true
      rw [e2]
      exact decide_eq_true rfl
    have hup : upb (valp O B β0 k) acc p = some (cnp O k p, p) := by
      rcases acc with _ | ⟨v, r⟩
      · exact upb_new hv
      · rw [upb_old hv, if_pos (hcut v r rfl)]
    rw [hup]
    obtain ⟨l1, l2, l3, l4⟩ := hL
    have oth : ∀ b, b ≠ 17 → b ≠ 999 → (sA (si a 999 18 (nI (cnp O k p))) 17 (va_cpy ((si a 999 18 (nI (cnp O k p))).1 16) ((si a 999 18 (nI (cnp O k p))).1 17) (ix 0) (ix 0) (ix 3))).1 b = a.1 b := fun b h1 h2 => by rw [sA_o h1, si_o h2]
    refine ⟨⟨⟨fun b h1 h2 h3 h4 => by rw [oth b h4 h2]; exact l1.1 b h1 h2 h3 h4, fun i h1 h2 => by rw [sA_o (by decide), si_p h1]; exact l1.2 i h1 h2⟩, fun j hj => (l2 j hj).of (fun q hq => oth (3000 + 1000 * j + q) (by omega) (by omega)), fun b h1 h2 => by rw [oth b (by omega) (by omega)]; exact l3 b h1 h2, fun j hj => by rw [oth 16 (by decide) (by decide)]; exact l4 j hj⟩, Nat.le_trans (cnp_le O k p) hn, by rw [sA_o (by decide), si_a], fun j hj => ?_⟩
    rw [sA_s, ix_0, show ix 3 = 3 from rfl, cpy_in (Nat.zero_le _) (by omega), Nat.zero_add, Nat.sub_zero, si_o (by decide)]
    exact l4 j hj
theorem xt_3 {a0 : cS} {p : Nat} {acc : Option (Nat × Nat)} (h1 : σx.1 999 0 = 1) (hN : Rn mm vv ww t t (vw σx 1000) σm) (hO : O = 2 * mm + 1) (hn : n ≤ 3) (hk : 3 ≤ n) (ht : t ≤ 999) (hR : x_law σx rs = some R) (hB : B = σm.1 1 4) (hL : Lv O n 3 p σx a0 a) (hD : Dk mm vv ww t O R β0 3 p (vw a 6000)) (hok : okp O B 3 p = true) (hA : Ax O n a acc) :
    OO (x_triesPushes_3 a rs (nI n) (nI (cnp O 3 p))) (fun a' => Lv O n 3 p σx a0 a' ∧ Ax O n a' (fol (valp O B β0 n) acc (p * O ^ (n - 3)) (O ^ (n - 3)))) := by
  have h10 := hN.m10
  have h2 : 2 ≤ mm := hN.2.2.2.2.2.1
  have hz : ∀ a, Qd σx a → nz (a.1 999 0) = true := fun a ha => by rw [ha.2 0 (by decide) (by decide), h1]; rfl
  have eM : ∀ a, Qd σx a → a.1 1999 0 = nI mm := fun a ha => (congrFun (ha.1 1999 (by omega) (by decide) (by decide) (by decide)) 0).trans hN.dm
  have eB : ∀ a, Qd σx a → a.1 1999 7 = B := fun a ha => ((congrFun (ha.1 1999 (by omega) (by decide) (by decide) (by decide)) 7).trans hN.bd).trans hB.symm
  have body : ∀ (hcut : ∀ v r, acc = some (v, r) → cnp O 3 p < v), OO (if 3 = nI n then ((d_areWants (vw a 6000)).bind fun r_45 => if r_45 = 0 then some a else nmb (si a 999 18 (nI (cnp O 3 p))) fun σ_47 => some (sA σ_47 17 (va_cpy (σ_47.1 16) (σ_47.1 17) (ix 0) (ix 0) (ix 3)))) else x_triesPushes_3_58 rs (nI n) (nI (cnp O 3 p)) (fun σ_43 => some σ_43) FU a (-1)) (fun a' => Lv O n 3 p σx a0 a' ∧ Ax O n a' (fol (valp O B β0 n) acc (p * O ^ (n - 3)) (O ^ (n - 3)))) := by
    intro hcut
    by_cases hkn : 3 = n
    · refine OO.t (by rw [← hkn]; rfl) ?_
      exact xs_leaf hkn hn hL hD hok hA hcut
    · exact absurd hkn (by omega)
  unfold x_triesPushes_3
  cases acc with
  | none =>
    have e : a.1 999 18 = -1 := hA
    exact OO.t e (body (fun v r h => by cases h))
  | some q =>
    obtain ⟨v, r⟩ := q
    obtain ⟨a1, a2, a3⟩ := hA
    refine OO.e (by rw [a2]; exact nI_nm1 (by omega)) ?_
    rw [a2]
    have hc := cnp_le O 3 p
    by_cases c : cnp O 3 p < v
    · exact OO.t (nI_lt c (by omega)) (body (fun v' r' h => by cases h; exact c))
    · refine OO.e (nI_nlt (by omega) (by omega)) (OO.ret ⟨hL, ?_⟩)
      rw [fol_cut (k := 3) hk (by omega) rfl (by omega)]
      exact ⟨a1, a2, a3⟩
theorem xt_2 {a0 : cS} {p : Nat} {acc : Option (Nat × Nat)} (h1 : σx.1 999 0 = 1) (hN : Rn mm vv ww t t (vw σx 1000) σm) (hO : O = 2 * mm + 1) (hn : n ≤ 3) (hk : 2 ≤ n) (ht : t ≤ 999) (hR : x_law σx rs = some R) (hB : B = σm.1 1 4) (hL : Lv O n 2 p σx a0 a) (hD : Dk mm vv ww t O R β0 2 p (vw a 5000)) (hok : okp O B 2 p = true) (hA : Ax O n a acc) :
    OO (x_triesPushes_2 a rs (nI n) (nI (cnp O 2 p))) (fun a' => Lv O n 2 p σx a0 a' ∧ Ax O n a' (fol (valp O B β0 n) acc (p * O ^ (n - 2)) (O ^ (n - 2)))) := by
  have h10 := hN.m10
  have h2 : 2 ≤ mm := hN.2.2.2.2.2.1
  have hz : ∀ a, Qd σx a → nz (a.1 999 0) = true := fun a ha => by rw [ha.2 0 (by decide) (by decide), h1]; rfl
  have eM : ∀ a, Qd σx a → a.1 1999 0 = nI mm := fun a ha => (congrFun (ha.1 1999 (by omega) (by decide) (by decide) (by decide)) 0).trans hN.dm
  have eB : ∀ a, Qd σx a → a.1 1999 7 = B := fun a ha => ((congrFun (ha.1 1999 (by omega) (by decide) (by decide) (by decide)) 7).trans hN.bd).trans hB.symm
  have body : ∀ (hcut : ∀ v r, acc = some (v, r) → cnp O 2 p < v), OO (if 2 = nI n then ((d_areWants (vw a 5000)).bind fun r_45 => if r_45 = 0 then some a else nmb (si a 999 18 (nI (cnp O 2 p))) fun σ_47 => some (sA σ_47 17 (va_cpy (σ_47.1 16) (σ_47.1 17) (ix 0) (ix 0) (ix 3)))) else x_triesPushes_2_58 rs (nI n) (nI (cnp O 2 p)) (fun σ_43 => some σ_43) FU a (-1)) (fun a' => Lv O n 2 p σx a0 a' ∧ Ax O n a' (fol (valp O B β0 n) acc (p * O ^ (n - 2)) (O ^ (n - 2)))) := by
    intro hcut
    by_cases hkn : 2 = n
    · refine OO.t (by rw [← hkn]; rfl) ?_
      exact xs_leaf hkn hn hL hD hok hA hcut
    · refine OO.e (fun q => hkn ((nI_eq (a := 2) (by decide) (by omega)).mp q)) ?_
      refine OO.zloop (L := fun f s i => x_triesPushes_2_58 rs (nI n) (nI (cnp O 2 p)) (fun σ_43 => some σ_43) f s i) (I := fun d s => Lv O n 2 p σx a0 s ∧ Ax O n s (fol (valp O B β0 n) acc (p * O ^ (n - 2)) (d * O ^ (n - 3)))) (N := O) ?_ ?_ O 0 (by omega) FU (FU_gt (by omega)) a ⟨hL, by rw [Nat.zero_mul]; exact hA⟩
      · intro f d s hd ⟨hLs, hAs⟩ kk
        show OO (x_triesPushes_2_58 _ _ _ _ (f + 1) s (zi d)) _
        rw [x_triesPushes_2_58, eM s hLs.1, zi_n1]
        refine OO.g (hz s hLs.1) ?_
        have hDs : Dk mm vv ww t O R β0 2 p (vw s 5000) := hD.of (fun j hj => (hLs.2.2.1 (5000 + j) (by omega) (by omega)).trans (hL.2.2.1 (5000 + j) (by omega) (by omega)).symm)
        have epow : O ^ (n - 2) = O * O ^ (n - 3) := by rw [show n - 2 = (n - 3) + 1 by omega, Nat.pow_succ, Nat.mul_comm]
        have elo : p * O ^ (n - 2) + d * O ^ (n - 3) = (p * O + d) * O ^ (n - 3) := by rw [epow, Nat.add_mul, Nat.mul_assoc]
        have eacc : fol (valp O B β0 n) acc (p * O ^ (n - 2)) ((d + 1) * O ^ (n - 3)) = fol (valp O B β0 n) (fol (valp O B β0 n) acc (p * O ^ (n - 2)) (d * O ^ (n - 3))) ((p * O + d) * O ^ (n - 3)) (O ^ (n - 3)) := by rw [Nat.add_mul, Nat.one_mul, fol_add, elo]
        have edv : (p * O + d) / O = p := by rw [Nat.mul_comm, Nat.mul_add_div (by omega), Nat.div_eq_of_lt hd, Nat.add_zero]
        have emd : (p * O + d) % O = d := by rw [Nat.mul_comm, Nat.mul_add_mod, Nat.mod_eq_of_lt hd]
        have ecn : cnp O 3 (p * O + d) = cnp O 2 p + (if d = 0 then 0 else 1) := by
          show cnp O 2 ((p * O + d) / O) + (if (p * O + d) % O = 0 then 0 else 1) = _
          rw [edv, emd]
        have eok : okp O B 3 (p * O + d) = !(bkd B d) := by
          show (okp O B 2 ((p * O + d) / O) && !(bkd B ((p * O + d) % O))) = _
          rw [edv, emd, hok]
          rfl
        have edg : ∀ j, j < 2 → (p * O + d) / O ^ (3 - 1 - j) % O = p / O ^ (2 - 1 - j) % O := by
          intro j hj
          first
          | exact absurd hj (by omega)
          | rw [show 3 - 1 - j = (2 - 1 - j) + 1 by omega, div_pow, edv]
        -- the trials behind one digit
        have deep : bkd B d = false → ∀ a', Ch 6000 s a' → Qd σx a' → CC (vw σx 1000) (vw a' 6000) → Dk mm vv ww t O R β0 3 (p * O + d) (vw a' 6000) → OO ((x_triesPushes_3 (si a' 16 (ix 2) (zi d)) rs (nI n) (nI (cnp O 2 p + (if d = 0 then 0 else 1)))).bind fun σ_21 => x_triesPushes_2_58 rs (nI n) (nI (cnp O 2 p)) (fun σ_43 => some σ_43) f σ_21 (zi (d + 1))) (fun a' => Lv O n 2 p σx a0 a' ∧ Ax O n a' (fol (valp O B β0 n) acc (p * O ^ (n - 2)) (O ^ (n - 2)))) := by
          intro hg a' g1 g2 g3 g4
          obtain ⟨l1, l2, l3, l4⟩ := hLs
          have o16 : ∀ q, q < 1000 → ∀ c, 3000 ≤ c → (vw (si a' 16 (ix 2) (zi d)) c).1 q = (vw a' c).1 q := fun q hq c hc => si_o (σ := a') (k := 16) (j := c + q) (by omega)
          have hL' : Lv O n 3 (p * O + d) σx (si a' 16 (ix 2) (zi d)) (si a' 16 (ix 2) (zi d)) := by
            refine ⟨g2.st (Or.inl rfl), fun j hj => ?_, fun b _ _ => rfl, fun j hj => ?_⟩
            · refine CC.of ?_ (fun q hq => o16 q hq _ (by omega))
              by_cases e : j = 3
              · subst e; exact g3
              · exact (l2 j hj).of (fun q hq => g1 (3000 + 1000 * j + q) (by omega))
            · by_cases e : j = 2
              · subst e
                rw [show ix 2 = 2 from rfl, si_a]
                show zi d = zi ((p * O + d) / O ^ 0 % O)
                rw [Nat.pow_zero, Nat.div_one, emd]
              · rw [si_p (by rw [show ix 2 = 2 from rfl]; omega), g1 16 (by omega), edg j (by omega)]
                exact l4 j (by omega)
          have hA' : Ax O n (si a' 16 (ix 2) (zi d)) (fol (valp O B β0 n) acc (p * O ^ (n - 2)) (d * O ^ (n - 3))) := by
            have e18 : (si a' 16 (ix 2) (zi d)).1 999 18 = s.1 999 18 := by rw [si_o (by decide), g1 999 (by omega)]
            have e17 : (si a' 16 (ix 2) (zi d)).1 17 = s.1 17 := by rw [si_o (by decide), g1 17 (by omega)]
            revert hAs
            generalize fol (valp O B β0 n) acc (p * O ^ (n - 2)) (d * O ^ (n - 3)) = ac
            intro hAs
            rcases ac with _ | ⟨v, r⟩
            · exact e18.trans hAs
            · exact ⟨hAs.1, e18.trans hAs.2.1, fun j hj => by rw [e17]; exact hAs.2.2 j hj⟩
          have hT := xt_3 (a := si a' 16 (ix 2) (zi d)) (a0 := si a' 16 (ix 2) (zi d)) h1 hN hO hn (by omega) ht hR hB hL' (g4.of (fun q hq => o16 q hq 6000 (by omega))) (by rw [eok, hg]; rfl) hA'
          rw [ecn] at hT
          refine OO.bd hT (fun a2 ⟨⟨m1, m2, m3, m4⟩, mA⟩ => ?_)
          refine kk a2 ⟨⟨m1, m2, fun b hb hb2 => ?_, fun j hj => ?_⟩, ?_⟩
          · rw [m3 b hb (by omega), si_o (by omega), g1 b (by omega)]
            exact l3 b hb hb2
          · rw [m4 j (by omega), edg j hj]
          · rw [eacc]; exact mA
        have hno : ¬ (2 : Int32) * nI mm ≤ zi d := by
          rw [show (2 : Int32) = nI 2 from rfl, pk_mul]
          cases d with
          | zero => rw [i_le, nI_toInt (by omega)]; show ¬ ((2 * mm : Nat) : Int) ≤ (-1 : Int32).toInt; rw [show (-1 : Int32).toInt = -1 by decide]; omega
          | succ i => exact nI_ge (a := i) (by omega) (by omega)
        have stepK := fun (hg : bkd B d = false) => xs_step (K := fun σ_15 => if zi d = -1 then ((x_triesPushes_3 (si σ_15 16 (ix 2) (zi d)) rs (nI n) (nI (cnp O 2 p))).bind fun σ_21 => x_triesPushes_2_58 rs (nI n) (nI (cnp O 2 p)) (fun σ_43 => some σ_43) f σ_21 (zi (d + 1))) else ((x_triesPushes_3 (si σ_15 16 (ix 2) (zi d)) rs (nI n) (nI (cnp O 2 p) + 1)).bind fun σ_19 => x_triesPushes_2_58 rs (nI n) (nI (cnp O 2 p)) (fun σ_43 => some σ_43) f σ_19 (zi (d + 1)))) hO h10 hd (by decide : 2 ≤ 4) ht (by decide : 3000 ≤ 5000 ∧ 5000 ≤ 7000 ∧ 3000 ≤ 6000 ∧ 6000 ≤ 7000 ∧ (6000 + 1000 ≤ 5000 ∨ 5000 + 1000 ≤ 6000)) hLs.1 hR hDs (hLs.2.1 2 (by omega)) (hLs.2.1 3 (by omega)) (fun a' g1 g2 g3 g4 => by
          have q := deep hg a' g1 g2 g3 g4
          show OO (if zi d = -1 then _ else _) _
          cases d with
          | zero => exact OO.t rfl q
          | succ i => rw [if_neg (by omega), ← nI_1] at q; exact OO.e (nI_nm1 (by omega)) q)
        refine OO.e hno ?_
        cases d with
        | zero => exact OO.t rfl (stepK rfl)
        | succ i =>
          refine OO.e (nI_nm1 (by omega)) (OO.b (d_isBaked_eq _ _) ?_)
          have ebk : bk ((vw s 1000).1 999 7) (zi (i + 1) / 2) = bk B (nI (i / 2)) := by
            rw [show (vw s 1000).1 999 7 = B from eB s hLs.1, show zi (i + 1) = nI i from rfl, show (2 : Int32) = nI 2 from rfl, pk_div (by omega) (by decide) (by decide)]
          rw [ebk]
          rcases bk_c B (nI (i / 2)) with q | q
          · exact OO.t q (stepK (by show decide (bk B (nI (i / 2)) = 1) = false; rw [q]; rfl))
          · refine OO.e (by rw [q]; decide) (kk s ⟨hLs, ?_⟩)
            rw [eacc, fol_bad (k := 3) (by omega) (by omega) (by rw [eok]; show (!(decide (bk B (nI (i / 2)) = 1))) = false; rw [q]; rfl)]
            exact hAs
      · intro f s ⟨hLs, hAs⟩
        show OO (x_triesPushes_2_58 _ _ _ _ (f + 1) s (zi O)) _
        rw [x_triesPushes_2_58, eM s hLs.1]
        refine OO.g (hz s hLs.1) (OO.t ?_ (OO.ret ⟨hLs, ?_⟩))
        · rw [show (2 : Int32) = nI 2 from rfl, pk_mul, hO]
          exact nI_le (Nat.le_refl _) (by omega)
        · have epow : O ^ (n - 2) = O * O ^ (n - 3) := by rw [show n - 2 = (n - 3) + 1 by omega, Nat.pow_succ, Nat.mul_comm]
          rw [epow] at hAs ⊢
          exact hAs
  unfold x_triesPushes_2
  cases acc with
  | none =>
    have e : a.1 999 18 = -1 := hA
    exact OO.t e (body (fun v r h => by cases h))
  | some q =>
    obtain ⟨v, r⟩ := q
    obtain ⟨a1, a2, a3⟩ := hA
    refine OO.e (by rw [a2]; exact nI_nm1 (by omega)) ?_
    rw [a2]
    have hc := cnp_le O 2 p
    by_cases c : cnp O 2 p < v
    · exact OO.t (nI_lt c (by omega)) (body (fun v' r' h => by cases h; exact c))
    · refine OO.e (nI_nlt (by omega) (by omega)) (OO.ret ⟨hL, ?_⟩)
      rw [fol_cut (k := 2) hk (by omega) rfl (by omega)]
      exact ⟨a1, a2, a3⟩
theorem xt_1 {a0 : cS} {p : Nat} {acc : Option (Nat × Nat)} (h1 : σx.1 999 0 = 1) (hN : Rn mm vv ww t t (vw σx 1000) σm) (hO : O = 2 * mm + 1) (hn : n ≤ 3) (hk : 1 ≤ n) (ht : t ≤ 999) (hR : x_law σx rs = some R) (hB : B = σm.1 1 4) (hL : Lv O n 1 p σx a0 a) (hD : Dk mm vv ww t O R β0 1 p (vw a 4000)) (hok : okp O B 1 p = true) (hA : Ax O n a acc) :
    OO (x_triesPushes_1 a rs (nI n) (nI (cnp O 1 p))) (fun a' => Lv O n 1 p σx a0 a' ∧ Ax O n a' (fol (valp O B β0 n) acc (p * O ^ (n - 1)) (O ^ (n - 1)))) := by
  have h10 := hN.m10
  have h2 : 2 ≤ mm := hN.2.2.2.2.2.1
  have hz : ∀ a, Qd σx a → nz (a.1 999 0) = true := fun a ha => by rw [ha.2 0 (by decide) (by decide), h1]; rfl
  have eM : ∀ a, Qd σx a → a.1 1999 0 = nI mm := fun a ha => (congrFun (ha.1 1999 (by omega) (by decide) (by decide) (by decide)) 0).trans hN.dm
  have eB : ∀ a, Qd σx a → a.1 1999 7 = B := fun a ha => ((congrFun (ha.1 1999 (by omega) (by decide) (by decide) (by decide)) 7).trans hN.bd).trans hB.symm
  have body : ∀ (hcut : ∀ v r, acc = some (v, r) → cnp O 1 p < v), OO (if 1 = nI n then ((d_areWants (vw a 4000)).bind fun r_45 => if r_45 = 0 then some a else nmb (si a 999 18 (nI (cnp O 1 p))) fun σ_47 => some (sA σ_47 17 (va_cpy (σ_47.1 16) (σ_47.1 17) (ix 0) (ix 0) (ix 3)))) else x_triesPushes_1_58 rs (nI n) (nI (cnp O 1 p)) (fun σ_43 => some σ_43) FU a (-1)) (fun a' => Lv O n 1 p σx a0 a' ∧ Ax O n a' (fol (valp O B β0 n) acc (p * O ^ (n - 1)) (O ^ (n - 1)))) := by
    intro hcut
    by_cases hkn : 1 = n
    · refine OO.t (by rw [← hkn]; rfl) ?_
      exact xs_leaf hkn hn hL hD hok hA hcut
    · refine OO.e (fun q => hkn ((nI_eq (a := 1) (by decide) (by omega)).mp q)) ?_
      refine OO.zloop (L := fun f s i => x_triesPushes_1_58 rs (nI n) (nI (cnp O 1 p)) (fun σ_43 => some σ_43) f s i) (I := fun d s => Lv O n 1 p σx a0 s ∧ Ax O n s (fol (valp O B β0 n) acc (p * O ^ (n - 1)) (d * O ^ (n - 2)))) (N := O) ?_ ?_ O 0 (by omega) FU (FU_gt (by omega)) a ⟨hL, by rw [Nat.zero_mul]; exact hA⟩
      · intro f d s hd ⟨hLs, hAs⟩ kk
        show OO (x_triesPushes_1_58 _ _ _ _ (f + 1) s (zi d)) _
        rw [x_triesPushes_1_58, eM s hLs.1, zi_n1]
        refine OO.g (hz s hLs.1) ?_
        have hDs : Dk mm vv ww t O R β0 1 p (vw s 4000) := hD.of (fun j hj => (hLs.2.2.1 (4000 + j) (by omega) (by omega)).trans (hL.2.2.1 (4000 + j) (by omega) (by omega)).symm)
        have epow : O ^ (n - 1) = O * O ^ (n - 2) := by rw [show n - 1 = (n - 2) + 1 by omega, Nat.pow_succ, Nat.mul_comm]
        have elo : p * O ^ (n - 1) + d * O ^ (n - 2) = (p * O + d) * O ^ (n - 2) := by rw [epow, Nat.add_mul, Nat.mul_assoc]
        have eacc : fol (valp O B β0 n) acc (p * O ^ (n - 1)) ((d + 1) * O ^ (n - 2)) = fol (valp O B β0 n) (fol (valp O B β0 n) acc (p * O ^ (n - 1)) (d * O ^ (n - 2))) ((p * O + d) * O ^ (n - 2)) (O ^ (n - 2)) := by rw [Nat.add_mul, Nat.one_mul, fol_add, elo]
        have edv : (p * O + d) / O = p := by rw [Nat.mul_comm, Nat.mul_add_div (by omega), Nat.div_eq_of_lt hd, Nat.add_zero]
        have emd : (p * O + d) % O = d := by rw [Nat.mul_comm, Nat.mul_add_mod, Nat.mod_eq_of_lt hd]
        have ecn : cnp O 2 (p * O + d) = cnp O 1 p + (if d = 0 then 0 else 1) := by
          show cnp O 1 ((p * O + d) / O) + (if (p * O + d) % O = 0 then 0 else 1) = _
          rw [edv, emd]
        have eok : okp O B 2 (p * O + d) = !(bkd B d) := by
          show (okp O B 1 ((p * O + d) / O) && !(bkd B ((p * O + d) % O))) = _
          rw [edv, emd, hok]
          rfl
        have edg : ∀ j, j < 1 → (p * O + d) / O ^ (2 - 1 - j) % O = p / O ^ (1 - 1 - j) % O := by
          intro j hj
          first
          | exact absurd hj (by omega)
          | rw [show 2 - 1 - j = (1 - 1 - j) + 1 by omega, div_pow, edv]
        -- the trials behind one digit
        have deep : bkd B d = false → ∀ a', Ch 5000 s a' → Qd σx a' → CC (vw σx 1000) (vw a' 5000) → Dk mm vv ww t O R β0 2 (p * O + d) (vw a' 5000) → OO ((x_triesPushes_2 (si a' 16 (ix 1) (zi d)) rs (nI n) (nI (cnp O 1 p + (if d = 0 then 0 else 1)))).bind fun σ_21 => x_triesPushes_1_58 rs (nI n) (nI (cnp O 1 p)) (fun σ_43 => some σ_43) f σ_21 (zi (d + 1))) (fun a' => Lv O n 1 p σx a0 a' ∧ Ax O n a' (fol (valp O B β0 n) acc (p * O ^ (n - 1)) (O ^ (n - 1)))) := by
          intro hg a' g1 g2 g3 g4
          obtain ⟨l1, l2, l3, l4⟩ := hLs
          have o16 : ∀ q, q < 1000 → ∀ c, 3000 ≤ c → (vw (si a' 16 (ix 1) (zi d)) c).1 q = (vw a' c).1 q := fun q hq c hc => si_o (σ := a') (k := 16) (j := c + q) (by omega)
          have hL' : Lv O n 2 (p * O + d) σx (si a' 16 (ix 1) (zi d)) (si a' 16 (ix 1) (zi d)) := by
            refine ⟨g2.st (Or.inl rfl), fun j hj => ?_, fun b _ _ => rfl, fun j hj => ?_⟩
            · refine CC.of ?_ (fun q hq => o16 q hq _ (by omega))
              by_cases e : j = 2
              · subst e; exact g3
              · exact (l2 j hj).of (fun q hq => g1 (3000 + 1000 * j + q) (by omega))
            · by_cases e : j = 1
              · subst e
                rw [show ix 1 = 1 from rfl, si_a]
                show zi d = zi ((p * O + d) / O ^ 0 % O)
                rw [Nat.pow_zero, Nat.div_one, emd]
              · rw [si_p (by rw [show ix 1 = 1 from rfl]; omega), g1 16 (by omega), edg j (by omega)]
                exact l4 j (by omega)
          have hA' : Ax O n (si a' 16 (ix 1) (zi d)) (fol (valp O B β0 n) acc (p * O ^ (n - 1)) (d * O ^ (n - 2))) := by
            have e18 : (si a' 16 (ix 1) (zi d)).1 999 18 = s.1 999 18 := by rw [si_o (by decide), g1 999 (by omega)]
            have e17 : (si a' 16 (ix 1) (zi d)).1 17 = s.1 17 := by rw [si_o (by decide), g1 17 (by omega)]
            revert hAs
            generalize fol (valp O B β0 n) acc (p * O ^ (n - 1)) (d * O ^ (n - 2)) = ac
            intro hAs
            rcases ac with _ | ⟨v, r⟩
            · exact e18.trans hAs
            · exact ⟨hAs.1, e18.trans hAs.2.1, fun j hj => by rw [e17]; exact hAs.2.2 j hj⟩
          have hT := xt_2 (a := si a' 16 (ix 1) (zi d)) (a0 := si a' 16 (ix 1) (zi d)) h1 hN hO hn (by omega) ht hR hB hL' (g4.of (fun q hq => o16 q hq 5000 (by omega))) (by rw [eok, hg]; rfl) hA'
          rw [ecn] at hT
          refine OO.bd hT (fun a2 ⟨⟨m1, m2, m3, m4⟩, mA⟩ => ?_)
          refine kk a2 ⟨⟨m1, m2, fun b hb hb2 => ?_, fun j hj => ?_⟩, ?_⟩
          · rw [m3 b hb (by omega), si_o (by omega), g1 b (by omega)]
            exact l3 b hb hb2
          · rw [m4 j (by omega), edg j hj]
          · rw [eacc]; exact mA
        have hno : ¬ (2 : Int32) * nI mm ≤ zi d := by
          rw [show (2 : Int32) = nI 2 from rfl, pk_mul]
          cases d with
          | zero => rw [i_le, nI_toInt (by omega)]; show ¬ ((2 * mm : Nat) : Int) ≤ (-1 : Int32).toInt; rw [show (-1 : Int32).toInt = -1 by decide]; omega
          | succ i => exact nI_ge (a := i) (by omega) (by omega)
        have stepK := fun (hg : bkd B d = false) => xs_step (K := fun σ_15 => if zi d = -1 then ((x_triesPushes_2 (si σ_15 16 (ix 1) (zi d)) rs (nI n) (nI (cnp O 1 p))).bind fun σ_21 => x_triesPushes_1_58 rs (nI n) (nI (cnp O 1 p)) (fun σ_43 => some σ_43) f σ_21 (zi (d + 1))) else ((x_triesPushes_2 (si σ_15 16 (ix 1) (zi d)) rs (nI n) (nI (cnp O 1 p) + 1)).bind fun σ_19 => x_triesPushes_1_58 rs (nI n) (nI (cnp O 1 p)) (fun σ_43 => some σ_43) f σ_19 (zi (d + 1)))) hO h10 hd (by decide : 1 ≤ 4) ht (by decide : 3000 ≤ 4000 ∧ 4000 ≤ 7000 ∧ 3000 ≤ 5000 ∧ 5000 ≤ 7000 ∧ (5000 + 1000 ≤ 4000 ∨ 4000 + 1000 ≤ 5000)) hLs.1 hR hDs (hLs.2.1 1 (by omega)) (hLs.2.1 2 (by omega)) (fun a' g1 g2 g3 g4 => by
          have q := deep hg a' g1 g2 g3 g4
          show OO (if zi d = -1 then _ else _) _
          cases d with
          | zero => exact OO.t rfl q
          | succ i => rw [if_neg (by omega), ← nI_1] at q; exact OO.e (nI_nm1 (by omega)) q)
        refine OO.e hno ?_
        cases d with
        | zero => exact OO.t rfl (stepK rfl)
        | succ i =>
          refine OO.e (nI_nm1 (by omega)) (OO.b (d_isBaked_eq _ _) ?_)
          have ebk : bk ((vw s 1000).1 999 7) (zi (i + 1) / 2) = bk B (nI (i / 2)) := by
            rw [show (vw s 1000).1 999 7 = B from eB s hLs.1, show zi (i + 1) = nI i from rfl, show (2 : Int32) = nI 2 from rfl, pk_div (by omega) (by decide) (by decide)]
          rw [ebk]
          rcases bk_c B (nI (i / 2)) with q | q
          · exact OO.t q (stepK (by show decide (bk B (nI (i / 2)) = 1) = false; rw [q]; rfl))
          · refine OO.e (by rw [q]; decide) (kk s ⟨hLs, ?_⟩)
            rw [eacc, fol_bad (k := 2) (by omega) (by omega) (by rw [eok]; show (!(decide (bk B (nI (i / 2)) = 1))) = false; rw [q]; rfl)]
            exact hAs
      · intro f s ⟨hLs, hAs⟩
        show OO (x_triesPushes_1_58 _ _ _ _ (f + 1) s (zi O)) _
        rw [x_triesPushes_1_58, eM s hLs.1]
        refine OO.g (hz s hLs.1) (OO.t ?_ (OO.ret ⟨hLs, ?_⟩))
        · rw [show (2 : Int32) = nI 2 from rfl, pk_mul, hO]
          exact nI_le (Nat.le_refl _) (by omega)
        · have epow : O ^ (n - 1) = O * O ^ (n - 2) := by rw [show n - 1 = (n - 2) + 1 by omega, Nat.pow_succ, Nat.mul_comm]
          rw [epow] at hAs ⊢
          exact hAs
  unfold x_triesPushes_1
  cases acc with
  | none =>
    have e : a.1 999 18 = -1 := hA
    exact OO.t e (body (fun v r h => by cases h))
  | some q =>
    obtain ⟨v, r⟩ := q
    obtain ⟨a1, a2, a3⟩ := hA
    refine OO.e (by rw [a2]; exact nI_nm1 (by omega)) ?_
    rw [a2]
    have hc := cnp_le O 1 p
    by_cases c : cnp O 1 p < v
    · exact OO.t (nI_lt c (by omega)) (body (fun v' r' h => by cases h; exact c))
    · refine OO.e (nI_nlt (by omega) (by omega)) (OO.ret ⟨hL, ?_⟩)
      rw [fol_cut (k := 1) hk (by omega) rfl (by omega)]
      exact ⟨a1, a2, a3⟩
theorem xt_0 {a0 : cS} {p : Nat} {acc : Option (Nat × Nat)} (h1 : σx.1 999 0 = 1) (hN : Rn mm vv ww t t (vw σx 1000) σm) (hO : O = 2 * mm + 1) (hn : n ≤ 3) (hk : 0 ≤ n) (ht : t ≤ 999) (hR : x_law σx rs = some R) (hB : B = σm.1 1 4) (hL : Lv O n 0 p σx a0 a) (hD : Dk mm vv ww t O R β0 0 p (vw a 3000)) (hok : okp O B 0 p = true) (hA : Ax O n a acc) :
    OO (x_triesPushes_0 a rs (nI n) (nI (cnp O 0 p))) (fun a' => Lv O n 0 p σx a0 a' ∧ Ax O n a' (fol (valp O B β0 n) acc (p * O ^ (n - 0)) (O ^ (n - 0)))) := by
  have h10 := hN.m10
  have h2 : 2 ≤ mm := hN.2.2.2.2.2.1
  have hz : ∀ a, Qd σx a → nz (a.1 999 0) = true := fun a ha => by rw [ha.2 0 (by decide) (by decide), h1]; rfl
  have eM : ∀ a, Qd σx a → a.1 1999 0 = nI mm := fun a ha => (congrFun (ha.1 1999 (by omega) (by decide) (by decide) (by decide)) 0).trans hN.dm
  have eB : ∀ a, Qd σx a → a.1 1999 7 = B := fun a ha => ((congrFun (ha.1 1999 (by omega) (by decide) (by decide) (by decide)) 7).trans hN.bd).trans hB.symm
  have body : ∀ (hcut : ∀ v r, acc = some (v, r) → cnp O 0 p < v), OO (if 0 = nI n then ((d_areWants (vw a 3000)).bind fun r_45 => if r_45 = 0 then some a else nmb (si a 999 18 (nI (cnp O 0 p))) fun σ_47 => some (sA σ_47 17 (va_cpy (σ_47.1 16) (σ_47.1 17) (ix 0) (ix 0) (ix 3)))) else x_triesPushes_0_58 rs (nI n) (nI (cnp O 0 p)) (fun σ_43 => some σ_43) FU a (-1)) (fun a' => Lv O n 0 p σx a0 a' ∧ Ax O n a' (fol (valp O B β0 n) acc (p * O ^ (n - 0)) (O ^ (n - 0)))) := by
    intro hcut
    by_cases hkn : 0 = n
    · refine OO.t (by rw [← hkn]; rfl) ?_
      exact xs_leaf hkn hn hL hD hok hA hcut
    · refine OO.e (fun q => hkn ((nI_eq (a := 0) (by decide) (by omega)).mp q)) ?_
      refine OO.zloop (L := fun f s i => x_triesPushes_0_58 rs (nI n) (nI (cnp O 0 p)) (fun σ_43 => some σ_43) f s i) (I := fun d s => Lv O n 0 p σx a0 s ∧ Ax O n s (fol (valp O B β0 n) acc (p * O ^ (n - 0)) (d * O ^ (n - 1)))) (N := O) ?_ ?_ O 0 (by omega) FU (FU_gt (by omega)) a ⟨hL, by rw [Nat.zero_mul]; exact hA⟩
      · intro f d s hd ⟨hLs, hAs⟩ kk
        show OO (x_triesPushes_0_58 _ _ _ _ (f + 1) s (zi d)) _
        rw [x_triesPushes_0_58, eM s hLs.1, zi_n1]
        refine OO.g (hz s hLs.1) ?_
        have hDs : Dk mm vv ww t O R β0 0 p (vw s 3000) := hD.of (fun j hj => (hLs.2.2.1 (3000 + j) (by omega) (by omega)).trans (hL.2.2.1 (3000 + j) (by omega) (by omega)).symm)
        have epow : O ^ (n - 0) = O * O ^ (n - 1) := by rw [show n - 0 = (n - 1) + 1 by omega, Nat.pow_succ, Nat.mul_comm]
        have elo : p * O ^ (n - 0) + d * O ^ (n - 1) = (p * O + d) * O ^ (n - 1) := by rw [epow, Nat.add_mul, Nat.mul_assoc]
        have eacc : fol (valp O B β0 n) acc (p * O ^ (n - 0)) ((d + 1) * O ^ (n - 1)) = fol (valp O B β0 n) (fol (valp O B β0 n) acc (p * O ^ (n - 0)) (d * O ^ (n - 1))) ((p * O + d) * O ^ (n - 1)) (O ^ (n - 1)) := by rw [Nat.add_mul, Nat.one_mul, fol_add, elo]
        have edv : (p * O + d) / O = p := by rw [Nat.mul_comm, Nat.mul_add_div (by omega), Nat.div_eq_of_lt hd, Nat.add_zero]
        have emd : (p * O + d) % O = d := by rw [Nat.mul_comm, Nat.mul_add_mod, Nat.mod_eq_of_lt hd]
        have ecn : cnp O 1 (p * O + d) = cnp O 0 p + (if d = 0 then 0 else 1) := by
          show cnp O 0 ((p * O + d) / O) + (if (p * O + d) % O = 0 then 0 else 1) = _
          rw [edv, emd]
        have eok : okp O B 1 (p * O + d) = !(bkd B d) := by
          show (okp O B 0 ((p * O + d) / O) && !(bkd B ((p * O + d) % O))) = _
          rw [edv, emd, hok]
          rfl
        have edg : ∀ j, j < 0 → (p * O + d) / O ^ (1 - 1 - j) % O = p / O ^ (0 - 1 - j) % O := by
          intro j hj
          first
          | exact absurd hj (by omega)
          | rw [show 1 - 1 - j = (0 - 1 - j) + 1 by omega, div_pow, edv]
        -- the trials behind one digit
        have deep : bkd B d = false → ∀ a', Ch 4000 s a' → Qd σx a' → CC (vw σx 1000) (vw a' 4000) → Dk mm vv ww t O R β0 1 (p * O + d) (vw a' 4000) → OO ((x_triesPushes_1 (si a' 16 (ix 0) (zi d)) rs (nI n) (nI (cnp O 0 p + (if d = 0 then 0 else 1)))).bind fun σ_21 => x_triesPushes_0_58 rs (nI n) (nI (cnp O 0 p)) (fun σ_43 => some σ_43) f σ_21 (zi (d + 1))) (fun a' => Lv O n 0 p σx a0 a' ∧ Ax O n a' (fol (valp O B β0 n) acc (p * O ^ (n - 0)) (O ^ (n - 0)))) := by
          intro hg a' g1 g2 g3 g4
          obtain ⟨l1, l2, l3, l4⟩ := hLs
          have o16 : ∀ q, q < 1000 → ∀ c, 3000 ≤ c → (vw (si a' 16 (ix 0) (zi d)) c).1 q = (vw a' c).1 q := fun q hq c hc => si_o (σ := a') (k := 16) (j := c + q) (by omega)
          have hL' : Lv O n 1 (p * O + d) σx (si a' 16 (ix 0) (zi d)) (si a' 16 (ix 0) (zi d)) := by
            refine ⟨g2.st (Or.inl rfl), fun j hj => ?_, fun b _ _ => rfl, fun j hj => ?_⟩
            · refine CC.of ?_ (fun q hq => o16 q hq _ (by omega))
              by_cases e : j = 1
              · subst e; exact g3
              · exact (l2 j hj).of (fun q hq => g1 (3000 + 1000 * j + q) (by omega))
            · by_cases e : j = 0
              · subst e
                rw [show ix 0 = 0 from rfl, si_a]
                show zi d = zi ((p * O + d) / O ^ 0 % O)
                rw [Nat.pow_zero, Nat.div_one, emd]
              · rw [si_p (by rw [show ix 0 = 0 from rfl]; omega), g1 16 (by omega), edg j (by omega)]
                exact l4 j (by omega)
          have hA' : Ax O n (si a' 16 (ix 0) (zi d)) (fol (valp O B β0 n) acc (p * O ^ (n - 0)) (d * O ^ (n - 1))) := by
            have e18 : (si a' 16 (ix 0) (zi d)).1 999 18 = s.1 999 18 := by rw [si_o (by decide), g1 999 (by omega)]
            have e17 : (si a' 16 (ix 0) (zi d)).1 17 = s.1 17 := by rw [si_o (by decide), g1 17 (by omega)]
            revert hAs
            generalize fol (valp O B β0 n) acc (p * O ^ (n - 0)) (d * O ^ (n - 1)) = ac
            intro hAs
            rcases ac with _ | ⟨v, r⟩
            · exact e18.trans hAs
            · exact ⟨hAs.1, e18.trans hAs.2.1, fun j hj => by rw [e17]; exact hAs.2.2 j hj⟩
          have hT := xt_1 (a := si a' 16 (ix 0) (zi d)) (a0 := si a' 16 (ix 0) (zi d)) h1 hN hO hn (by omega) ht hR hB hL' (g4.of (fun q hq => o16 q hq 4000 (by omega))) (by rw [eok, hg]; rfl) hA'
          rw [ecn] at hT
          refine OO.bd hT (fun a2 ⟨⟨m1, m2, m3, m4⟩, mA⟩ => ?_)
          refine kk a2 ⟨⟨m1, m2, fun b hb hb2 => ?_, fun j hj => ?_⟩, ?_⟩
          · rw [m3 b hb (by omega), si_o (by omega), g1 b (by omega)]
            exact l3 b hb hb2
          · rw [m4 j (by omega), edg j hj]
          · rw [eacc]; exact mA
        have hno : ¬ (2 : Int32) * nI mm ≤ zi d := by
          rw [show (2 : Int32) = nI 2 from rfl, pk_mul]
          cases d with
          | zero => rw [i_le, nI_toInt (by omega)]; show ¬ ((2 * mm : Nat) : Int) ≤ (-1 : Int32).toInt; rw [show (-1 : Int32).toInt = -1 by decide]; omega
          | succ i => exact nI_ge (a := i) (by omega) (by omega)
        have stepK := fun (hg : bkd B d = false) => xs_step (K := fun σ_15 => if zi d = -1 then ((x_triesPushes_1 (si σ_15 16 (ix 0) (zi d)) rs (nI n) (nI (cnp O 0 p))).bind fun σ_21 => x_triesPushes_0_58 rs (nI n) (nI (cnp O 0 p)) (fun σ_43 => some σ_43) f σ_21 (zi (d + 1))) else ((x_triesPushes_1 (si σ_15 16 (ix 0) (zi d)) rs (nI n) (nI (cnp O 0 p) + 1)).bind fun σ_19 => x_triesPushes_0_58 rs (nI n) (nI (cnp O 0 p)) (fun σ_43 => some σ_43) f σ_19 (zi (d + 1)))) hO h10 hd (by decide : 0 ≤ 4) ht (by decide : 3000 ≤ 3000 ∧ 3000 ≤ 7000 ∧ 3000 ≤ 4000 ∧ 4000 ≤ 7000 ∧ (4000 + 1000 ≤ 3000 ∨ 3000 + 1000 ≤ 4000)) hLs.1 hR hDs (hLs.2.1 0 (by omega)) (hLs.2.1 1 (by omega)) (fun a' g1 g2 g3 g4 => by
          have q := deep hg a' g1 g2 g3 g4
          show OO (if zi d = -1 then _ else _) _
          cases d with
          | zero => exact OO.t rfl q
          | succ i => rw [if_neg (by omega), ← nI_1] at q; exact OO.e (nI_nm1 (by omega)) q)
        refine OO.e hno ?_
        cases d with
        | zero => exact OO.t rfl (stepK rfl)
        | succ i =>
          refine OO.e (nI_nm1 (by omega)) (OO.b (d_isBaked_eq _ _) ?_)
          have ebk : bk ((vw s 1000).1 999 7) (zi (i + 1) / 2) = bk B (nI (i / 2)) := by
            rw [show (vw s 1000).1 999 7 = B from eB s hLs.1, show zi (i + 1) = nI i from rfl, show (2 : Int32) = nI 2 from rfl, pk_div (by omega) (by decide) (by decide)]
          rw [ebk]
          rcases bk_c B (nI (i / 2)) with q | q
          · exact OO.t q (stepK (by show decide (bk B (nI (i / 2)) = 1) = false; rw [q]; rfl))
          · refine OO.e (by rw [q]; decide) (kk s ⟨hLs, ?_⟩)
            rw [eacc, fol_bad (k := 1) (by omega) (by omega) (by rw [eok]; show (!(decide (bk B (nI (i / 2)) = 1))) = false; rw [q]; rfl)]
            exact hAs
      · intro f s ⟨hLs, hAs⟩
        show OO (x_triesPushes_0_58 _ _ _ _ (f + 1) s (zi O)) _
        rw [x_triesPushes_0_58, eM s hLs.1]
        refine OO.g (hz s hLs.1) (OO.t ?_ (OO.ret ⟨hLs, ?_⟩))
        · rw [show (2 : Int32) = nI 2 from rfl, pk_mul, hO]
          exact nI_le (Nat.le_refl _) (by omega)
        · have epow : O ^ (n - 0) = O * O ^ (n - 1) := by rw [show n - 0 = (n - 1) + 1 by omega, Nat.pow_succ, Nat.mul_comm]
          rw [epow] at hAs ⊢
          exact hAs
  unfold x_triesPushes_0
  cases acc with
  | none =>
    have e : a.1 999 18 = -1 := hA
    exact OO.t e (body (fun v r h => by cases h))
  | some q =>
    obtain ⟨v, r⟩ := q
    obtain ⟨a1, a2, a3⟩ := hA
    refine OO.e (by rw [a2]; exact nI_nm1 (by omega)) ?_
    rw [a2]
    have hc := cnp_le O 0 p
    by_cases c : cnp O 0 p < v
    · exact OO.t (nI_lt c (by omega)) (body (fun v' r' h => by cases h; exact c))
    · refine OO.e (nI_nlt (by omega) (by omega)) (OO.ret ⟨hL, ?_⟩)
      rw [fol_cut (k := 0) hk (by omega) rfl (by omega)]
      exact ⟨a1, a2, a3⟩
end FR
