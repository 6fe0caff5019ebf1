/-! PURE LAW: dukes, the worth of a game; the class -/
set_option maxRecDepth 100000
theorem bs_add : ∀ j, j < 8 → ∀ S, S < 2 ^ j → bsum (nI (S + 2 ^ j)) 16 = bsum (nI S) 16 + 1 := by decide +kernel
theorem shl_or : ∀ j, j < 8 → ∀ S, S < 2 ^ j → nI S ||| ((1 : Int32) <<< (nI j &&& 31)) = nI (S + 2 ^ j) := by decide +kernel
theorem bs_le : ∀ S, S < 256 → (bsum (nI S) 16).toInt ≤ 8 ∧ 0 ≤ (bsum (nI S) 16).toInt := by decide +kernel
section WV
variable {σx σm σx' σm' : cS} {rs : List RS} {im : IM} {cz mm vv ww t u lg un un' O n : Nat} {δ σ δ' σ' z w a b c β β0 : cS} {R : Option RS} {B : Int32}
def wb (x : Int32) : Prop := -8 ≤ x.toInt ∧ x.toInt ≤ 8
theorem w_1 (a b : Int32) : a - b + 1 = a + 1 - b := by rw [Int32.sub_eq_add_neg, Int32.sub_eq_add_neg, Int32.add_assoc, Int32.add_comm (-b) 1, ← Int32.add_assoc]
theorem w_2 (a b : Int32) : a - b + -1 = a - (b + 1) := by
  apply Int32.toBitVec_inj.mp
  simp only [Int32.toBitVec_add, Int32.toBitVec_sub, Int32.toBitVec_neg]
  rw [BitVec.sub_eq_add_neg, BitVec.sub_eq_add_neg, BitVec.neg_add, BitVec.add_assoc]
  rw [BitVec.sub_eq_add_neg]
theorem jn_west (h : Rm cz mm vv ww t u δ σ) : ∃ r, wb r ∧ d_west δ = some r ∧ m_westLessEast σ = some r := by
  have h8 := h.v8
  -- the model's sets, side by side with the class's sum
  have key : JJ (d_west δ) ((m_villagesOn σ 0).bind fun x => (m_villagesOn σ 1).bind fun y => some (x, y)) (fun r q => ∃ S T, S < 256 ∧ T < 256 ∧ q = (nI S, nI T) ∧ r = bsum (nI S) 16 - bsum (nI T) 16) := by
    have one : ∀ s : Int32, ∃ S : Nat → Nat, (∀ j, j ≤ vv → S j < 2 ^ j) ∧ S 0 = 0 ∧ (∀ j, j < vv → ∀ x, m_sideOf σ (nI j) = some x → S (j + 1) = if x = s then S j + 2 ^ j else S j) ∧ m_villagesOn σ s = some (nI (S vv)) := by
      intro s
      let S : Nat → Nat := fun j => Nat.rec 0 (fun j q => if m_sideOf σ (nI j) = some s then q + 2 ^ j else q) j
      have s0 : S 0 = 0 := rfl
      have ss : ∀ j, S (j + 1) = if m_sideOf σ (nI j) = some s then S j + 2 ^ j else S j := fun j => rfl
      have sl : ∀ j, S j < 2 ^ j := by
        intro j
        induction j with
        | zero => rw [s0]; decide
        | succ j ih =>
          rw [ss, Nat.pow_succ]
          split <;> omega
      refine ⟨S, fun j _ => sl j, s0, fun j hj x hx => by rw [ss, hx]; exact ifc ⟨fun q => Option.some.inj q, fun q => by rw [q]⟩, ?_⟩
      have : OO (m_villagesOn σ s) (fun r => r = nI (S vv)) := by
        unfold m_villagesOn
        refine OO.loop (S := Int32) (L := fun n x i => m_villagesOn_4 σ s (fun v => some v) n x i) (I := fun j x => x = nI (S j)) (N := vv) ?_ ?_ vv 0 (by omega) FU (FU_gt (by omega)) 0 (by rw [s0]; rfl)
        · intro n j x hj hI kk
          subst hI
          show OO (m_villagesOn_4 σ _ _ (n + 1) _ (nI j)) _
          rw [m_villagesOn_4, nI_1]
          obtain ⟨y, -, e2⟩ := h.side hj
          refine OO.e (by rw [h.mv']; exact nI_ge hj (by omega)) (OO.b e2 (OO.ii (fun q => kk _ ?_) (fun q => kk _ ?_)))
          · rw [shl_or j (by omega) _ (sl j), ss, e2, q, if_pos rfl]
          · rw [Int32.or_zero, ss, e2, if_neg (fun z => q (Option.some.inj z))]
        · intro n x hI
          show OO (m_villagesOn_4 σ _ _ (n + 1) _ (nI vv)) _
          rw [m_villagesOn_4]
          exact OO.t (by rw [h.mv']; exact nI_le (Nat.le_refl _) (by omega)) (OO.ret hI)
      obtain ⟨r, hr, rfl⟩ := this
      exact hr
    obtain ⟨S, sl, s0, ss, es⟩ := one 0
    obtain ⟨T, tl, t0, ts, et⟩ := one 1
    have h256 : (2 : Nat) ^ vv ≤ 256 := Nat.le_trans (Nat.pow_le_pow_right (by decide) h8) (by decide)
    have hx : OO (d_west δ) (fun r => r = bsum (nI (S vv)) 16 - bsum (nI (T vv)) 16) := by
      unfold d_west
      refine OO.loop (S := Int32) (L := fun n x i => d_west_4 δ (fun v => some v) n x i) (I := fun j x => x = bsum (nI (S j)) 16 - bsum (nI (T j)) 16) (N := vv) ?_ ?_ vv 0 (by omega) FU (FU_gt (by omega)) 0 (by rw [s0, t0]; decide +kernel)
      · intro n j x hj hI kk
        subst hI
        show OO (d_west_4 δ _ (n + 1) _ (nI j)) _
        rw [d_west_4, nI_1]
        obtain ⟨y, e1, e2⟩ := h.side hj
        have sj := ss j hj y e2
        have tj := ts j hj y e2
        refine OO.e (by rw [h.dv]; exact nI_ge hj (by omega)) (OO.b e1 (OO.ii (fun q => kk _ ?_) (fun q => OO.b e1 (OO.ii (fun q2 => kk _ ?_) (fun q2 => kk _ ?_)))))
        · rw [sj, tj, if_pos q, if_neg (by rw [q]; decide), bs_add j (by omega) _ (sl j (by omega)), w_1]
        · rw [sj, tj, if_neg q, if_pos q2, bs_add j (by omega) _ (tl j (by omega)), w_2]
        · rw [sj, tj, if_neg q, if_neg q2, Int32.add_zero]
      · intro n x hI
        show OO (d_west_4 δ _ (n + 1) _ (nI vv)) _
        rw [d_west_4]
        exact OO.t (by rw [h.dv]; exact nI_le (Nat.le_refl _) (by omega)) (OO.ret hI)
    obtain ⟨r, hr, er⟩ := hx
    have l1 := sl vv (Nat.le_refl _)
    have l2 := tl vv (Nat.le_refl _)
    exact ⟨r, (nI (S vv), nI (T vv)), hr, by rw [es, et]; rfl, S vv, T vv, by omega, by omega, rfl, er⟩
  obtain ⟨r, q, e1, e2, S, T, hS, hT, rfl, er⟩ := key
  obtain ⟨x, hx, e2⟩ := bd_e e2
  obtain ⟨y, hy, e2⟩ := bd_e e2
  cases e2
  refine ⟨r, ?_, e1, ?_⟩
  · rw [er]
    have b1 := bs_le S hS
    have b2 := bs_le T hT
    unfold wb
    rw [b_sub (by omega) (by omega)]
    omega
  · unfold m_westLessEast
    rw [hx, hy]
    show ((m_bits (nI S)).bind fun r_4 => (m_bits (nI T)).bind fun r_8 => some (r_4 - r_8)) = some r
    rw [m_bits_eq, m_bits_eq, er]
    rfl
/-! the worth -/
def cdk (k : Nat) : Nat → Option (Nat × Int32)
  | 0 => none
  | i + 1 => some (i, if k % 2 = 0 then 1 else -1)
def bkm (B : Int32) : Nat → Bool
  | 0 => false
  | i + 1 => decide (bk B (nI i) = 1)
def betW (k : Nat) (w b : Int32) : Bool := if k % 2 = 0 then decide (b < w) else decide (w < b)
def updW (k : Nat) (acc : Option (Int32 × Nat)) (v : Option Int32) (d : Nat) : Option (Int32 × Nat) := match v with
  | none => acc
  | some w => match acc with
    | none => some (w, d)
    | some (b, f) => if betW k w b = true then some (w, d) else some (b, f)
def gacc (k : Nat) (val : Nat → Option Int32) : Nat → Option (Int32 × Nat)
  | 0 => none
  | d + 1 => updW k (gacc k val d) (val d) d
noncomputable def wwv (β : cS) : Int32 := (m_westLessEast β).getD 0
noncomputable def wV (mm : Nat) (B : Int32) : Nat → Nat → cS → Int32
  | 0, _, β => wwv β
  | r + 1, k, β => match gacc k (fun d => if bkm B d = true then none else (stp β (cdk k d)).bind fun β' => some (wV mm B r (k + 1) β')) (mm + 1) with
    | some (w, _) => w
    | none => 0
noncomputable def wvl (mm : Nat) (B : Int32) (r k : Nat) (β : cS) (d : Nat) : Option Int32 := if bkm B d = true then none else (stp β (cdk k d)).bind fun β' => some (wV mm B r (k + 1) β')
theorem wV_s (r k : Nat) (β : cS) : wV mm B (r + 1) k β = (match gacc k (wvl mm B r k β) (mm + 1) with | some (w, _) => w | none => 0) := rfl
theorem cdk_lt {k d : Nat} (hd : d < mm + 1) : ∀ m v, cdk k d = some (m, v) → m < mm := by
  intro m v h
  cases d with
  | zero => cases h
  | succ i =>
    have : some (i, (if k % 2 = 0 then (1 : Int32) else -1)) = some (m, v) := h
    simp only [Option.some.injEq, Prod.mk.injEq] at this
    omega
def Lw (n k : Nat) (σx a0 a : cS) : Prop := Qd σx a ∧ (∀ j, j ≤ n → CC (vw σx 1000) (vw a (3000 + 1000 * j))) ∧ ∀ b, 3000 ≤ b → b < 4000 + 1000 * k → a.1 b = a0.1 b
/-- the next night's copy for a duke -/
theorem xd_step {c c' k d : Nat} {f : Int32} (hd : d < mm + 1) (h10 : mm ≤ 10) (hk : k ≤ 4) (ht : t ≤ 999) (hf : f = if k % 2 = 0 then 1 else -1) (hc : 3000 ≤ c ∧ c ≤ 7000 ∧ 3000 ≤ c' ∧ c' ≤ 7000 ∧ (c' + 1000 ≤ c ∨ c + 1000 ≤ c')) (hQ : Qd σx a) (hR : x_law σx rs = some R) (lβ : LawR R β) (rβ : Rm 0 mm vv ww (t + k) (t + k) (vw a c) β) (hC : CC (vw σx 1000) (vw a c)) (hC' : CC (vw σx 1000) (vw a c')) {ρ : Type} {P : ρ → Prop} {K : cS → Option ρ} (hK : ∀ a' β', Ch c' a a' → Qd σx a' → CC (vw σx 1000) (vw a' c') → stp β (cdk k d) = some β' → LawR R β' → Rm 0 mm vv ww (t + (k + 1)) (t + (k + 1)) (vw a' c') β' → OO (K a') P) :
    OO ((d_standsAs (vw2 a c' c)).bind fun s7 => ((if zi d = -1 then some (pb2 a c' c s7) else ((d_pushes (vw (pb2 a c' c s7) c') (zi d) f).bind fun s => some (pb (pb2 a c' c s7) c' s)) : Option cS)).bind fun s8 => (x_law s8 rs).bind fun R_11 => (d_goes (vw s8 c') R_11).bind fun x => K (pb s8 c' x.1)) P := by
  refine OO.bd (ox_standsAs a (by omega)) (fun s7 ⟨z1, z2⟩ => ?_)
  have r7 : Rm 0 mm vv ww (t + k) (t + k) (vw (pb2 a c' c s7) c') β := rβ.sta (CC.sw hC hC') z2
  have c7 : CC (vw σx 1000) (vw (pb2 a c' c s7) c') := hC'.sta z2
  have q7 : Qd σx (pb2 a c' c s7) := hQ.ch (by omega) z1
  have goes : ∀ (s8 β1 : cS), Ch c' a s8 → Qd σx s8 → CC (vw σx 1000) (vw s8 c') → LawR R β1 → Rm 0 mm vv ww (t + k) (t + k) (vw s8 c') β1 → (∀ β', ((m_goesNight β1).bind fun p => some p.1) = some β' → stp β (cdk k d) = some β') → OO ((x_law s8 rs).bind fun R_11 => (d_goes (vw s8 c') R_11).bind fun x => K (pb s8 c' x.1)) P := by
    intro s8 β1 h1 h2 h3 h4 h5 h6
    refine OO.b (h2.law hR) (OO.bd (xs_goes h5 h4 (by omega) h3) (fun x ⟨β', e1, e2, e3, e4⟩ => ?_))
    exact hK _ β' (h1.tr Ch.pb) (h2.ch (by omega) Ch.pb) e4 (h6 β' e1) e2 e3
  cases d with
  | zero =>
    refine OO.b (if_pos rfl) ?_
    exact goes _ β z1 q7 c7 lβ r7 (fun β' h => h)
  | succ i =>
    rw [show zi (i + 1) = nI i from rfl]
    obtain ⟨z, e1, β1, e2, e3, e4, e5⟩ := xs_push (v := f) r7 lβ (by omega : i < mm) c7
    refine OO.b (a := pb (pb2 a c' c s7) c' z) ?_ (goes _ β1 (z1.tr Ch.pb) (q7.ch (by omega) Ch.pb) e5 e3 e4 (fun β' h => ?_))
    · rw [if_neg (nI_nm1 (by omega)), e1]; rfl
    · show (m_pushes β (nI i) (if k % 2 = 0 then 1 else -1)).bind _ = _
      rw [← hf, e2]; exact h
theorem xw_leaf {c : Nat} (r : Rm 0 mm vv ww t u (vw a c) β) : d_west (vw a c) = some (wwv β) := by
  obtain ⟨w, -, e1, e2⟩ := jn_west r
  unfold wwv
  rw [e2, e1]; rfl
/-- the best so far, as the class has it -/
def Ab (top : Bool) (a : cS) (best : Int32) (acc : Option (Int32 × Nat)) : Prop := match acc with
  | none => True
  | some (w, f) => best = w ∧ (top = true → a.1 999 19 = zi f)
theorem gacc_0 {k : Nat} {val : Nat → Option Int32} {v : Int32} (h : val 0 = some v) : gacc k val 1 = some (v, 0) := by
  show updW k none (val 0) 0 = _
  rw [h]; rfl
theorem gacc_s {k : Nat} {val : Nat → Option Int32} {v b : Int32} {f d : Nat} (h : val d = some v) (hg : gacc k val d = some (b, f)) : gacc k val (d + 1) = if betW k v b = true then some (v, d) else some (b, f) := by
  show updW k (gacc k val d) (val d) d = _
  rw [h, hg]; rfl
theorem gacc_n {k : Nat} {val : Nat → Option Int32} {d : Nat} (h : val d = none) : gacc k val (d + 1) = gacc k val d := by
  show updW k (gacc k val d) (val d) d = _
  rw [h]; rfl
theorem gacc_some {k : Nat} {val : Nat → Option Int32} {v : Int32} (h : val 0 = some v) : ∀ d, 0 < d → ∃ b f, gacc k val d = some (b, f) := by
  intro d
  induction d with
  | zero => intro q; exact absurd q (by omega)
  | succ d ih =>
    intro _
    by_cases e : d = 0
    · subst e
      exact ⟨v, 0, gacc_0 h⟩
    · obtain ⟨b, f, hb⟩ := ih (by omega)
      cases hv : val d with
      | none => exact ⟨b, f, by rw [gacc_n hv]; exact hb⟩
      | some w =>
        rw [gacc_s hv hb]
        by_cases c : betW k w b = true
        · rw [if_pos c]; exact ⟨w, d, rfl⟩
        · rw [if_neg c]; exact ⟨b, f, rfl⟩
theorem xw_4 {a0 : cS} (hn : n ≤ 4) (hk : 4 ≤ n) (hL : Lw n 4 σx a0 a) (rβ : Rm 0 mm vv ww (t + 4) (t + 4) (vw a 7000) β) :
    OO (x_worthFrom_4 a rs (nI n)) (fun p => Lw n 4 σx a0 p.1 ∧ p.2 = wV mm B (n - 4) 4 β ∧ p.1.1 999 19 = a.1 999 19) := by
  have hkn : n = 4 := by omega
  subst hkn
  unfold x_worthFrom_4
  exact OO.t rfl (OO.b (xw_leaf rβ) (OO.ret ⟨hL, rfl, rfl⟩))
theorem xw_3 {a0 : cS} (h1 : σx.1 999 0 = 1) (hN : Rn mm vv ww t t (vw σx 1000) σm) (hn : n ≤ 4) (hk : 3 ≤ n) (ht : t ≤ 999) (hR : x_law σx rs = some R) (hB : B = σm.1 1 4) (hL : Lw n 3 σx a0 a) (lβ : LawR R β) (rβ : Rm 0 mm vv ww (t + 3) (t + 3) (vw a 6000) β) :
    OO (x_worthFrom_3 a rs (nI n)) (fun p => Lw n 3 σx a0 p.1 ∧ p.2 = wV mm B (n - 3) 3 β ∧ p.1.1 999 19 = a.1 999 19) := by
  have h10 := hN.m10
  have hz : ∀ a, Qd σx a → nz (a.1 999 0) = true := fun a ha => by rw [ha.2 0 (by decide) (by decide), h1]; rfl
  have eM : ∀ a, Qd σx a → a.1 1999 0 = nI mm := fun a ha => (congrFun (ha.1 1999 (by omega) (by decide) (by decide) (by decide)) 0).trans hN.dm
  have eB : ∀ a, Qd σx a → a.1 1999 7 = B := fun a ha => ((congrFun (ha.1 1999 (by omega) (by decide) (by decide) (by decide)) 7).trans hN.bd).trans hB.symm
  unfold x_worthFrom_3
  by_cases hkn : n = 3
  · subst hkn
    exact OO.t rfl (OO.b (xw_leaf rβ) (OO.ret ⟨hL, rfl, rfl⟩))
  refine OO.e (fun q => hkn ((nI_eq (a := 3) (b := n) (by decide) (by omega)).mp q).symm) (OO.b rfl ?_)
  obtain ⟨r, hr⟩ : ∃ r, n - 3 = r + 1 := ⟨n - 3 - 1, by omega⟩
  have hr1 : n - 4 = r := by omega
  rw [hr]
  have v0 : ∃ β', stp β (cdk 3 0) = some β' := by
    obtain ⟨δ', b', β', e1, -⟩ := stp_two (cdk_lt (k := 3) (mm := mm) (by omega : 0 < mm + 1)) rβ rβ lβ lβ (by omega)
    exact ⟨b', e1⟩
  have val0 : ∃ v, wvl mm B r 3 β 0 = some v := by
    obtain ⟨β', e⟩ := v0
    exact ⟨wV mm B r (3 + 1) β', by show (if bkm B 0 = true then none else (stp β (cdk 3 0)).bind fun β' => some (wV mm B r (3 + 1) β')) = _; rw [if_neg (show ¬ bkm B 0 = true from fun q => absurd (show false = true from q) (by decide)), e]; rfl⟩
  refine OO.zloop (S := cS × Int32) (L := fun f s i => x_worthFrom_3_33 rs (nI n) (fun σ_51 v_52 => some (σ_51, v_52)) f s.1 s.2 i) (I := fun d s => Lw n 3 σx a0 s.1 ∧ s.1.1 999 19 = a.1 999 19 ∧ Ab false s.1 s.2 (gacc 3 (wvl mm B r 3 β) d)) (N := mm + 1) ?_ ?_ (mm + 1) 0 (by omega) FU (FU_gt (by omega)) (a, 0) ⟨hL, rfl, trivial⟩
  · rintro f d ⟨s, best⟩ hd ⟨hLs, hFs, hAs⟩ kk
    dsimp only at hLs hFs hAs
    show OO (x_worthFrom_3_33 _ _ _ (f + 1) s best (zi d)) _
    rw [x_worthFrom_3_33, eM s hLs.1, zi_n1]
    refine OO.g (hz s hLs.1) ?_
    have rs_ : Rm 0 mm vv ww (t + 3) (t + 3) (vw s 6000) β := rβ.ex (eqD.of (fun j hj => (hLs.2.2 (6000 + j) (by omega) (by omega)).trans (hL.2.2 (6000 + j) (by omega) (by omega)).symm))
    have hno : ¬ nI mm ≤ zi d := by
      cases d with
      | zero => rw [i_le, nI_toInt (by omega)]; show ¬ (mm : Int) ≤ (-1 : Int32).toInt; rw [show (-1 : Int32).toInt = -1 by decide]; omega
      | succ i => exact nI_ge (a := i) (by omega) (by omega)
    have stepK := fun (hg : bkm B d = false) => xd_step (K := fun σ_15 => (x_worthFrom_4 σ_15 rs (nI n)).bind fun (σ_17, r_16) => if zi d = -1 then (x_worthFrom_3_33 rs (nI n) (fun σ_51 v_52 => some (σ_51, v_52)) f σ_17 r_16 (zi (d + 1))) else (if r_16 < best then (x_worthFrom_3_33 rs (nI n) (fun σ_51 v_52 => some (σ_51, v_52)) f σ_17 r_16 (zi (d + 1))) else (x_worthFrom_3_33 rs (nI n) (fun σ_51 v_52 => some (σ_51, v_52)) f σ_17 best (zi (d + 1))))) hd h10 (by decide : 3 ≤ 4) ht (show (-1 : Int32) = if 3 % 2 = 0 then 1 else -1 from rfl) (by decide : 3000 ≤ 6000 ∧ 6000 ≤ 7000 ∧ 3000 ≤ 7000 ∧ 7000 ≤ 7000 ∧ (7000 + 1000 ≤ 6000 ∨ 6000 + 1000 ≤ 7000)) hLs.1 hR lβ rs_ (hLs.2.1 3 (by omega)) (hLs.2.1 4 (by omega)) (fun a' β' g1 g2 g3 g4 g5 g6 => by
      have hL' : Lw n 4 σx a' a' := by
        refine ⟨g2, fun j hj => ?_, fun _ _ _ => rfl⟩
        by_cases e : j = 4
        · subst e; exact g3
        · exact (hLs.2.1 j hj).of (fun q hq => g1 (3000 + 1000 * j + q) (by omega))
      have hv : wvl mm B r 3 β d = some (wV mm B r 4 β') := by
        unfold wvl
        rw [if_neg (by rw [hg]; decide), g4]; rfl
      refine OO.bd (xw_4 (B := B) hn (by omega) hL' g6) ?_
      rintro ⟨s2, w⟩ ⟨m1, m2, m3⟩
      dsimp only at m1 m2 m3
      rw [hr1] at m2
      rw [← m2] at hv
      have hL2 : ∀ s3, (∀ b, 3000 ≤ b → s3.1 b = s2.1 b) → Qd σx s3 → Lw n 3 σx a0 s3 := fun s3 h3 hq => ⟨hq, fun j hj => (m1.2.1 j hj).of (fun q hq => h3 (3000 + 1000 * j + q) (by omega)), fun b hb hb2 => by rw [h3 b hb, m1.2.2 b hb (by omega), g1 b (by omega)]; exact hLs.2.2 b hb hb2⟩
      cases d with
      | zero =>
        refine OO.t rfl (kk (s2, w) ⟨hL2 _ (fun _ _ => rfl) m1.1, (m3.trans ((congrFun (g1 999 (by omega)) 19).trans hFs)), ?_⟩)
        rw [gacc_0 hv]
        exact ⟨rfl, fun q => absurd q (by decide)⟩
      | succ i =>
        obtain ⟨b, fi, hb⟩ := gacc_some (k := 3) (val := wvl mm B r 3 β) val0.choose_spec (i + 1) (by omega)
        rw [hb] at hAs
        obtain ⟨rfl, hA2⟩ := hAs
        refine OO.e (nI_nm1 (by omega)) ?_
        by_cases q : w < best
        · refine OO.t q (kk (s2, w) ⟨hL2 _ (fun _ _ => rfl) m1.1, (m3.trans ((congrFun (g1 999 (by omega)) 19).trans hFs)), ?_⟩)
          rw [gacc_s hv hb, if_pos (show betW 3 w best = true from decide_eq_true q)]
          exact ⟨rfl, fun q => absurd q (by decide)⟩
        · refine OO.e q (kk (s2, best) ⟨hL2 _ (fun _ _ => rfl) m1.1, (m3.trans ((congrFun (g1 999 (by omega)) 19).trans hFs)), ?_⟩)
          rw [gacc_s hv hb, if_neg (show ¬ betW 3 w best = true from fun z => q (of_decide_eq_true z))]
          exact ⟨rfl, fun q => absurd q (by decide)⟩)
    refine OO.e hno ?_
    cases d with
    | zero => exact OO.t rfl (stepK rfl)
    | succ i =>
      refine OO.e (nI_nm1 (by omega)) (OO.b (d_isBaked_eq _ _) ?_)
      have ebk : bk ((vw s 1000).1 999 7) (zi (i + 1)) = bk B (nI i) := by
        rw [show (vw s 1000).1 999 7 = B from eB s hLs.1]; rfl
      rw [ebk]
      rcases bk_c B (nI i) with q | q
      · exact OO.t q (stepK (by show decide (bk B (nI i) = 1) = false; rw [q]; rfl))
      · refine OO.e (by rw [q]; decide) (kk (s, best) ⟨hLs, hFs, ?_⟩)
        have hv : wvl mm B r 3 β (i + 1) = none := by
          unfold wvl
          rw [if_pos (show bkm B (i + 1) = true from (show decide (bk B (nI i) = 1) = true by rw [q]; rfl))]
        rw [gacc_n hv]
        exact hAs
  · rintro f ⟨s, best⟩ ⟨hLs, hFs, hAs⟩
    dsimp only at hLs hFs hAs
    show OO (x_worthFrom_3_33 _ _ _ (f + 1) s best (zi (mm + 1))) _
    rw [x_worthFrom_3_33, eM s hLs.1]
    refine OO.g (hz s hLs.1) (OO.t (nI_le (Nat.le_refl _) (by omega)) (OO.ret ⟨hLs, ?_⟩))
    obtain ⟨b, fi, hb⟩ := gacc_some (k := 3) (val := wvl mm B r 3 β) val0.choose_spec (mm + 1) (by omega)
    rw [hb] at hAs
    rw [wV_s, hb]
    exact ⟨hAs.1, hFs⟩
theorem xw_2 {a0 : cS} (h1 : σx.1 999 0 = 1) (hN : Rn mm vv ww t t (vw σx 1000) σm) (hn : n ≤ 4) (hk : 2 ≤ n) (ht : t ≤ 999) (hR : x_law σx rs = some R) (hB : B = σm.1 1 4) (hL : Lw n 2 σx a0 a) (lβ : LawR R β) (rβ : Rm 0 mm vv ww (t + 2) (t + 2) (vw a 5000) β) :
    OO (x_worthFrom_2 a rs (nI n)) (fun p => Lw n 2 σx a0 p.1 ∧ p.2 = wV mm B (n - 2) 2 β ∧ p.1.1 999 19 = a.1 999 19) := by
  have h10 := hN.m10
  have hz : ∀ a, Qd σx a → nz (a.1 999 0) = true := fun a ha => by rw [ha.2 0 (by decide) (by decide), h1]; rfl
  have eM : ∀ a, Qd σx a → a.1 1999 0 = nI mm := fun a ha => (congrFun (ha.1 1999 (by omega) (by decide) (by decide) (by decide)) 0).trans hN.dm
  have eB : ∀ a, Qd σx a → a.1 1999 7 = B := fun a ha => ((congrFun (ha.1 1999 (by omega) (by decide) (by decide) (by decide)) 7).trans hN.bd).trans hB.symm
  unfold x_worthFrom_2
  by_cases hkn : n = 2
  · subst hkn
    exact OO.t rfl (OO.b (xw_leaf rβ) (OO.ret ⟨hL, rfl, rfl⟩))
  refine OO.e (fun q => hkn ((nI_eq (a := 2) (b := n) (by decide) (by omega)).mp q).symm) (OO.b rfl ?_)
  obtain ⟨r, hr⟩ : ∃ r, n - 2 = r + 1 := ⟨n - 2 - 1, by omega⟩
  have hr1 : n - 3 = r := by omega
  rw [hr]
  have v0 : ∃ β', stp β (cdk 2 0) = some β' := by
    obtain ⟨δ', b', β', e1, -⟩ := stp_two (cdk_lt (k := 2) (mm := mm) (by omega : 0 < mm + 1)) rβ rβ lβ lβ (by omega)
    exact ⟨b', e1⟩
  have val0 : ∃ v, wvl mm B r 2 β 0 = some v := by
    obtain ⟨β', e⟩ := v0
    exact ⟨wV mm B r (2 + 1) β', by show (if bkm B 0 = true then none else (stp β (cdk 2 0)).bind fun β' => some (wV mm B r (2 + 1) β')) = _; rw [if_neg (show ¬ bkm B 0 = true from fun q => absurd (show false = true from q) (by decide)), e]; rfl⟩
  refine OO.zloop (S := cS × Int32) (L := fun f s i => x_worthFrom_2_33 rs (nI n) (fun σ_51 v_52 => some (σ_51, v_52)) f s.1 s.2 i) (I := fun d s => Lw n 2 σx a0 s.1 ∧ s.1.1 999 19 = a.1 999 19 ∧ Ab false s.1 s.2 (gacc 2 (wvl mm B r 2 β) d)) (N := mm + 1) ?_ ?_ (mm + 1) 0 (by omega) FU (FU_gt (by omega)) (a, 0) ⟨hL, rfl, trivial⟩
  · rintro f d ⟨s, best⟩ hd ⟨hLs, hFs, hAs⟩ kk
    dsimp only at hLs hFs hAs
    show OO (x_worthFrom_2_33 _ _ _ (f + 1) s best (zi d)) _
    rw [x_worthFrom_2_33, eM s hLs.1, zi_n1]
    refine OO.g (hz s hLs.1) ?_
    have rs_ : Rm 0 mm vv ww (t + 2) (t + 2) (vw s 5000) β := rβ.ex (eqD.of (fun j hj => (hLs.2.2 (5000 + j) (by omega) (by omega)).trans (hL.2.2 (5000 + j) (by omega) (by omega)).symm))
    have hno : ¬ nI mm ≤ zi d := by
      cases d with
      | zero => rw [i_le, nI_toInt (by omega)]; show ¬ (mm : Int) ≤ (-1 : Int32).toInt; rw [show (-1 : Int32).toInt = -1 by decide]; omega
      | succ i => exact nI_ge (a := i) (by omega) (by omega)
    have stepK := fun (hg : bkm B d = false) => xd_step (K := fun σ_15 => (x_worthFrom_3 σ_15 rs (nI n)).bind fun (σ_17, r_16) => if zi d = -1 then (x_worthFrom_2_33 rs (nI n) (fun σ_51 v_52 => some (σ_51, v_52)) f σ_17 r_16 (zi (d + 1))) else (if best < r_16 then (x_worthFrom_2_33 rs (nI n) (fun σ_51 v_52 => some (σ_51, v_52)) f σ_17 r_16 (zi (d + 1))) else (x_worthFrom_2_33 rs (nI n) (fun σ_51 v_52 => some (σ_51, v_52)) f σ_17 best (zi (d + 1))))) hd h10 (by decide : 2 ≤ 4) ht (show (1 : Int32) = if 2 % 2 = 0 then 1 else -1 from rfl) (by decide : 3000 ≤ 5000 ∧ 5000 ≤ 7000 ∧ 3000 ≤ 6000 ∧ 6000 ≤ 7000 ∧ (6000 + 1000 ≤ 5000 ∨ 5000 + 1000 ≤ 6000)) hLs.1 hR lβ rs_ (hLs.2.1 2 (by omega)) (hLs.2.1 3 (by omega)) (fun a' β' g1 g2 g3 g4 g5 g6 => by
      have hL' : Lw n 3 σx a' a' := by
        refine ⟨g2, fun j hj => ?_, fun _ _ _ => rfl⟩
        by_cases e : j = 3
        · subst e; exact g3
        · exact (hLs.2.1 j hj).of (fun q hq => g1 (3000 + 1000 * j + q) (by omega))
      have hv : wvl mm B r 2 β d = some (wV mm B r 3 β') := by
        unfold wvl
        rw [if_neg (by rw [hg]; decide), g4]; rfl
      refine OO.bd (xw_3 h1 hN hn (by omega) ht hR hB hL' g5 g6) ?_
      rintro ⟨s2, w⟩ ⟨m1, m2, m3⟩
      dsimp only at m1 m2 m3
      rw [hr1] at m2
      rw [← m2] at hv
      have hL2 : ∀ s3, (∀ b, 3000 ≤ b → s3.1 b = s2.1 b) → Qd σx s3 → Lw n 2 σx a0 s3 := fun s3 h3 hq => ⟨hq, fun j hj => (m1.2.1 j hj).of (fun q hq => h3 (3000 + 1000 * j + q) (by omega)), fun b hb hb2 => by rw [h3 b hb, m1.2.2 b hb (by omega), g1 b (by omega)]; exact hLs.2.2 b hb hb2⟩
      cases d with
      | zero =>
        refine OO.t rfl (kk (s2, w) ⟨hL2 _ (fun _ _ => rfl) m1.1, (m3.trans ((congrFun (g1 999 (by omega)) 19).trans hFs)), ?_⟩)
        rw [gacc_0 hv]
        exact ⟨rfl, fun q => absurd q (by decide)⟩
      | succ i =>
        obtain ⟨b, fi, hb⟩ := gacc_some (k := 2) (val := wvl mm B r 2 β) val0.choose_spec (i + 1) (by omega)
        rw [hb] at hAs
        obtain ⟨rfl, hA2⟩ := hAs
        refine OO.e (nI_nm1 (by omega)) ?_
        by_cases q : best < w
        · refine OO.t q (kk (s2, w) ⟨hL2 _ (fun _ _ => rfl) m1.1, (m3.trans ((congrFun (g1 999 (by omega)) 19).trans hFs)), ?_⟩)
          rw [gacc_s hv hb, if_pos (show betW 2 w best = true from decide_eq_true q)]
          exact ⟨rfl, fun q => absurd q (by decide)⟩
        · refine OO.e q (kk (s2, best) ⟨hL2 _ (fun _ _ => rfl) m1.1, (m3.trans ((congrFun (g1 999 (by omega)) 19).trans hFs)), ?_⟩)
          rw [gacc_s hv hb, if_neg (show ¬ betW 2 w best = true from fun z => q (of_decide_eq_true z))]
          exact ⟨rfl, fun q => absurd q (by decide)⟩)
    refine OO.e hno ?_
    cases d with
    | zero => exact OO.t rfl (stepK rfl)
    | succ i =>
      refine OO.e (nI_nm1 (by omega)) (OO.b (d_isBaked_eq _ _) ?_)
      have ebk : bk ((vw s 1000).1 999 7) (zi (i + 1)) = bk B (nI i) := by
        rw [show (vw s 1000).1 999 7 = B from eB s hLs.1]; rfl
      rw [ebk]
      rcases bk_c B (nI i) with q | q
      · exact OO.t q (stepK (by show decide (bk B (nI i) = 1) = false; rw [q]; rfl))
      · refine OO.e (by rw [q]; decide) (kk (s, best) ⟨hLs, hFs, ?_⟩)
        have hv : wvl mm B r 2 β (i + 1) = none := by
          unfold wvl
          rw [if_pos (show bkm B (i + 1) = true from (show decide (bk B (nI i) = 1) = true by rw [q]; rfl))]
        rw [gacc_n hv]
        exact hAs
  · rintro f ⟨s, best⟩ ⟨hLs, hFs, hAs⟩
    dsimp only at hLs hFs hAs
    show OO (x_worthFrom_2_33 _ _ _ (f + 1) s best (zi (mm + 1))) _
    rw [x_worthFrom_2_33, eM s hLs.1]
    refine OO.g (hz s hLs.1) (OO.t (nI_le (Nat.le_refl _) (by omega)) (OO.ret ⟨hLs, ?_⟩))
    obtain ⟨b, fi, hb⟩ := gacc_some (k := 2) (val := wvl mm B r 2 β) val0.choose_spec (mm + 1) (by omega)
    rw [hb] at hAs
    rw [wV_s, hb]
    exact ⟨hAs.1, hFs⟩
theorem xw_1 {a0 : cS} (h1 : σx.1 999 0 = 1) (hN : Rn mm vv ww t t (vw σx 1000) σm) (hn : n ≤ 4) (hk : 1 ≤ n) (ht : t ≤ 999) (hR : x_law σx rs = some R) (hB : B = σm.1 1 4) (hL : Lw n 1 σx a0 a) (lβ : LawR R β) (rβ : Rm 0 mm vv ww (t + 1) (t + 1) (vw a 4000) β) :
    OO (x_worthFrom_1 a rs (nI n)) (fun p => Lw n 1 σx a0 p.1 ∧ p.2 = wV mm B (n - 1) 1 β ∧ p.1.1 999 19 = a.1 999 19) := by
  have h10 := hN.m10
  have hz : ∀ a, Qd σx a → nz (a.1 999 0) = true := fun a ha => by rw [ha.2 0 (by decide) (by decide), h1]; rfl
  have eM : ∀ a, Qd σx a → a.1 1999 0 = nI mm := fun a ha => (congrFun (ha.1 1999 (by omega) (by decide) (by decide) (by decide)) 0).trans hN.dm
  have eB : ∀ a, Qd σx a → a.1 1999 7 = B := fun a ha => ((congrFun (ha.1 1999 (by omega) (by decide) (by decide) (by decide)) 7).trans hN.bd).trans hB.symm
  unfold x_worthFrom_1
  by_cases hkn : n = 1
  · subst hkn
    exact OO.t rfl (OO.b (xw_leaf rβ) (OO.ret ⟨hL, rfl, rfl⟩))
  refine OO.e (fun q => hkn ((nI_eq (a := 1) (b := n) (by decide) (by omega)).mp q).symm) (OO.b rfl ?_)
  obtain ⟨r, hr⟩ : ∃ r, n - 1 = r + 1 := ⟨n - 1 - 1, by omega⟩
  have hr1 : n - 2 = r := by omega
  rw [hr]
  have v0 : ∃ β', stp β (cdk 1 0) = some β' := by
    obtain ⟨δ', b', β', e1, -⟩ := stp_two (cdk_lt (k := 1) (mm := mm) (by omega : 0 < mm + 1)) rβ rβ lβ lβ (by omega)
    exact ⟨b', e1⟩
  have val0 : ∃ v, wvl mm B r 1 β 0 = some v := by
    obtain ⟨β', e⟩ := v0
    exact ⟨wV mm B r (1 + 1) β', by show (if bkm B 0 = true then none else (stp β (cdk 1 0)).bind fun β' => some (wV mm B r (1 + 1) β')) = _; rw [if_neg (show ¬ bkm B 0 = true from fun q => absurd (show false = true from q) (by decide)), e]; rfl⟩
  refine OO.zloop (S := cS × Int32) (L := fun f s i => x_worthFrom_1_33 rs (nI n) (fun σ_51 v_52 => some (σ_51, v_52)) f s.1 s.2 i) (I := fun d s => Lw n 1 σx a0 s.1 ∧ s.1.1 999 19 = a.1 999 19 ∧ Ab false s.1 s.2 (gacc 1 (wvl mm B r 1 β) d)) (N := mm + 1) ?_ ?_ (mm + 1) 0 (by omega) FU (FU_gt (by omega)) (a, 0) ⟨hL, rfl, trivial⟩
  · rintro f d ⟨s, best⟩ hd ⟨hLs, hFs, hAs⟩ kk
    dsimp only at hLs hFs hAs
    show OO (x_worthFrom_1_33 _ _ _ (f + 1) s best (zi d)) _
    rw [x_worthFrom_1_33, eM s hLs.1, zi_n1]
    refine OO.g (hz s hLs.1) ?_
    have rs_ : Rm 0 mm vv ww (t + 1) (t + 1) (vw s 4000) β := rβ.ex (eqD.of (fun j hj => (hLs.2.2 (4000 + j) (by omega) (by omega)).trans (hL.2.2 (4000 + j) (by omega) (by omega)).symm))
    have hno : ¬ nI mm ≤ zi d := by
      cases d with
      | zero => rw [i_le, nI_toInt (by omega)]; show ¬ (mm : Int) ≤ (-1 : Int32).toInt; rw [show (-1 : Int32).toInt = -1 by decide]; omega
      | succ i => exact nI_ge (a := i) (by omega) (by omega)
    have stepK := fun (hg : bkm B d = false) => xd_step (K := fun σ_15 => (x_worthFrom_2 σ_15 rs (nI n)).bind fun (σ_17, r_16) => if zi d = -1 then (x_worthFrom_1_33 rs (nI n) (fun σ_51 v_52 => some (σ_51, v_52)) f σ_17 r_16 (zi (d + 1))) else (if r_16 < best then (x_worthFrom_1_33 rs (nI n) (fun σ_51 v_52 => some (σ_51, v_52)) f σ_17 r_16 (zi (d + 1))) else (x_worthFrom_1_33 rs (nI n) (fun σ_51 v_52 => some (σ_51, v_52)) f σ_17 best (zi (d + 1))))) hd h10 (by decide : 1 ≤ 4) ht (show (-1 : Int32) = if 1 % 2 = 0 then 1 else -1 from rfl) (by decide : 3000 ≤ 4000 ∧ 4000 ≤ 7000 ∧ 3000 ≤ 5000 ∧ 5000 ≤ 7000 ∧ (5000 + 1000 ≤ 4000 ∨ 4000 + 1000 ≤ 5000)) hLs.1 hR lβ rs_ (hLs.2.1 1 (by omega)) (hLs.2.1 2 (by omega)) (fun a' β' g1 g2 g3 g4 g5 g6 => by
      have hL' : Lw n 2 σx a' a' := by
        refine ⟨g2, fun j hj => ?_, fun _ _ _ => rfl⟩
        by_cases e : j = 2
        · subst e; exact g3
        · exact (hLs.2.1 j hj).of (fun q hq => g1 (3000 + 1000 * j + q) (by omega))
      have hv : wvl mm B r 1 β d = some (wV mm B r 2 β') := by
        unfold wvl
        rw [if_neg (by rw [hg]; decide), g4]; rfl
      refine OO.bd (xw_2 h1 hN hn (by omega) ht hR hB hL' g5 g6) ?_
      rintro ⟨s2, w⟩ ⟨m1, m2, m3⟩
      dsimp only at m1 m2 m3
      rw [hr1] at m2
      rw [← m2] at hv
      have hL2 : ∀ s3, (∀ b, 3000 ≤ b → s3.1 b = s2.1 b) → Qd σx s3 → Lw n 1 σx a0 s3 := fun s3 h3 hq => ⟨hq, fun j hj => (m1.2.1 j hj).of (fun q hq => h3 (3000 + 1000 * j + q) (by omega)), fun b hb hb2 => by rw [h3 b hb, m1.2.2 b hb (by omega), g1 b (by omega)]; exact hLs.2.2 b hb hb2⟩
      cases d with
      | zero =>
        refine OO.t rfl (kk (s2, w) ⟨hL2 _ (fun _ _ => rfl) m1.1, (m3.trans ((congrFun (g1 999 (by omega)) 19).trans hFs)), ?_⟩)
        rw [gacc_0 hv]
        exact ⟨rfl, fun q => absurd q (by decide)⟩
      | succ i =>
        obtain ⟨b, fi, hb⟩ := gacc_some (k := 1) (val := wvl mm B r 1 β) val0.choose_spec (i + 1) (by omega)
        rw [hb] at hAs
        obtain ⟨rfl, hA2⟩ := hAs
        refine OO.e (nI_nm1 (by omega)) ?_
        by_cases q : w < best
        · refine OO.t q (kk (s2, w) ⟨hL2 _ (fun _ _ => rfl) m1.1, (m3.trans ((congrFun (g1 999 (by omega)) 19).trans hFs)), ?_⟩)
          rw [gacc_s hv hb, if_pos (show betW 1 w best = true from decide_eq_true q)]
          exact ⟨rfl, fun q => absurd q (by decide)⟩
        · refine OO.e q (kk (s2, best) ⟨hL2 _ (fun _ _ => rfl) m1.1, (m3.trans ((congrFun (g1 999 (by omega)) 19).trans hFs)), ?_⟩)
          rw [gacc_s hv hb, if_neg (show ¬ betW 1 w best = true from fun z => q (of_decide_eq_true z))]
          exact ⟨rfl, fun q => absurd q (by decide)⟩)
    refine OO.e hno ?_
    cases d with
    | zero => exact OO.t rfl (stepK rfl)
    | succ i =>
      refine OO.e (nI_nm1 (by omega)) (OO.b (d_isBaked_eq _ _) ?_)
      have ebk : bk ((vw s 1000).1 999 7) (zi (i + 1)) = bk B (nI i) := by
        rw [show (vw s 1000).1 999 7 = B from eB s hLs.1]; rfl
      rw [ebk]
      rcases bk_c B (nI i) with q | q
      · exact OO.t q (stepK (by show decide (bk B (nI i) = 1) = false; rw [q]; rfl))
      · refine OO.e (by rw [q]; decide) (kk (s, best) ⟨hLs, hFs, ?_⟩)
        have hv : wvl mm B r 1 β (i + 1) = none := by
          unfold wvl
          rw [if_pos (show bkm B (i + 1) = true from (show decide (bk B (nI i) = 1) = true by rw [q]; rfl))]
        rw [gacc_n hv]
        exact hAs
  · rintro f ⟨s, best⟩ ⟨hLs, hFs, hAs⟩
    dsimp only at hLs hFs hAs
    show OO (x_worthFrom_1_33 _ _ _ (f + 1) s best (zi (mm + 1))) _
    rw [x_worthFrom_1_33, eM s hLs.1]
    refine OO.g (hz s hLs.1) (OO.t (nI_le (Nat.le_refl _) (by omega)) (OO.ret ⟨hLs, ?_⟩))
    obtain ⟨b, fi, hb⟩ := gacc_some (k := 1) (val := wvl mm B r 1 β) val0.choose_spec (mm + 1) (by omega)
    rw [hb] at hAs
    rw [wV_s, hb]
    exact ⟨hAs.1, hFs⟩
theorem xw_0 {a0 : cS} (h1 : σx.1 999 0 = 1) (hN : Rn mm vv ww t t (vw σx 1000) σm) (hn : n ≤ 4) (hk : 0 ≤ n) (ht : t ≤ 999) (hR : x_law σx rs = some R) (hB : B = σm.1 1 4) (hL : Lw n 0 σx a0 a) (lβ : LawR R β) (rβ : Rm 0 mm vv ww (t + 0) (t + 0) (vw a 3000) β) :
    OO (x_worthFrom_0 a rs (nI n)) (fun p => Lw n 0 σx a0 p.1 ∧ p.2 = wV mm B (n - 0) 0 β ∧ (1 ≤ n → ∃ w f, gacc 0 (wvl mm B (n - 1) 0 β) (mm + 1) = some (w, f) ∧ p.2 = w ∧ p.1.1 999 19 = zi f)) := by
  have h10 := hN.m10
  have hz : ∀ a, Qd σx a → nz (a.1 999 0) = true := fun a ha => by rw [ha.2 0 (by decide) (by decide), h1]; rfl
  have eM : ∀ a, Qd σx a → a.1 1999 0 = nI mm := fun a ha => (congrFun (ha.1 1999 (by omega) (by decide) (by decide) (by decide)) 0).trans hN.dm
  have eB : ∀ a, Qd σx a → a.1 1999 7 = B := fun a ha => ((congrFun (ha.1 1999 (by omega) (by decide) (by decide) (by decide)) 7).trans hN.bd).trans hB.symm
  unfold x_worthFrom_0
  by_cases hkn : n = 0
  · subst hkn
    exact OO.t rfl (OO.b (xw_leaf rβ) (OO.ret ⟨hL, rfl, (fun q => absurd q (by omega))⟩))
  refine OO.e (fun q => hkn ((nI_eq (a := 0) (b := n) (by decide) (by omega)).mp q).symm) (OO.b rfl ?_)
  obtain ⟨r, hr⟩ : ∃ r, n - 0 = r + 1 := ⟨n - 0 - 1, by omega⟩
  have hr1 : n - 1 = r := by omega
  rw [hr]
  have v0 : ∃ β', stp β (cdk 0 0) = some β' := by
    obtain ⟨δ', b', β', e1, -⟩ := stp_two (cdk_lt (k := 0) (mm := mm) (by omega : 0 < mm + 1)) rβ rβ lβ lβ (by omega)
    exact ⟨b', e1⟩
  have val0 : ∃ v, wvl mm B r 0 β 0 = some v := by
    obtain ⟨β', e⟩ := v0
    exact ⟨wV mm B r (0 + 1) β', by show (if bkm B 0 = true then none else (stp β (cdk 0 0)).bind fun β' => some (wV mm B r (0 + 1) β')) = _; rw [if_neg (show ¬ bkm B 0 = true from fun q => absurd (show false = true from q) (by decide)), e]; rfl⟩
  refine OO.zloop (S := cS × Int32) (L := fun f s i => x_worthFrom_0_33 rs (nI n) (fun σ_51 v_52 => some (σ_51, v_52)) f s.1 s.2 i) (I := fun d s => Lw n 0 σx a0 s.1 ∧  Ab true s.1 s.2 (gacc 0 (wvl mm B r 0 β) d)) (N := mm + 1) ?_ ?_ (mm + 1) 0 (by omega) FU (FU_gt (by omega)) (a, 0) ⟨hL,  trivial⟩
  · rintro f d ⟨s, best⟩ hd ⟨hLs,  hAs⟩ kk
    dsimp only at hLs  hAs
    show OO (x_worthFrom_0_33 _ _ _ (f + 1) s best (zi d)) _
    rw [x_worthFrom_0_33, eM s hLs.1, zi_n1]
    refine OO.g (hz s hLs.1) ?_
    have rs_ : Rm 0 mm vv ww (t + 0) (t + 0) (vw s 3000) β := rβ.ex (eqD.of (fun j hj => (hLs.2.2 (3000 + j) (by omega) (by omega)).trans (hL.2.2 (3000 + j) (by omega) (by omega)).symm))
    have hno : ¬ nI mm ≤ zi d := by
      cases d with
      | zero => rw [i_le, nI_toInt (by omega)]; show ¬ (mm : Int) ≤ (-1 : Int32).toInt; rw [show (-1 : Int32).toInt = -1 by decide]; omega
      | succ i => exact nI_ge (a := i) (by omega) (by omega)
    have stepK := fun (hg : bkm B d = false) => xd_step (K := fun σ_15 => (x_worthFrom_1 σ_15 rs (nI n)).bind fun (σ_17, r_16) => if zi d = -1 then (x_worthFrom_0_33 rs (nI n) (fun σ_51 v_52 => some (σ_51, v_52)) f (si σ_17 999 19 (zi d)) r_16 (zi (d + 1))) else (if best < r_16 then (x_worthFrom_0_33 rs (nI n) (fun σ_51 v_52 => some (σ_51, v_52)) f (si σ_17 999 19 (zi d)) r_16 (zi (d + 1))) else (x_worthFrom_0_33 rs (nI n) (fun σ_51 v_52 => some (σ_51, v_52)) f σ_17 best (zi (d + 1))))) hd h10 (by decide : 0 ≤ 4) ht (show (1 : Int32) = if 0 % 2 = 0 then 1 else -1 from rfl) (by decide : 3000 ≤ 3000 ∧ 3000 ≤ 7000 ∧ 3000 ≤ 4000 ∧ 4000 ≤ 7000 ∧ (4000 + 1000 ≤ 3000 ∨ 3000 + 1000 ≤ 4000)) hLs.1 hR lβ rs_ (hLs.2.1 0 (by omega)) (hLs.2.1 1 (by omega)) (fun a' β' g1 g2 g3 g4 g5 g6 => by
      have hL' : Lw n 1 σx a' a' := by
        refine ⟨g2, fun j hj => ?_, fun _ _ _ => rfl⟩
        by_cases e : j = 1
        · subst e; exact g3
        · exact (hLs.2.1 j hj).of (fun q hq => g1 (3000 + 1000 * j + q) (by omega))
      have hv : wvl mm B r 0 β d = some (wV mm B r 1 β') := by
        unfold wvl
        rw [if_neg (by rw [hg]; decide), g4]; rfl
      refine OO.bd (xw_1 h1 hN hn (by omega) ht hR hB hL' g5 g6) ?_
      rintro ⟨s2, w⟩ ⟨m1, m2, m3⟩
      dsimp only at m1 m2 m3
      rw [hr1] at m2
      rw [← m2] at hv
      have hL2 : ∀ s3, (∀ b, 3000 ≤ b → s3.1 b = s2.1 b) → Qd σx s3 → Lw n 0 σx a0 s3 := fun s3 h3 hq => ⟨hq, fun j hj => (m1.2.1 j hj).of (fun q hq => h3 (3000 + 1000 * j + q) (by omega)), fun b hb hb2 => by rw [h3 b hb, m1.2.2 b hb (by omega), g1 b (by omega)]; exact hLs.2.2 b hb hb2⟩
      cases d with
      | zero =>
        refine OO.t rfl (kk (si s2 999 19 (zi _), w) ⟨hL2 _ (fun b hb => si_o (by omega)) (m1.1.st (by omega)),  ?_⟩)
        rw [gacc_0 hv]
        exact ⟨rfl, fun _ => si_a⟩
      | succ i =>
        obtain ⟨b, fi, hb⟩ := gacc_some (k := 0) (val := wvl mm B r 0 β) val0.choose_spec (i + 1) (by omega)
        rw [hb] at hAs
        obtain ⟨rfl, hA2⟩ := hAs
        refine OO.e (nI_nm1 (by omega)) ?_
        by_cases q : best < w
        · refine OO.t q (kk (si s2 999 19 (zi _), w) ⟨hL2 _ (fun b hb => si_o (by omega)) (m1.1.st (by omega)),  ?_⟩)
          rw [gacc_s hv hb, if_pos (show betW 0 w best = true from decide_eq_true q)]
          exact ⟨rfl, fun _ => si_a⟩
        · refine OO.e q (kk (s2, best) ⟨hL2 _ (fun _ _ => rfl) m1.1,  ?_⟩)
          rw [gacc_s hv hb, if_neg (show ¬ betW 0 w best = true from fun z => q (of_decide_eq_true z))]
          exact ⟨rfl, fun _ => m3.trans ((congrFun (g1 999 (by omega)) 19).trans (hA2 rfl))⟩)
    refine OO.e hno ?_
    cases d with
    | zero => exact OO.t rfl (stepK rfl)
    | succ i =>
      refine OO.e (nI_nm1 (by omega)) (OO.b (d_isBaked_eq _ _) ?_)
      have ebk : bk ((vw s 1000).1 999 7) (zi (i + 1)) = bk B (nI i) := by
        rw [show (vw s 1000).1 999 7 = B from eB s hLs.1]; rfl
      rw [ebk]
      rcases bk_c B (nI i) with q | q
      · exact OO.t q (stepK (by show decide (bk B (nI i) = 1) = false; rw [q]; rfl))
      · refine OO.e (by rw [q]; decide) (kk (s, best) ⟨hLs,  ?_⟩)
        have hv : wvl mm B r 0 β (i + 1) = none := by
          unfold wvl
          rw [if_pos (show bkm B (i + 1) = true from (show decide (bk B (nI i) = 1) = true by rw [q]; rfl))]
        rw [gacc_n hv]
        exact hAs
  · rintro f ⟨s, best⟩ ⟨hLs,  hAs⟩
    dsimp only at hLs  hAs
    show OO (x_worthFrom_0_33 _ _ _ (f + 1) s best (zi (mm + 1))) _
    rw [x_worthFrom_0_33, eM s hLs.1]
    refine OO.g (hz s hLs.1) (OO.t (nI_le (Nat.le_refl _) (by omega)) (OO.ret ⟨hLs, ?_⟩))
    obtain ⟨b, fi, hb⟩ := gacc_some (k := 0) (val := wvl mm B r 0 β) val0.choose_spec (mm + 1) (by omega)
    rw [hb] at hAs
    rw [wV_s, hb]
    refine ⟨hAs.1, fun _ => ⟨b, fi, by rw [show n - 1 = r by omega]; exact hb, hAs.1, hAs.2 rfl⟩⟩
end WV
