/-! PURE LAW: push, the model's rows by numbers -/
set_option maxRecDepth 100000
theorem nI_zi (d : Nat) : nI d - 1 = zi d := by
  cases d with
  | zero => rfl
  | succ n => exact nI_pred n
theorem zi_n1 (d : Nat) : zi d + 1 = zi (d + 1) := by
  cases d with
  | zero => rfl
  | succ n => exact nI_1 n
/-- what a digit asks for: nothing, or a mile and feet -/
def cdp : Nat → Option (Nat × Int32)
  | 0 => none
  | i + 1 => some (i / 2, if i % 2 = 1 then 2 else -2)
def bkd (B : Int32) : Nat → Bool
  | 0 => false
  | i + 1 => decide (bk B (nI (i / 2)) = 1)
noncomputable def Mp (O : Nat) (β0 : cS) : Nat → Nat → Option cS
  | 0, _ => some β0
  | k + 1, p => (Mp O β0 k (p / O)).bind fun b => stp b (cdp (p % O))
def okp (O : Nat) (B : Int32) : Nat → Nat → Bool
  | 0, _ => true
  | k + 1, p => okp O B k (p / O) && !(bkd B (p % O))
def cnp (O : Nat) : Nat → Nat → Nat
  | 0, _ => 0
  | k + 1, p => cnp O k (p / O) + (if p % O = 0 then 0 else 1)
noncomputable def awp (b : Option cS) : Bool := match b with
  | some β => decide (m_areWantsSo β = some 1)
  | none => false
noncomputable def valp (O : Nat) (B : Int32) (β0 : cS) (n p : Nat) : Option Nat := if okp O B n p = true ∧ awp (Mp O β0 n p) = true then some (cnp O n p) else none
def upb (val : Nat → Option Nat) (acc : Option (Nat × Nat)) (p : Nat) : Option (Nat × Nat) := match val p with
  | none => acc
  | some v => match acc with
    | none => some (v, p)
    | some (b, r) => if v < b then some (v, p) else some (b, r)
def fol (val : Nat → Option Nat) (acc : Option (Nat × Nat)) (lo : Nat) : Nat → Option (Nat × Nat)
  | 0 => acc
  | len + 1 => upb val (fol val acc lo len) (lo + len)
theorem fol_add (val : Nat → Option Nat) (acc : Option (Nat × Nat)) (lo a : Nat) : ∀ b, fol val acc lo (a + b) = fol val (fol val acc lo a) (lo + a) b := by
  intro b
  induction b with
  | zero => rfl
  | succ b ih =>
    show upb val (fol val acc lo (a + b)) (lo + (a + b)) = upb val (fol val (fol val acc lo a) (lo + a) b) (lo + a + b)
    rw [ih, Nat.add_assoc]
theorem fol_skip {val : Nat → Option Nat} {acc : Option (Nat × Nat)} {lo : Nat} : ∀ {len : Nat}, (∀ p, lo ≤ p → p < lo + len → val p = none ∨ ∃ v b r, val p = some v ∧ acc = some (b, r) ∧ b ≤ v) → fol val acc lo len = acc := by
  intro len
  induction len with
  | zero => intro _; rfl
  | succ n ih =>
    intro h
    show upb val (fol val acc lo n) (lo + n) = acc
    rw [ih (fun p h1 h2 => h p h1 (by omega))]
    unfold upb
    rcases h (lo + n) (by omega) (by omega) with e | ⟨v, b, r, e1, e2, e3⟩
    · rw [e]
    · rw [e1, e2]
      show (if v < b then _ else _) = _
      rw [if_neg (by omega)]
theorem cnp_le (O : Nat) : ∀ k p, cnp O k p ≤ k := by
  intro k
  induction k with
  | zero => intro p; exact Nat.le_refl _
  | succ k ih =>
    intro p
    have := ih (p / O)
    show cnp O k (p / O) + (if p % O = 0 then 0 else 1) ≤ k + 1
    split <;> omega
theorem div_pow (q O j : Nat) : q / O ^ (j + 1) = q / O / O ^ j := by
  rw [Nat.pow_succ, Nat.mul_comm, Nat.div_div_eq_div_mul]
theorem pre_ok (O : Nat) (B : Int32) : ∀ j k q, okp O B (k + j) q = true → okp O B k (q / O ^ j) = true := by
  intro j
  induction j with
  | zero => intro k q h; rw [Nat.pow_zero, Nat.div_one]; exact h
  | succ j ih =>
    intro k q h
    have h2 : okp O B (k + j) (q / O) = true := by
      have : (okp O B (k + j) (q / O) && !(bkd B (q % O))) = true := h
      exact (Bool.and_eq_true_iff.mp this).1
    rw [div_pow]
    exact ih k (q / O) h2
theorem pre_cn (O : Nat) : ∀ j k q, cnp O k (q / O ^ j) ≤ cnp O (k + j) q := by
  intro j
  induction j with
  | zero => intro k q; rw [Nat.pow_zero, Nat.div_one]; exact Nat.le_refl _
  | succ j ih =>
    intro k q
    rw [div_pow]
    have := ih k (q / O)
    show _ ≤ cnp O (k + j) (q / O) + (if q % O = 0 then 0 else 1)
    omega
/-- digit j of a row of n -/
def dgt (O n r j : Nat) : Nat := r / O ^ (n - 1 - j) % O
section FP
variable {σx σm σx' σm' : cS} {rs : List RS} {im : IM} {cz mm vv ww t u lg un un' O n : Nat} {δ σ δ' σ' z w a b c β β0 : cS} {R : Option RS} {B : Int32}
theorem cdp_lt (hO : O = 2 * mm + 1) {d : Nat} (hd : d < O) : ∀ m v, cdp d = some (m, v) → m < mm := by
  intro m v h
  cases d with
  | zero => cases h
  | succ i =>
    have : some (i / 2, (if i % 2 = 1 then (2 : Int32) else -2)) = some (m, v) := h
    simp only [Option.some.injEq, Prod.mk.injEq] at this
    omega
theorem imA_le : ∀ k ∈ imA, k ≤ 50 := by decide
/-- one block of scratch is another -/
theorem KE.q {q : Nat} (h : ∀ k, k ≠ q → b.1 k = a.1 k) (hq : 54 ≤ q ∧ q ≤ 63) (hK : Kp σm a) (hE : Em σm a) : Kp σm b ∧ Em σm b := by
  refine ⟨⟨fun k hk2 i hi => by rw [h 64 (by omega)]; exact hK.1 k hk2 i hi, fun k hk2 => by rw [h k (by omega)]; exact hK.2.1 k hk2, fun i hi => by rw [h 999 (by omega)]; exact hK.2.2.1 i hi, fun i hi => by rw [h 64 (by omega)]; exact hK.2.2.2 i hi⟩, hE.tr ⟨⟨⟨fun k hk2 _ i _ => ?_, by rw [h 999 (by omega)]⟩, fun i _ => by rw [h 1 (by omega)]⟩, fun i _ => by rw [h 999 (by omega)], fun k hk2 => h k (by omega), fun i _ => by rw [h 64 (by omega)]⟩⟩
  have := imA_le k hk2
  rw [h k (by omega)]
/-- the digits are laid -/
theorem om_digits {w2 v4 v5 : Int32} {ρ : Type} {K : cS → Option ρ} {P : ρ → Prop} {row : Nat} (hO : 1 ≤ O ∧ O ≤ 21) (hn : n ≤ 3) (hrow : row < 10000) (hK : ∀ b', (∀ k, k ≠ 54 → b'.1 k = b.1 k) → (∀ j, j < n → b'.1 54 j = zi (dgt O n row j)) → OO (K b') P) : OO (m_findsPush_60 (nI n) w2 (nI O) v4 v5 K FU b (nI row) (zi n)) P := by
  have key : ∀ (i : Nat), i ≤ n → ∀ (f : Nat), i < f → ∀ (b' : cS), (∀ k, k ≠ 54 → b'.1 k = b.1 k) → (∀ j, i ≤ j → j < n → b'.1 54 j = zi (dgt O n row j)) → OO (m_findsPush_60 (nI n) w2 (nI O) v4 v5 K f b' (nI (row / O ^ (n - i))) (zi i)) P := by
    intro i
    induction i with
    | zero =>
      intro _ f hf b' h1 h2
      obtain ⟨f, rfl⟩ : ∃ q, f = q + 1 := ⟨f - 1, by omega⟩
      rw [m_findsPush_60]
      exact OO.t zi_neg (hK b' h1 (fun j hj => h2 j (Nat.zero_le _) hj))
    | succ i ih =>
      intro hi f hf b' h1 h2
      obtain ⟨f, rfl⟩ : ∃ q, f = q + 1 := ⟨f - 1, by omega⟩
      have hr : row / O ^ (n - (i + 1)) ≤ row := Nat.div_le_self _ _
      rw [show zi (i + 1) = nI i from rfl, m_findsPush_60, pk_rem (by omega) (by omega) (by omega), pk_div (by omega) (by omega) (by omega), nI_zi, zi_s, ixn (by omega)]
      refine OO.e (nI_pos (by omega)) (OO.g (by unfold nz; rw [decide_eq_false (nI_ne0 (by omega) (by omega))]; rfl) (OO.g (inbn (by omega) (by decide)) ?_))
      have e : row / O ^ (n - (i + 1)) / O = row / O ^ (n - i) := by
        rw [show n - i = (n - (i + 1)) + 1 by omega, Nat.pow_succ, Nat.div_div_eq_div_mul]
      rw [e]
      refine ih (by omega) f (by omega) _ (fun k hk => by rw [si_o hk]; exact h1 k hk) (fun j hj hj2 => ?_)
      by_cases q : j = i
      · subst q
        rw [si_a]
        unfold dgt
        rw [show n - 1 - j = n - (j + 1) by omega]
      · rw [si_p q]
        exact h2 j (by omega) hj2
  have := key n (Nat.le_refl _) FU (FU_gt (by omega)) b (fun _ _ => rfl) (fun j h1 h2 => absurd h2 (by omega))
  rw [Nat.sub_self, Nat.pow_zero, Nat.div_one] at this
  exact this
/-- a row tried in the model -/
theorem om_pushesBy {row : Nat} (hO : O = 2 * mm + 1) (hn : n ≤ 3) (ht : t ≤ 999) (h10 : mm ≤ 10) (hB : ∀ b, Kp σm b → LawR R b → True) (hδ : Rm 0 mm vv ww t t δ b) (hβ : Rm 0 mm vv ww t t δ β0) (lb : LawR R b) (lβ : LawR R β0) (hK : Kp σm b) (hbk : b.1 1 4 = B) (hch : ∀ j, j < n → b.1 54 j = zi (dgt O n row j)) :
    OO (m_pushesBy b (nI n)) (fun q => Kp σm q.1 ∧ q.1.1 54 = b.1 54 ∧ q.1.1 55 = b.1 55 ∧ q.2 = (match valp O B β0 n row with | none => -1 | some v => nI v)) := by
  unfold m_pushesBy
  have pk : ∀ k, k < n → row / O ^ (n - (k + 1)) / O = row / O ^ (n - k) := by
    intro k hk
    rw [show n - k = (n - (k + 1)) + 1 by omega, Nat.pow_succ, Nat.div_div_eq_div_mul]
  have hbad : okp O B n row = false → valp O B β0 n row = none := fun h => by unfold valp; rw [if_neg (by rw [h]; intro q; exact absurd q.1 (by decide))]
  refine OO.loop (S := cS × Int32 × Int32) (L := fun f s i => m_pushesBy_7 (nI n) (fun σ_22 v_23 v_24 => if v_24 = 0 then some (σ_22, -1) else (m_areWantsSo σ_22).bind fun r_27 => if r_27 = 0 then some (σ_22, -1) else some (σ_22, v_23)) f s.1 s.2.1 s.2.2 i)
    (I := fun k s => (Kp σm s.1 ∧ s.1.1 54 = b.1 54 ∧ s.1.1 55 = b.1 55) ∧ ((s.2.2 = 0 ∧ okp O B n row = false) ∨ (s.2.2 = 1 ∧ s.2.1 = nI (cnp O k (row / O ^ (n - k))) ∧ okp O B k (row / O ^ (n - k)) = true ∧ s.1.1 1 4 = B ∧ LawR R s.1 ∧ ∃ β δ, Mp O β0 k (row / O ^ (n - k)) = some β ∧ LawR R β ∧ Rm 0 mm vv ww (t + k) (t + k) δ s.1 ∧ Rm 0 mm vv ww (t + k) (t + k) δ β))) (N := n) ?_ ?_ n 0 (by omega) FU (FU_gt (by omega)) (b, 0, 1) ⟨⟨hK, rfl, rfl⟩, Or.inr ⟨rfl, rfl, rfl, hbk, lb, β0, δ, rfl, lβ, hδ, hβ⟩⟩
  · rintro f k ⟨b1, x, y⟩ hk ⟨⟨g1, g2, g3⟩, hI⟩ kk
    dsimp only at g1 g2 g3 hI
    show OO (m_pushesBy_7 _ _ (f + 1) b1 x y (nI k)) _
    rw [m_pushesBy_7, nI_1]
    refine OO.e (nI_ge hk (by omega)) ?_
    rcases hI with ⟨rfl, hbad2⟩ | ⟨rfl, rfl, hok, hb4, l1, β, δ1, eM, l2, r1, r2⟩
    · refine OO.t rfl (OO.t rfl (OO.ret ⟨g1, g2, g3, ?_⟩))
      rw [hbad hbad2]
    · refine OO.e (by decide) (OO.g (inbn (by omega) (by decide)) ?_)
      rw [ixn (by omega)]
      obtain ⟨d, hd⟩ : ∃ d, d = row / O ^ (n - (k + 1)) % O := ⟨_, rfl⟩
      have hdO : d < O := by rw [hd]; exact Nat.mod_lt _ (by omega)
      have hc : b1.1 54 k = zi d := by
        rw [g2, hch k hk, hd]
        unfold dgt
        rw [show n - 1 - k = n - (k + 1) by omega]
      rw [hc]
      obtain ⟨δ', b', β', e1, e2, q1, q2, f1, f2⟩ := stp_two (cdp_lt hO hdO) r1 r2 l1 l2 (by omega)
      have eM' : Mp O β0 (k + 1) (row / O ^ (n - (k + 1))) = some β' := by
        show (Mp O β0 k (row / O ^ (n - (k + 1)) / O)).bind _ = _
        rw [pk k hk, eM, ← hd]
        exact e2
      have fr : Kp σm b' ∧ b'.1 54 = b.1 54 ∧ b'.1 55 = b.1 55 := ⟨g1.fm f1, (f1.1 54 (by decide) (by decide) (by decide) (by decide) (by decide) (by decide)).trans g2, (f1.1 55 (by decide) (by decide) (by decide) (by decide) (by decide) (by decide)).trans g3⟩
      have ecn : cnp O (k + 1) (row / O ^ (n - (k + 1))) = cnp O k (row / O ^ (n - k)) + (if d = 0 then 0 else 1) := by
        show cnp O k (row / O ^ (n - (k + 1)) / O) + _ = _
        rw [pk k hk, ← hd]
      have eok : okp O B (k + 1) (row / O ^ (n - (k + 1))) = !(bkd B d) := by
        show (okp O B k (row / O ^ (n - (k + 1)) / O) && !(bkd B (row / O ^ (n - (k + 1)) % O))) = _
        rw [pk k hk, hok, ← hd]
        rfl
      have good : bkd B d = false → OO (m_pushesBy_7 (nI n) (fun σ_22 v_23 v_24 => if v_24 = 0 then some (σ_22, -1) else (m_areWantsSo σ_22).bind fun r_27 => if r_27 = 0 then some (σ_22, -1) else some (σ_22, v_23)) f b' (nI (cnp O k (row / O ^ (n - k)) + (if d = 0 then 0 else 1))) 1 (nI (k + 1))) (fun q => Kp σm q.1 ∧ q.1.1 54 = b.1 54 ∧ q.1.1 55 = b.1 55 ∧ q.2 = (match valp O B β0 n row with | none => -1 | some v => nI v)) := by
        intro hg
        exact kk (b', nI (cnp O k (row / O ^ (n - k)) + (if d = 0 then 0 else 1)), 1) ⟨fr, Or.inr ⟨rfl, by rw [ecn], by rw [eok, hg]; rfl, by rw [f1.2 4 (by decide)]; exact hb4, l1.mv f1, β', δ', eM', l2.mv f2, q1, q2⟩⟩
      cases d with
      | zero =>
        unfold stp at e1
        obtain ⟨b2, hb2, e1⟩ := bd_e e1
        cases hb2
        obtain ⟨p, hp, e1⟩ := bd_e e1
        cases e1
        refine OO.b (if_pos rfl) (OO.b hp ?_)
        exact good rfl
      | succ i =>
        unfold stp at e1
        obtain ⟨b2, hb2, e1⟩ := bd_e e1
        obtain ⟨p, hp, e1⟩ := bd_e e1
        cases e1
        rw [show zi (i + 1) = nI i from rfl, show (2 : Int32) = nI 2 from rfl, pk_rem (by omega) (by decide) (by decide), pk_div (by omega) (by decide) (by decide)]
        have hb2' : m_pushes b1 (nI (i / 2)) (if i % 2 = 1 then 2 else -2) = some b2 := hb2
        have ebk : bk (b1.1 1 4) (nI (i / 2)) = bk B (nI (i / 2)) := by rw [hb4]
        have inner : ∀ tt : Int32, (if nI (i % 2) = 1 then (m_pushes b1 (nI (i / 2)) (nI 2)).bind fun σ_20 => some (σ_20, nI (cnp O k (row / O ^ (n - k))) + 1, tt) else (m_pushes b1 (nI (i / 2)) (-nI 2)).bind fun σ_18 => some (σ_18, nI (cnp O k (row / O ^ (n - k))) + 1, tt)) = some (b2, nI (cnp O k (row / O ^ (n - k)) + 1), tt) := by
          intro tt
          rw [nI_1]
          rcases (by omega : i % 2 = 0 ∨ i % 2 = 1) with q | q
          · rw [q] at hb2' ⊢
            rw [if_neg (by decide)] at hb2' ⊢
            have : m_pushes b1 (nI (i / 2)) (-nI 2) = some b2 := hb2'
            rw [this]; rfl
          · rw [q] at hb2' ⊢
            rw [if_pos rfl] at hb2'
            rw [if_pos (show nI 1 = 1 from rfl)]
            have : m_pushes b1 (nI (i / 2)) (nI 2) = some b2 := hb2'
            rw [this]; rfl
        rcases bk_c B (nI (i / 2)) with q | q
        · refine OO.b (a := (b2, nI (cnp O k (row / O ^ (n - k)) + 1), 1)) ?_ (OO.b hp ?_)
          · rw [if_neg (nI_nm1 (by omega)), m_isBaked_eq, ebk, q]
            exact inner 1
          · exact good (by show decide (bk B (nI (i / 2)) = 1) = false; rw [q]; rfl)
        · refine OO.b (a := (b2, nI (cnp O k (row / O ^ (n - k)) + 1), 0)) ?_ (OO.b hp ?_)
          · rw [if_neg (nI_nm1 (by omega)), m_isBaked_eq, ebk, q]
            exact inner 0
          · refine kk (p.1, nI (cnp O k (row / O ^ (n - k)) + 1), 0) ⟨fr, Or.inl ⟨rfl, ?_⟩⟩
            by_cases hx : okp O B n row = true
            · have := pre_ok O B (n - (k + 1)) (k + 1) row (by rw [show k + 1 + (n - (k + 1)) = n by omega]; exact hx)
              rw [eok] at this
              have this : (!(decide (bk B (nI (i / 2)) = 1))) = true := this
              rw [q] at this
              exact absurd this (by decide)
            · exact Bool.not_eq_true _ ▸ hx
  · rintro f ⟨b1, x, y⟩ ⟨⟨g1, g2, g3⟩, hI⟩
    dsimp only at g1 g2 g3 hI
    show OO (m_pushesBy_7 _ _ (f + 1) b1 x y (nI n)) _
    rw [m_pushesBy_7]
    refine OO.t (nI_le (Nat.le_refl _) (by omega)) ?_
    rcases hI with ⟨rfl, hbad2⟩ | ⟨rfl, rfl, hok, hb4, l1, β, δ1, eM, l2, r1, r2⟩
    · refine OO.t rfl (OO.ret ⟨g1, g2, g3, ?_⟩)
      rw [hbad hbad2]
    · rw [Nat.sub_self, Nat.pow_zero, Nat.div_one] at hok eM ⊢
      obtain ⟨r, hr, e1, e2⟩ := jn_wants r1
      obtain ⟨r', hr', e3, e4⟩ := jn_wants r2
      rw [e1] at e3
      cases e3
      refine OO.e (by decide) (OO.b e2 ?_)
      rcases hr with rfl | rfl
      · refine OO.t rfl (OO.ret ⟨g1, g2, g3, ?_⟩)
        have : valp O B β0 n row = none := by
          unfold valp
          rw [if_neg]
          rintro ⟨-, q⟩
          rw [eM] at q
          have q : decide (m_areWantsSo β = some 1) = true := q
          rw [e4] at q
          exact absurd (of_decide_eq_true q) (by decide)
        rw [this]
      · refine OO.e (by decide) (OO.ret ⟨g1, g2, g3, ?_⟩)
        have : valp O B β0 n row = some (cnp O n row) := by
          unfold valp
          rw [if_pos]
          refine ⟨hok, ?_⟩
          rw [eM]
          show decide (m_areWantsSo β = some 1) = true
          rw [e4]
          exact decide_eq_true rfl
        rw [this]
end FP
