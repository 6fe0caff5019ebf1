/-! PURE LAW: peace -/
set_option maxRecDepth 100000
theorem JJ.loopE {α β S T : Type} {Lx : Nat → S → Int32 → Option α} {Lm : Nat → T → Int32 → Option β} {I : Nat → S → T → Prop} {N : Nat} {P : α → β → Prop} (e : Nat)
    (step : ∀ n n' j s t, j < N → I j s t → (∀ s' t', I (j + 1) s' t' → JJ (Lx n s' (nI (j + 1))) (Lm n' t' (nI (j + 1))) P) → JJ (Lx (n + 1) s (nI j)) (Lm (n' + 1) t (nI j)) P)
    (stop : ∀ n n' s t, e ≤ n → I N s t → JJ (Lx (n + 1) s (nI N)) (Lm (n' + 1) t (nI N)) P) :
    ∀ d j, j + d = N → ∀ n n', d + e < n → d < n' → ∀ s t, I j s t → JJ (Lx n s (nI j)) (Lm n' t (nI j)) P := by
  intro d
  induction d with
  | zero =>
    intro j hj n n' h1 h2 s t hI
    obtain ⟨n, rfl⟩ : ∃ k, n = k + 1 := ⟨n - 1, by omega⟩
    obtain ⟨n', rfl⟩ : ∃ k, n' = k + 1 := ⟨n' - 1, by omega⟩
    have : j = N := by omega
    subst this
    exact stop n n' s t (by omega) hI
  | succ d ih =>
    intro j hj n n' h1 h2 s t hI
    obtain ⟨n, rfl⟩ : ∃ k, n = k + 1 := ⟨n - 1, by omega⟩
    obtain ⟨n', rfl⟩ : ∃ k, n' = k + 1 := ⟨n' - 1, by omega⟩
    exact step n n' j s t (by omega) hI (fun s' t' h => ih (j + 1) (by omega) n n' (by omega) (by omega) s' t' h)
/-- the bits of a set, summed as the model does -/
def bsum (x : Int32) : Nat → Int32
  | 0 => 0
  | j + 1 => bsum x j + ((x >>> (nI j &&& 31)) &&& 1)
theorem m_bits_eq (x : Int32) : m_bits x = some (bsum x 16) := by
  have h : OO (m_bits x) (fun r => r = bsum x 16) := by
    unfold m_bits
    refine OO.loop (S := Int32) (L := fun n s i => m_bits_4 x (fun v => some v) n s i) (I := fun j s => s = bsum x j) (N := 16) ?_ ?_ 16 0 (by decide) FU (FU_gt (by decide)) 0 rfl
    · intro n j s hj hI kk
      subst hI
      show OO (m_bits_4 x _ (n + 1) (bsum x j) (nI j)) _
      rw [m_bits_4, nI_1]
      exact OO.e (nI_ge (a := j) (b := 16) hj (by decide)) (kk _ rfl)
    · intro n s hI
      show OO (m_bits_4 x _ (n + 1) s (nI 16)) _
      rw [m_bits_4]
      exact OO.t (nI_le (a := 16) (Nat.le_refl _) (by decide)) (OO.ret hI)
  obtain ⟨r, h1, rfl⟩ := h
  exact h1
noncomputable def bcv (x : Int32) : Int32 := (x_bitCount x).getD 0
theorem bcv_eq (x : Int32) : x_bitCount x = some (bcv x) := rfl
theorem bits_eq : ∀ v, v < 1024 → bcv (nI v) = bsum (nI v) 16 := by decide +kernel
theorem shl_1 : ∀ m, m ≤ 10 → (1 : Int32) <<< (nI m &&& 31) = nI (2 ^ m) := by decide +kernel
theorem bool_a (x m b : Bool) (h : (x && m) = x) : (x && ((m && (b ^^ true)) ^^ true)) = (x && b) := by
  cases x <;> cases m <;> cases b <;> first | rfl | exact absurd h (by decide)
theorem bool_b (x m b : Bool) (h : (x && m) = x) (h2 : (x && b) = false) : (x && (m && (b ^^ true))) = x := by
  cases x <;> cases m <;> cases b <;> first | rfl | exact absurd h (by decide) | exact absurd h2 (by decide)
theorem i_bits {x y : Int32} (h : ∀ i, x.toBitVec.getLsbD i = y.toBitVec.getLsbD i) : x = y := by
  apply Int32.toBitVec_inj.mp
  exact BitVec.eq_of_getLsbD_eq (fun i _ => h i)
theorem m1_bit (i : Nat) (hi : i < 32) : (-1 : Int32).toBitVec.getLsbD i = true := by
  rw [show (-1 : Int32).toBitVec = BitVec.allOnes 32 by decide, BitVec.getLsbD_allOnes]
  simp [hi]
theorem soft_a {X M B : Int32} (h : X &&& M = X) : X &&& ((M &&& (B ^^^ -1)) ^^^ -1) = X &&& B := by
  apply Int32.toBitVec_inj.mp
  refine BitVec.eq_of_getLsbD_eq (fun i hi => ?_)
  have hq : (X &&& M).toBitVec.getLsbD i = X.toBitVec.getLsbD i := by rw [h]
  rw [Int32.toBitVec_and, BitVec.getLsbD_and] at hq
  rw [Int32.toBitVec_and, Int32.toBitVec_and, Int32.toBitVec_xor, Int32.toBitVec_and, Int32.toBitVec_xor, BitVec.getLsbD_and, BitVec.getLsbD_and, BitVec.getLsbD_xor, BitVec.getLsbD_and, BitVec.getLsbD_xor, m1_bit i hi]
  exact bool_a _ _ _ hq
theorem soft_b {X M B : Int32} (h : X &&& M = X) (h2 : X &&& B = 0) : X &&& (M &&& (B ^^^ -1)) = X := by
  apply Int32.toBitVec_inj.mp
  refine BitVec.eq_of_getLsbD_eq (fun i hi => ?_)
  have hq : (X &&& M).toBitVec.getLsbD i = X.toBitVec.getLsbD i := by rw [h]
  have hq2 : (X &&& B).toBitVec.getLsbD i = false := by rw [h2]; simp
  rw [Int32.toBitVec_and, BitVec.getLsbD_and] at hq hq2
  rw [Int32.toBitVec_and, Int32.toBitVec_and, Int32.toBitVec_xor, BitVec.getLsbD_and, BitVec.getLsbD_and, BitVec.getLsbD_xor, m1_bit i hi]
  exact bool_b _ _ _ hq hq2
theorem nI_and (a b : Nat) : nI a &&& nI b = nI (a &&& b) := by
  apply Int32.toBitVec_inj.mp
  rw [Int32.toBitVec_and]
  show BitVec.ofNat 32 a &&& BitVec.ofNat 32 b = BitVec.ofNat 32 (a &&& b)
  exact BitVec.ofNat_and.symm
theorem and_M {v m : Nat} (hv : v < 2 ^ m) : nI v &&& nI (2 ^ m - 1) = nI v := by
  rw [nI_and, Nat.and_two_pow_sub_one_eq_mod, Nat.mod_eq_of_lt hv]
section PE
variable {σx σm σx' σm' : cS} {rs : List RS} {im : IM} {mm vv ww t u lg un un' : Nat} {δ σ δ' σ' z w a b c : cS} {R : Option RS}
theorem m_rest {n j s k : Nat} (h : W2 2000 mm vv ww R σx σm (t + j) a b) (ht : t + n + 1 < 1000000) (hn : n ≤ 60) (hj : j ≤ n) (hs : 0 < s) (hs8 : s ≤ 8 * j) (hk : n - j < k) : OO (m_goes_4 (nI n) (fun s v => some (s, v)) k b (nI s) (nI j)) (fun q => Kp σm q.1 ∧ ¬ q.2 = 0) := by
  refine OO.loop (S := cS × Int32) (L := fun k s i => m_goes_4 (nI n) (fun s v => some (s, v)) k s.1 s.2 i) (I := fun j q => ∃ a s, W2 2000 mm vv ww R σx σm (t + j) a q.1 ∧ q.2 = nI s ∧ 0 < s ∧ s ≤ 8 * j) (N := n) ?_ ?_ (n - j) j (by omega) k hk (b, nI s) ⟨a, s, h, rfl, hs, hs8⟩
  · rintro k j ⟨b, c⟩ hj ⟨a, s, hI, hc, hs, hs8⟩ kk
    dsimp only at hI hc
    subst hc
    show OO (m_goes_4 _ _ (k + 1) b (nI s) (nI j)) _
    rw [m_goes_4, nI_1]
    refine OO.e (nI_ge hj (by omega)) ?_
    obtain ⟨p, ⟨q, y⟩, -, hm, ⟨e, cn, hc8, ec⟩, hW, -⟩ := jw_goes hI (by omega)
    refine OO.b hm ?_
    dsimp only at e hW
    refine kk (q, nI s + y) ⟨_, s + cn, hW, ?_, by omega, by omega⟩
    show nI s + y = nI (s + cn)
    rw [← e, ec, nI_add]
  · rintro k ⟨b, c⟩ ⟨a, s, hI, hc, hs, hs8⟩
    dsimp only at hI hc
    subst hc
    show OO (m_goes_4 _ _ (k + 1) b (nI s) (nI n)) _
    rw [m_goes_4]
    exact OO.t (nI_le (Nat.le_refl _) (by omega)) (OO.ret ⟨hI.2.1, nI_ne0 hs (by omega)⟩)
theorem jw_peace {n : Nat} (h : W2 2000 mm vv ww R σx σm t a b) (hR : x_law σx rs = some R) (ht : t + n + 1 < 1000000) (hn : n ≤ 60) : JJ (x_isPeace_25 rs (nI n) (fun s => some (s, 1)) FU a 0) (m_goes b (nI n)) (fun p q => Ch 2000 σx p.1 ∧ Kp σm q.1 ∧ ((p.2 = 1 ∧ q.2 = 0) ∨ (p.2 = 0 ∧ ¬ q.2 = 0))) := by
  unfold m_goes
  have key : ∀ (d j : Nat), j + d = n → ∀ (k k' : Nat), d < k → d < k' → ∀ (a b : cS), W2 2000 mm vv ww R σx σm (t + j) a b → JJ (x_isPeace_25 rs (nI n) (fun s => some (s, 1)) k a (nI j)) (m_goes_4 (nI n) (fun s v => some (s, v)) k' b 0 (nI j)) (fun p q => Ch 2000 σx p.1 ∧ Kp σm q.1 ∧ ((p.2 = 1 ∧ q.2 = 0) ∨ (p.2 = 0 ∧ ¬ q.2 = 0))) := by
    intro d
    induction d with
    | zero =>
      intro j hj k k' h1 h2 a b hI
      obtain ⟨k, rfl⟩ : ∃ q, k = q + 1 := ⟨k - 1, by omega⟩
      obtain ⟨k', rfl⟩ : ∃ q, k' = q + 1 := ⟨k' - 1, by omega⟩
      have : j = n := by omega
      subst this
      rw [x_isPeace_25, m_goes_4]
      exact JJ.tl (nI_le (Nat.le_refl _) (by omega)) (JJ.tr (nI_le (Nat.le_refl _) (by omega)) (JJ.ret ⟨hI.1, hI.2.1, Or.inl ⟨rfl, rfl⟩⟩))
    | succ d ih =>
      intro j hj k k' h1 h2 a b hI
      obtain ⟨k, rfl⟩ : ∃ q, k = q + 1 := ⟨k - 1, by omega⟩
      obtain ⟨k', rfl⟩ : ∃ q, k' = q + 1 := ⟨k' - 1, by omega⟩
      rw [x_isPeace_25, m_goes_4, nI_1]
      refine JJ.el (nI_ge (by omega) (by omega)) (JJ.er (nI_ge (by omega) (by omega)) (JJ.bl (hI.law (by decide) hR) (JJ.bd (jw_goes hI (by omega)) ?_)))
      rintro ⟨p, x⟩ ⟨q, y⟩ ⟨⟨e, cn, hc8, ec⟩, hW, -⟩
      dsimp only at e ec hW
      subst e
      subst ec
      by_cases c0 : cn = 0
      · subst c0
        exact JJ.tl (by decide) (ih (j + 1) (by omega) k k' (by omega) (by omega) _ _ hW)
      · refine JJ.el (nI_nle (by omega) (by omega)) ?_
        have := m_rest (s := cn) (k := k') (n := n) (j := j + 1) hW ht hn (by omega) (by omega) (by omega) (by omega)
        show JJ _ (m_goes_4 _ _ k' q (0 + nI cn) _) _
        rw [show (0 : Int32) + nI cn = nI cn from Int32.zero_add _]
        obtain ⟨r, hr, hr1, hr2⟩ := this
        exact ⟨_, r, rfl, hr, hW.1, hr1, Or.inr ⟨rfl, hr2⟩⟩
  exact key n 0 (by omega) FU FU (FU_gt (by omega)) (FU_gt (by omega)) a b h
/-- what is best so far, on both sides -/
def Bst (p q : Int32) : Prop := (p = -1 ∧ q = -2) ∨ ∃ s, s < 1024 ∧ p = nI s ∧ q = nI s
theorem nI_nm1 {s : Nat} (h : s < 2 ^ 31) : ¬ nI s = -1 := by
  intro q
  have := congrArg Int32.toInt q
  rw [nI_toInt h, show (-1 : Int32).toInt = -1 by decide] at this
  omega
theorem nI_nm2 {s : Nat} (h : s < 2 ^ 31) : ¬ nI s = -2 := by
  intro q
  have := congrArg Int32.toInt q
  rw [nI_toInt h, show (-2 : Int32).toInt = -2 by decide] at this
  omega
theorem op_peace (h : PL σx rs im σm) (v1 v2 : Int32) : JP rs im (x_peace σx rs v1 v2) (m_peace σm v1 v2) := by
  unfold x_peace m_peace
  rcases q_isStrip h with ⟨h0, hs⟩ | ⟨h1, hs, mm, vv, ww, t, lg, un, hV⟩
  · exact JJ.tl h0 (JJ.br hs (JJ.tr rfl (JJ.ret ⟨rfl, h⟩)))
  have hn := hV.1
  have ht := hV.2.1
  have h10 := hn.m10
  refine JJ.el (by rw [h1]; decide) (JJ.br hs (JJ.er (by decide) (JJ.bl (x_in_eq v1 1 60) (JJ.br (m_in_eq v1 1 60) ?_))))
  rcases ib_e (v := v1) (a := 1) (b := 60) with e | ⟨e, b1, b2⟩
  · exact JJ.tl e (JJ.tr e (JJ.ret ⟨rfl, h⟩))
  obtain ⟨n, hn', rfl⟩ := nI_of (x := v1) (by rw [i_lt]; rw [i_le] at b1; rw [show (1 : Int32).toInt = 1 by decide] at b1; rw [show (0 : Int32).toInt = 0 by decide]; omega)
  have hn1 : n ≤ 60 := (nI_leI (b := 60) hn' (by decide)).mp b2
  refine JJ.el (by rw [e]; decide) (JJ.er (by rw [e]; decide) (JJ.bl (x_in_eq v2 0 1) (JJ.br (m_in_eq v2 0 1) ?_)))
  rcases ib_e (v := v2) (a := 0) (b := 1) with e2 | ⟨e2, c1, c2⟩
  · exact JJ.tl e2 (JJ.tr e2 (JJ.ret ⟨rfl, h⟩))
  obtain ⟨wh, hwh, rfl⟩ := nI_of ((n_le _ _).mpr c1)
  have hwh1 : wh ≤ 1 := (nI_leI (b := 1) hwh (by decide)).mp c2
  refine JJ.el (by rw [e2]; decide) (JJ.er (by rw [e2]; decide) ?_)
  obtain ⟨R, eR, hR⟩ := h.law
  refine JJ.or (om_kept σm) (fun b0 ⟨k1, k2, k3⟩ => ?_)
  have hB0 : Bs σx σm σx b0 := ⟨Ch.rf, k1, k2⟩
  have hSS : 2 ^ mm ≤ 1024 := Nat.le_trans (Nat.pow_le_pow_right (by decide) h10) (by decide)
  have hSp : 0 < 2 ^ mm := Nat.two_pow_pos mm
  have eM : (1 : Int32) <<< (σm.1 1 (ix 0) &&& 31) - 1 = nI (2 ^ mm - 1) := by rw [hn.m', shl_1 mm h10, nI_m1 hSp]
  rw [eM, show ix 4 = 4 from rfl]
  obtain ⟨S, eS⟩ : ∃ S, S = ((σm.1 1 4 ^^^ -1).toBitVec.toNat % 2 ^ mm) := ⟨_, rfl⟩
  have hS : S < 2 ^ mm := by rw [eS]; exact Nat.mod_lt _ hSp
  have eSoft : nI (2 ^ mm - 1) &&& (σm.1 1 4 ^^^ -1) = nI S := by
    rw [Int32.and_comm, pk_and _ mm (by rw [pk_tn (by omega)]), eS]
  have eMany : ∀ a, Ch 2000 σx a → (1 : Int32) <<< (a.1 1999 0 &&& 31) = nI (2 ^ mm) := by
    intro a ha
    rw [show a.1 1999 0 = nI mm from (congrFun (ha 1999 (by omega)) 0).trans hn.dm, shl_1 mm h10]
  have eBk : ∀ a, Ch 2000 σx a → a.1 1999 7 = σm.1 1 4 := fun a ha => (congrFun (ha 1999 (by omega)) 7).trans hn.bd
  rw [eSoft]
  have hz : ∀ a, Ch 2000 σx a → nz (a.1 999 0) = true := fun a ha => by rw [ha 999 (by omega), h1]; rfl
  have hP : ∀ a b, Bs σx σm a b → PL a rs im b := fun a b hB => h.mv (Ex.ch hB.1 (by decide)) hB.2.2
  -- one set tried
  have one : ∀ (a b : cS) (v : Nat), Bs σx σm a b → JJ (x_isPeace a rs (nI v) (nI n)) (m_goes (si b 1 (ix 4) (b.1 1 (ix 4) ||| nI v)) (nI n)) (fun p q => Ch 2000 σx p.1 ∧ Kp σm q.1 ∧ ((p.2 = 1 ∧ q.2 = 0) ∨ (p.2 = 0 ∧ ¬ q.2 = 0))) := by
    intro a b v hB
    unfold x_isPeace
    refine JJ.gl (hz a hB.1) (JJ.ol (hB.copy hn hR) (fun z hW => JJ.nl ?_))
    rw [show (pb2 a 2000 1000 z).1 2999 7 = b.1 1 (ix 4) from hW.2.2.2.bd]
    exact jw_peace hW.bake eR (by omega) hn1
  have fin : ∀ (a b : cS) (p q : Int32), Bs σx σm a b → Bst p q → JJ (if p = -1 then some (a, -2) else if nI wh = 0 then ((x_bitCount p).bind fun r_30 => some (a, r_30)) else some (a, p)) (if q = -2 then some (b, q) else if nI wh = 1 then some (b, q) else ((m_bits q).bind fun r_41 => some (b, r_41))) (fun a b => a.2 = b.2 ∧ PL a.1 rs im b.1) := by
    intro a b p q hB hq
    rcases hq with ⟨rfl, rfl⟩ | ⟨s, hs, rfl, rfl⟩
    · exact JJ.tl rfl (JJ.tr rfl (JJ.ret ⟨rfl, hP a b hB⟩))
    · refine JJ.el (nI_nm1 (by omega)) (JJ.er (nI_nm2 (by omega)) ?_)
      by_cases e : wh = 0
      · subst e
        refine JJ.tl rfl (JJ.er (by decide) (JJ.bl (bcv_eq _) (JJ.br (m_bits_eq _) (JJ.ret ⟨bits_eq s hs, hP a b hB⟩))))
      · have : wh = 1 := by omega
        subst this
        exact JJ.el (by decide) (JJ.tr rfl (JJ.ret ⟨rfl, hP a b hB⟩))
  -- behind the last soft set the class goes on alone
  have skip : ∀ (d v : Nat), v + d = 2 ^ mm → S < v → ∀ (k : Nat), d < k → ∀ (a : cS) (p : Int32), Ch 2000 σx a → x_peace_36 rs (nI n) (nI wh) (fun σ_25 v_26 => if v_26 = -1 then some (σ_25, -2) else if nI wh = 0 then ((x_bitCount v_26).bind fun r_30 => some (σ_25, r_30)) else some (σ_25, v_26)) k a p (nI v) = (if p = -1 then some (a, -2) else if nI wh = 0 then ((x_bitCount p).bind fun r_30 => some (a, r_30)) else some (a, p)) := by
    intro d
    induction d with
    | zero =>
      intro v hv hSv k hk a p ha
      obtain ⟨k, rfl⟩ : ∃ q, k = q + 1 := ⟨k - 1, by omega⟩
      rw [x_peace_36, hz a ha, eMany a ha]
      have : v = 2 ^ mm := by omega
      rw [this]
      exact if_pos (nI_le (Nat.le_refl _) (by omega))
    | succ d ih =>
      intro v hv hSv k hk a p ha
      obtain ⟨k, rfl⟩ : ∃ q, k = q + 1 := ⟨k - 1, by omega⟩
      rw [x_peace_36, hz a ha, eMany a ha, nI_1, eBk a ha]
      have hne : ¬ nI v &&& σm.1 1 4 = 0 := by
        intro q
        have h3 := soft_b (and_M (by omega : v < 2 ^ mm)) q
        rw [eSoft, nI_and] at h3
        have h4 := (nI_eq (a := v &&& S) (b := v) (Nat.lt_of_le_of_lt Nat.and_le_left (by omega)) (by omega)).mp h3
        have h5 : v &&& S ≤ S := Nat.and_le_right
        omega
      show (if nI (2 ^ mm) ≤ nI v then _ else if nI v &&& σm.1 1 4 = 0 then _ else _) = _
      rw [if_neg (nI_ge (by omega) (by omega)), if_neg hne]
      exact ih (v + 1) (by omega) (by omega) k (by omega) a p ha
  refine JJ.loopE (S := cS × Int32) (T := cS × Int32) (Lx := fun k s i => x_peace_36 rs (nI n) (nI wh) (fun σ_25 v_26 => if v_26 = -1 then some (σ_25, -2) else if nI wh = 0 then ((x_bitCount v_26).bind fun r_30 => some (σ_25, r_30)) else some (σ_25, v_26)) k s.1 s.2 i) (Lm := fun k s i => m_peace_62 (nI n) (nI wh) (nI S) (fun σ_36 v_37 => if v_37 = -2 then some (σ_36, v_37) else if nI wh = 1 then some (σ_36, v_37) else ((m_bits v_37).bind fun r_41 => some (σ_36, r_41))) k s.1 s.2 i) (I := fun _ x y => Bs σx σm x.1 y.1 ∧ Bst x.2 y.2) (N := S + 1) 2000 ?_ ?_ (S + 1) 0 (by omega) FU FU (FU_gt (by omega)) (FU_gt (by omega)) (σx, -1) (b0, -2) ⟨hB0, Or.inl ⟨rfl, rfl⟩⟩
  · rintro k k' v ⟨a, p⟩ ⟨b, q⟩ hv ⟨hB, hq⟩ kk
    dsimp only at hB hq
    show JJ (x_peace_36 _ _ _ _ (k + 1) a p (nI v)) (m_peace_62 _ _ _ _ (k' + 1) b q (nI v)) _
    rw [x_peace_36, m_peace_62, eMany a hB.1, nI_1, eBk a hB.1]
    refine JJ.gl (hz a hB.1) (JJ.el (nI_ge (by omega) (by omega)) (JJ.er (nI_nlt (by omega) (by omega)) ?_))
    rw [← eSoft, soft_a (and_M (by omega : v < 2 ^ mm)), eSoft]
    have try_ : JJ ((x_isPeace a rs (nI v) (nI n)).bind fun (σ_14, r_13) => if r_13 = 0 then (x_peace_36 rs (nI n) (nI wh) (fun σ_25 v_26 => if v_26 = -1 then some (σ_25, -2) else if nI wh = 0 then ((x_bitCount v_26).bind fun r_30 => some (σ_25, r_30)) else some (σ_25, v_26)) k σ_14 p (nI (v + 1))) else (x_peace_36 rs (nI n) (nI wh) (fun σ_25 v_26 => if v_26 = -1 then some (σ_25, -2) else if nI wh = 0 then ((x_bitCount v_26).bind fun r_30 => some (σ_25, r_30)) else some (σ_25, v_26)) k σ_14 (nI v) (nI (v + 1)))) ((m_goes (si b 1 (ix 4) (b.1 1 (ix 4) ||| nI v)) (nI n)).bind fun (σ_17, r_16) => (if r_16 = 0 then some (nI v) else some q : Option Int32).bind fun t_18 => (m_laysBack σ_17).bind fun σ_21 => m_peace_62 (nI n) (nI wh) (nI S) (fun σ_36 v_37 => if v_37 = -2 then some (σ_36, v_37) else if nI wh = 1 then some (σ_36, v_37) else ((m_bits v_37).bind fun r_41 => some (σ_36, r_41))) k' σ_21 t_18 (nI (v + 1))) (fun a b => a.2 = b.2 ∧ PL a.1 rs im b.1) := by
      refine JJ.bd (one a b v hB) ?_
      rintro ⟨a2, x⟩ ⟨b2, y⟩ ⟨q1, q2, q3⟩
      dsimp only at q1 q2 q3
      rcases q3 with ⟨rfl, rfl⟩ | ⟨rfl, hy⟩
      · refine JJ.el (by decide) (JJ.br (if_pos rfl) (JJ.or q2.back (fun b3 ⟨e1, e2⟩ => ?_)))
        exact kk (a2, nI v) (b3, nI v) ⟨⟨q1, e2, e1⟩, Or.inr ⟨v, by omega, rfl, rfl⟩⟩
      · refine JJ.tl rfl (JJ.br (if_neg hy) (JJ.or q2.back (fun b3 ⟨e1, e2⟩ => ?_)))
        exact kk (a2, p) (b3, q) ⟨⟨q1, e2, e1⟩, hq⟩
    refine JJ.ii Iff.rfl (fun _ _ => ?_) (fun _ _ => kk (a, p) (b, q) ⟨hB, hq⟩)
    rcases hq with ⟨rfl, rfl⟩ | ⟨s, hs, rfl, rfl⟩
    · exact JJ.tl rfl (JJ.tr rfl try_)
    · refine JJ.el (nI_nm1 (by omega)) (JJ.er (nI_nm2 (by omega)) ?_)
      refine JJ.bl (bcv_eq _) (JJ.bl (bcv_eq _) (JJ.br (m_bits_eq _) (JJ.br (m_bits_eq _) ?_)))
      rw [bits_eq v (by omega), bits_eq s hs]
      by_cases c : bsum (nI s) 16 ≤ bsum (nI v) 16
      · exact JJ.el ((n_le _ _).mpr c) (JJ.tr c (kk (a, nI s) (b, nI s) ⟨hB, Or.inr ⟨s, hs, rfl, rfl⟩⟩))
      · exact JJ.tl ((n_lt _ _).mp c) (JJ.er c try_)
  · rintro k k' ⟨a, p⟩ ⟨b, q⟩ hk ⟨hB, hq⟩
    dsimp only at hB hq
    show JJ (x_peace_36 _ _ _ _ (k + 1) a p (nI (S + 1))) (m_peace_62 _ _ _ _ (k' + 1) b q (nI (S + 1))) _
    rw [skip (2 ^ mm - (S + 1)) (S + 1) (by omega) (by omega) (k + 1) (by omega) a p hB.1, m_peace_62]
    exact JJ.tr (nI_lt (by omega) (by omega)) (fin a b p q hB hq)
end PE
