/-! PURE LAW: all of a strip (Vf), the relation of the two sides (PL), what leaves it as it is -/
set_option maxRecDepth 100000
/-- a row of the past, as it must be -/
def Rg (f : Nat → Int32) : Prop := (∃ t, t ≤ 999 ∧ f 1 = nI t) ∧ (∀ i, i < 10 → lk (f (2 + i))) ∧ ∀ i, i < 10 → ∃ s, s ≤ 9 ∧ f (22 + i) = nI s
def Ru (un : Nat) (δ σ : cS) : Prop := (δ.1 999 5 = nI un ∧ σ.1 999 51 = nI un ∧ un ≤ 20) ∧ (∀ i, i < 40 * un → δ.1 20 i = σ.1 49 i) ∧ ∀ r, r < un → Rg (fun j => σ.1 49 (40 * r + j))
def Rlg (mm lg : Nat) (δ σ : cS) : Prop := (δ.1 999 4 = nI lg ∧ σ.1 1 6 = nI lg ∧ lg ≤ 10) ∧ ∀ k, k < lg → (∃ n, n ≤ 30 ∧ δ.1 15 (3 * k) = nI n ∧ σ.1 12 k = nI n) ∧ (∃ m, m < mm ∧ δ.1 15 (3 * k + 1) = nI m ∧ σ.1 13 k = nI m) ∧ δ.1 15 (3 * k + 2) = σ.1 14 k
def Rtd (δ σ : cS) : Prop := δ.1 999 6 = σ.1 16 0 ∧ (∀ i, i < 10 → ∃ d, d ≤ 99 ∧ δ.1 9 i = nI d ∧ σ.1 15 i = nI d) ∧ (∀ i, i < 100 → ∃ w, w ≤ 9 ∧ σ.1 5 i = nI w) ∧ ∀ i, i < 10 → ∃ s, s ≤ 9 ∧ σ.1 4 i = nI s
def VfN (mm vv ww t lg un : Nat) (δ σ : cS) : Prop := Rn mm vv ww t t δ σ ∧ t ≤ 999 ∧ Rlg mm lg δ σ ∧ Rtd δ σ ∧ Ru un δ σ
/-- all of a strip -/
def Vf (δ σ : cS) : Prop := ∃ mm vv ww t lg un, VfN mm vv ww t lg un δ σ
/-- the strip's rows of the model and what of the past there is are the same -/
def szV (b : Nat) : Nat := if b = 1 then 7 else (mK b).2
theorem szV_le : ∀ b, szV b ≤ (mK b).2 := by
  intro b
  unfold szV
  split
  · rename_i h; subst h; decide
  · exact Nat.le_refl _
def EmV (σ σ' : cS) : Prop := (∀ b ∈ imA, b ≠ 50 → ∀ i, i < szV b → σ'.1 b i = σ.1 b i) ∧ σ'.1 999 51 = σ.1 999 51
theorem EmV.tr {a b c : cS} (h : EmV a b) (h2 : EmV b c) : EmV a c := ⟨fun k hk h5 i hi => (h2.1 k hk h5 i hi).trans (h.1 k hk h5 i hi), h2.2.trans h.2⟩
section VE
variable {cz mm vv ww t u lg un : Nat} {δ σ δ' σ' : cS}
theorem Rm.em (h : Rm cz mm vv ww t u δ σ) (e : ∀ b, 1 ≤ b → b ≤ 11 → ∀ i, i < szV b → σ'.1 b i = σ.1 b i) : Rm cz mm vv ww t u δ σ' := by
  have e1 : ∀ i, i < 7 → σ'.1 1 i = σ.1 1 i := e 1 (by decide) (by decide)
  obtain ⟨⟨⟨h1, h2⟩, h3, ⟨h4, h5⟩, ⟨h6, h7⟩, h8, h9, h10⟩, hl, ⟨hv, hc⟩, hw, ht, hb⟩ := h
  have v8 : vv ≤ 8 := hb.2.2.1
  have w8 : ww ≤ 8 := hb.2.2.2.1
  have c8 : cz ≤ 8 := hb.2.2.2.2.2.2
  refine ⟨⟨⟨h1, (e1 0 (by decide)).trans h2⟩, h3.trans (e1 1 (by decide)).symm, ⟨h4, (e1 2 (by decide)).trans h5⟩, ⟨h6, (e1 3 (by decide)).trans h7⟩, h8.trans (e1 4 (by decide)).symm, h9, (e1 5 (by decide)).trans h10⟩, fun i hi => ?_, ⟨fun v hv' => ?_, fun v hv' => (hc v hv').trans (e 9 (by decide) (by decide) v (by show v < 8; omega)).symm⟩, fun w hw' => ?_, fun i hi => (ht i hi).trans (e 5 (by decide) (by decide) i hi).symm, hb⟩
  · obtain ⟨a1, a2, a3, a4⟩ := hl i hi
    rw [e 2 (by decide) (by decide) i hi, e 3 (by decide) (by decide) i hi, e 4 (by decide) (by decide) i hi]
    exact ⟨a1, a2, a3, a4⟩
  · obtain ⟨a1, a2, a3⟩ := hv v hv'
    have hv8 : v < 8 := by omega
    rw [e 6 (by decide) (by decide) v hv8, e 7 (by decide) (by decide) v hv8, e 8 (by decide) (by decide) v hv8]
    exact ⟨a1, a2, a3⟩
  · obtain ⟨a1, a2⟩ := hw w hw'
    have hw8 : w < 8 := by omega
    rw [e 10 (by decide) (by decide) w hw8, e 11 (by decide) (by decide) w hw8]
    exact ⟨a1, a2⟩
theorem Rm.ex (h : Rm cz mm vv ww t u δ σ) (e : eqD δ' δ) : Rm cz mm vv ww t u δ' σ := by
  have e1 : ∀ i, i < 9 → δ'.1 999 i = δ.1 999 i := e.1
  obtain ⟨⟨⟨h1, h2⟩, h3, ⟨h4, h5⟩, ⟨h6, h7⟩, h8, h9, h10⟩, hl, ⟨hv, hc⟩, hw, ht, hb⟩ := h
  have v8 : vv ≤ 8 := hb.2.2.1
  have w8 : ww ≤ 8 := hb.2.2.2.1
  have c8 : cz ≤ 8 := hb.2.2.2.2.2.2
  refine ⟨⟨⟨(e1 0 (by decide)).trans h1, h2⟩, (e1 1 (by decide)).trans h3, ⟨(e1 2 (by decide)).trans h4, h5⟩, ⟨(e1 3 (by decide)).trans h6, h7⟩, (e1 7 (by decide)).trans h8, (e1 8 (by decide)).trans h9, h10⟩, fun i hi => ?_, ⟨fun v hv' => ?_, fun v hv' => (e.2 19 (by decide) (by decide) v (by show v < 8; omega)).trans (hc v hv')⟩, fun w hw' => ?_, fun i hi => (e.2 10 (by decide) (by decide) i hi).trans (ht i hi), hb⟩
  · obtain ⟨a1, a2, a3, a4⟩ := hl i hi
    rw [e.2 16 (by decide) (by decide) i hi, e.2 17 (by decide) (by decide) i hi, e.2 18 (by decide) (by decide) i hi]
    exact ⟨a1, a2, a3, a4⟩
  · obtain ⟨a1, a2, a3⟩ := hv v hv'
    have hv8 : v < 8 := by omega
    rw [e.2 11 (by decide) (by decide) v hv8, e.2 12 (by decide) (by decide) v hv8, e.2 13 (by decide) (by decide) v hv8]
    exact ⟨a1, a2, a3⟩
  · obtain ⟨a1, a2⟩ := hw w hw'
    rw [e.2 14 (by decide) (by decide) (2 * w) (by show 2 * w < 16; omega), e.2 14 (by decide) (by decide) (2 * w + 1) (by show 2 * w + 1 < 16; omega)]
    exact ⟨a1, a2⟩
theorem VfN.em (h : VfN mm vv ww t lg un δ σ) (e : EmV σ σ') : VfN mm vv ww t lg un δ σ' := by
  obtain ⟨hn, ht, ⟨⟨l1, l2, l3⟩, l4⟩, ⟨d1, d2, d3, d4⟩, ⟨⟨u1, u2, u3⟩, u4, u5⟩⟩ := h
  have eb : ∀ b, (b = 1 ∨ b = 2 ∨ b = 3 ∨ b = 4 ∨ b = 5 ∨ b = 6 ∨ b = 7 ∨ b = 8 ∨ b = 9 ∨ b = 10 ∨ b = 11 ∨ b = 12 ∨ b = 13 ∨ b = 14 ∨ b = 15 ∨ b = 16 ∨ b = 49) → ∀ i, i < szV b → σ'.1 b i = σ.1 b i := fun b hb i hi => e.1 b (by unfold imA; simp only [List.mem_cons, List.not_mem_nil, or_false]; omega) (by omega) i hi
  refine ⟨hn.em (fun b h1 h2 i hi => eb b (by omega) i hi), ht, ⟨⟨l1, (eb 1 (by omega) 6 (by decide)).trans l2, l3⟩, fun k hk => ?_⟩, ⟨d1.trans (eb 16 (by omega) 0 (by decide)).symm, fun i hi => ?_, fun i hi => ?_, fun i hi => ?_⟩, ⟨u1, e.2.trans u2, u3⟩, fun i hi => ?_, fun r hr => ?_⟩
  · have hk10 : k < 10 := by omega
    rw [eb 12 (by omega) k hk10, eb 13 (by omega) k hk10, eb 14 (by omega) k hk10]
    exact l4 k hk
  · rw [eb 15 (by omega) i hi]; exact d2 i hi
  · rw [eb 5 (by omega) i hi]; exact d3 i hi
  · rw [eb 4 (by omega) i hi]; exact d4 i hi
  · rw [eb 49 (by omega) i (by show i < 800; omega)]; exact u4 i hi
  · obtain ⟨a1, a2, a3⟩ := u5 r hr
    refine ⟨?_, fun i hi => ?_, fun i hi => ?_⟩
    · show ∃ t, t ≤ 999 ∧ σ'.1 49 (40 * r + 1) = nI t
      rw [eb 49 (by omega) _ (by show 40 * r + 1 < 800; omega)]; exact a1
    · show lk (σ'.1 49 (40 * r + (2 + i)))
      rw [eb 49 (by omega) _ (by show 40 * r + (2 + i) < 800; omega)]; exact a2 i hi
    · show ∃ s, s ≤ 9 ∧ σ'.1 49 (40 * r + (22 + i)) = nI s
      rw [eb 49 (by omega) _ (by show 40 * r + (22 + i) < 800; omega)]; exact a3 i hi
theorem VfN.ex (h : VfN mm vv ww t lg un δ σ) (e : eqD δ' δ) : VfN mm vv ww t lg un δ' σ := by
  obtain ⟨hn, ht, ⟨⟨l1, l2, l3⟩, l4⟩, ⟨d1, d2, d3, d4⟩, ⟨⟨u1, u2, u3⟩, u4, u5⟩⟩ := h
  refine ⟨hn.ex e, ht, ⟨⟨(e.1 4 (by decide)).trans l1, l2, l3⟩, fun k hk => ?_⟩, ⟨(e.1 6 (by decide)).trans d1, fun i hi => ?_, d3, d4⟩, ⟨(e.1 5 (by decide)).trans u1, u2, u3⟩, fun i hi => ?_, u5⟩
  · rw [e.2 15 (by decide) (by decide) (3 * k) (by show 3 * k < 30; omega), e.2 15 (by decide) (by decide) (3 * k + 1) (by show 3 * k + 1 < 30; omega), e.2 15 (by decide) (by decide) (3 * k + 2) (by show 3 * k + 2 < 30; omega)]
    exact l4 k hk
  · rw [e.2 9 (by decide) (by decide) i hi]; exact d2 i hi
  · rw [e.2 20 (by decide) (by decide) i (by show i < 800; omega)]; exact u4 i hi
theorem Vf.em (h : Vf δ σ) (e : EmV σ σ') : Vf δ σ' := by
  obtain ⟨a, b, c, d, f, g, h⟩ := h
  exact ⟨a, b, c, d, f, g, h.em e⟩
theorem Vf.ex (h : Vf δ σ) (e : eqD δ' δ) : Vf δ' σ := by
  obtain ⟨a, b, c, d, f, g, h⟩ := h
  exact ⟨a, b, c, d, f, g, h.ex e⟩
end VE
theorem eqD.rf {δ : cS} : eqD δ δ := ⟨fun _ _ => rfl, fun _ _ _ _ _ => rfl⟩
theorem eqD.tr {a b c : cS} (h : eqD a b) (h2 : eqD b c) : eqD a c := ⟨fun i hi => (h.1 i hi).trans (h2.1 i hi), fun k h1 h3 i hi => (h.2 k h1 h3 i hi).trans (h2.2 k h1 h3 i hi)⟩
theorem eqD.of {a b : cS} (h : ∀ k, k < 1000 → a.1 k = b.1 k) : eqD a b := ⟨fun i _ => by rw [h 999 (by decide)], fun k _ h2 i _ => by rw [h k (by omega)]⟩
/-- image at a of the model, unpacked -/
def unp (σ : cS) (a : Nat) : cS := (fun b i => if b = 999 then (if i = 51 then σ.1 64 (a + 47) else σ.1 999 i) else if b ∈ imA then σ.1 64 (a + offI b + i) else σ.1 b i, σ.2)
theorem unp_b {σ : cS} {a b i : Nat} (hb : b ∈ imA) : (unp σ a).1 b i = σ.1 64 (a + offI b + i) := by
  have : b ≠ 999 := by rintro rfl; revert hb; decide
  show (if b = 999 then _ else if b ∈ imA then _ else _) = _
  rw [if_neg this, if_pos hb]
theorem unp_u {σ : cS} {a : Nat} : (unp σ a).1 999 51 = σ.1 64 (a + 47) := rfl
def V0 (σ : cS) : Prop := (∀ i, i < 7 → σ.1 1 i = 0) ∧ σ.1 999 51 = 0
theorem V0.em {σ σ' : cS} (h : V0 σ) (e : EmV σ σ') : V0 σ' := ⟨fun i hi => (e.1 1 (by decide) (by decide) i (by show i < 7; omega)).trans (h.1 i hi), e.2.trans h.2⟩
def byt (x : Int32) : Prop := -128 ≤ x.toInt ∧ x.toInt ≤ 127
def Pt (σx σm : cS) : Prop := ∃ tp, tp ≤ 400 ∧ σx.1 999 10 = nI tp ∧ σm.1 999 27 = nI tp ∧ ∀ i, i < tp → σx.1 9 i = σm.1 37 i ∧ byt (σm.1 37 i)
def Pr (rs : List RS) (σx σm : cS) : Prop := rs.length ≤ 6 ∧ σx.1 999 15 = nI rs.length ∧ σm.1 999 31 = nI rs.length ∧ ∀ r, r < rs.length → RuleOK (rs.getD r []) σm r
def Fo (n : Nat) (v : Int32) : Prop := v = -1 ∨ ∃ r, r < n ∧ v = nI r
def Sd (v : Int32) : Prop := ∃ n, n < 2 ^ 31 ∧ v = nI n
def Ps (σx σm : cS) : Prop := (σx.1 999 0 = 0 ∧ V0 σm) ∨ (σx.1 999 0 = 1 ∧ Vf (vw σx 1000) σm)
def Pik (n : Nat) (σx σm : cS) (k : Nat) : Prop := (σx.1 (990 + k) 2 = σm.1 64 (1100 * k + 7) ∧ Sd (σx.1 (990 + k) 2)) ∧ (σx.1 (990 + k) 3 = σm.1 64 (1100 * k + 8) ∧ Fo n (σx.1 (990 + k) 3)) ∧ ((σx.1 (990 + k) 1 = 0 ∧ V0 (unp σm (1100 * k))) ∨ (σx.1 (990 + k) 1 = 1 ∧ Vf (vw σx (10000 + 1000 * k)) (unp σm (1100 * k))))
/-- which images are made, and what their blocks are -/
abbrev IM : Type := (Nat → Bool) × (Nat → Nat → Int32)
def Pi (im : IM) (n : Nat) (σx σm : cS) : Prop := (∀ k, k < 4 → (im.1 k = false ∧ σm.1 65 k = 0) ∨ (im.1 k = true ∧ σm.1 65 k = 1 ∧ Pik n σx σm k)) ∧ ∀ k, (990 ≤ k ∧ k ≤ 993) ∨ 10000 ≤ k → σx.1 k = im.2 k
def Pg (n : Nat) (σx σm : cS) : Prop := (σx.1 999 6 = σm.1 1 7 ∧ Sd (σx.1 999 6)) ∧ (σx.1 999 7 = σm.1 1 8 ∧ Fo n (σx.1 999 7)) ∧ σm.1 999 36 = 12 ∧ ∀ k, 9000 ≤ k → k < 10000 → ∀ i, σx.1 k i = 0
/-- THE RELATION: x with its rules rs and the images im that are made, against m -/
def PL (σx : cS) (rs : List RS) (im : IM) (σm : cS) : Prop := Pt σx σm ∧ Pr rs σx σm ∧ Pg rs.length σx σm ∧ Ps σx σm ∧ Pi im rs.length σx σm
/-- m's state is another in what does not count alone -/
def Em (σ σ' : cS) : Prop := (EmV σ σ' ∧ ∀ i, i = 7 ∨ i = 8 → σ'.1 1 i = σ.1 1 i) ∧ (∀ i, i = 27 ∨ i = 31 ∨ i = 36 → σ'.1 999 i = σ.1 999 i) ∧ (∀ b, (37 ≤ b ∧ b ≤ 43) ∨ b = 65 → σ'.1 b = σ.1 b) ∧ ∀ i, i < 4400 → σ'.1 64 i = σ.1 64 i
theorem Em.rf {σ : cS} : Em σ σ := ⟨⟨⟨fun _ _ _ _ _ => rfl, rfl⟩, fun _ _ => rfl⟩, fun _ _ => rfl, fun _ _ => rfl, fun _ _ => rfl⟩
theorem Em.tr {a b c : cS} (h : Em a b) (h2 : Em b c) : Em a c := ⟨⟨h.1.1.tr h2.1.1, fun i hi => (h2.1.2 i hi).trans (h.1.2 i hi)⟩, fun i hi => (h2.2.1 i hi).trans (h.2.1 i hi), fun k hk => (h2.2.2.1 k hk).trans (h.2.2.1 k hk), fun i hi => (h2.2.2.2 i hi).trans (h.2.2.2 i hi)⟩
theorem offI_lt : ∀ b ∈ imA, offI b + (mK b).2 ≤ 1029 := by decide
theorem unp_em {σ σ' : cS} {k : Nat} (hk : k < 4) (h : ∀ i, i < 1100 → σ'.1 64 (1100 * k + i) = σ.1 64 (1100 * k + i)) : EmV (unp σ (1100 * k)) (unp σ' (1100 * k)) := by
  refine ⟨fun b hb _ i hi => ?_, ?_⟩
  · have := offI_lt b hb
    have := szV_le b
    rw [unp_b hb, unp_b hb, Nat.add_assoc]
    exact h _ (by omega)
  · exact h 47 (by decide)
/-- x's state is another in what does not count alone -/
def Ex (σ σ' : cS) : Prop := (∀ k, (1000 ≤ k ∧ k < 2000) ∨ 9000 ≤ k ∨ k = 9 ∨ (990 ≤ k ∧ k ≤ 993) → σ'.1 k = σ.1 k) ∧ ∀ i, i = 0 ∨ i = 6 ∨ i = 7 ∨ i = 10 ∨ i = 15 → σ'.1 999 i = σ.1 999 i
theorem Ex.rf {σ : cS} : Ex σ σ := ⟨fun _ _ => rfl, fun _ _ => rfl⟩
theorem Ex.tr {a b c : cS} (h : Ex a b) (h2 : Ex b c) : Ex a c := ⟨fun k hk => (h2.1 k hk).trans (h.1 k hk), fun i hi => (h2.2 i hi).trans (h.2 i hi)⟩
theorem Ex.ch {σ σ' : cS} {b : Nat} (h : Ch b σ σ') (hb : 2000 ≤ b ∧ b ≤ 8000) : Ex σ σ' := ⟨fun k hk => h k (by omega), fun i _ => by rw [h 999 (by omega)]⟩
/-- what is seeded and what is in force may be others -/
theorem PL.gen {σx σx' σm σm' : cS} {rs : List RS} {im : IM} (h : PL σx rs im σm) (x1 : ∀ k, (1000 ≤ k ∧ k < 2000) ∨ 9000 ≤ k ∨ k = 9 ∨ (990 ≤ k ∧ k ≤ 993) → σx'.1 k = σx.1 k) (x2 : ∀ i, i = 0 ∨ i = 10 ∨ i = 15 → σx'.1 999 i = σx.1 999 i) (m1 : EmV σm σm') (m2 : ∀ i, i = 27 ∨ i = 31 ∨ i = 36 → σm'.1 999 i = σm.1 999 i) (m3 : ∀ b, (37 ≤ b ∧ b ≤ 43) ∨ b = 65 → σm'.1 b = σm.1 b) (m4 : ∀ i, i < 4400 → σm'.1 64 i = σm.1 64 i) (hg1 : σx'.1 999 6 = σm'.1 1 7 ∧ Sd (σx'.1 999 6)) (hg2 : σx'.1 999 7 = σm'.1 1 8 ∧ Fo rs.length (σx'.1 999 7)) : PL σx' rs im σm' := by
  obtain ⟨⟨tp, t1, t2, t3, t4⟩, ⟨r1, r2, r3, r4⟩, ⟨g1, g2, g3, g4⟩, hs, hi⟩ := h
  refine ⟨⟨tp, t1, (x2 10 (by omega)).trans t2, (m2 27 (by omega)).trans t3, fun i hi => ?_⟩, ⟨r1, (x2 15 (by omega)).trans r2, (m2 31 (by omega)).trans r3, fun r hr => (r4 r hr).mv (Sl.of (fun k h1 h2 => m3 k (by omega)))⟩, ⟨hg1, hg2, (m2 36 (by omega)).trans g3, fun k h1 h2 i => by rw [x1 k (by omega)]; exact g4 k h1 h2 i⟩, ?_, ⟨fun k hk => ?_, fun k hk => (x1 k (by omega)).trans (hi.2 k hk)⟩⟩
  · rw [x1 9 (by omega), m3 37 (by omega)]; exact t4 i hi
  · rcases hs with ⟨a, b⟩ | ⟨a, b⟩
    · exact Or.inl ⟨(x2 0 (by omega)).trans a, b.em m1⟩
    · exact Or.inr ⟨(x2 0 (by omega)).trans a, (b.em m1).ex (eqD.of (fun k hk => x1 (1000 + k) (by omega)))⟩
  · rcases hi.1 k hk with ⟨a, b⟩ | ⟨a, b, c1, c2, c3⟩
    · exact Or.inl ⟨a, by rw [m3 65 (by omega)]; exact b⟩
    · refine Or.inr ⟨a, by rw [m3 65 (by omega)]; exact b, ?_, ?_, ?_⟩
      · rw [x1 (990 + k) (by omega), m4 _ (by omega)]; exact c1
      · rw [x1 (990 + k) (by omega), m4 _ (by omega)]; exact c2
      · have eu := unp_em hk (fun i hi => m4 (1100 * k + i) (by omega))
        rw [x1 (990 + k) (by omega)]
        rcases c3 with ⟨p, q⟩ | ⟨p, q⟩
        · exact Or.inl ⟨p, q.em eu⟩
        · exact Or.inr ⟨p, (q.em eu).ex (eqD.of (fun j hj => x1 (10000 + 1000 * k + j) (by omega)))⟩
theorem PL.mv {σx σx' σm σm' : cS} {rs : List RS} {im : IM} (h : PL σx rs im σm) (hx : Ex σx σx') (hm : Em σm σm') : PL σx' rs im σm' :=
  h.gen hx.1 (fun i hi => hx.2 i (by omega)) hm.1.1 hm.2.1 hm.2.2.1 hm.2.2.2 (by rw [hx.2 6 (by omega), hm.1.2 7 (by omega)]; exact h.2.2.1.1) (by rw [hx.2 7 (by omega), hm.1.2 8 (by omega)]; exact h.2.2.1.2.1)
/-- the tape may be another -/
theorem PL.tape {σx σx' σm σm' : cS} {rs : List RS} {im : IM} (h : PL σx rs im σm) (x1 : ∀ k, k ≠ 9 → k ≠ 999 → σx'.1 k = σx.1 k) (x2 : ∀ i, i ≠ 10 → σx'.1 999 i = σx.1 999 i) (m1 : ∀ k, k ≠ 37 → k ≠ 999 → σm'.1 k = σm.1 k) (m2 : ∀ i, i ≠ 27 → i ≠ 28 → i ≠ 29 → i ≠ 30 → i ≠ 32 → i ≠ 33 → i ≠ 34 → i ≠ 35 → σm'.1 999 i = σm.1 999 i) (ht : Pt σx' σm') : PL σx' rs im σm' := by
  obtain ⟨-, ⟨r1, r2, r3, r4⟩, ⟨g1, g2, g3, g4⟩, hs, hi⟩ := h
  have eV : EmV σm σm' := ⟨fun b hb _ i _ => by rw [m1 b (by intro e; subst e; revert hb; decide) (by intro e; subst e; revert hb; decide)], m2 51 (by decide) (by decide) (by decide) (by decide) (by decide) (by decide) (by decide) (by decide)⟩
  refine ⟨ht, ⟨r1, (x2 15 (by decide)).trans r2, (m2 31 (by decide) (by decide) (by decide) (by decide) (by decide) (by decide) (by decide) (by decide)).trans r3, fun r hr => (r4 r hr).mv (Sl.of (fun k h1 h2 => m1 k (by omega) (by omega)))⟩, ⟨?_, ?_, (m2 36 (by decide) (by decide) (by decide) (by decide) (by decide) (by decide) (by decide) (by decide)).trans g3, fun k h1 h2 i => by rw [x1 k (by omega) (by omega)]; exact g4 k h1 h2 i⟩, ?_, ⟨fun k hk => ?_, fun k hk => (x1 k (by omega) (by omega)).trans (hi.2 k hk)⟩⟩
  · rw [x2 6 (by decide), m1 1 (by decide) (by decide)]; exact g1
  · rw [x2 7 (by decide), m1 1 (by decide) (by decide)]; exact g2
  · rcases hs with ⟨a, b⟩ | ⟨a, b⟩
    · exact Or.inl ⟨(x2 0 (by decide)).trans a, b.em eV⟩
    · exact Or.inr ⟨(x2 0 (by decide)).trans a, (b.em eV).ex (eqD.of (fun k hk => x1 (1000 + k) (by omega) (by omega)))⟩
  · rcases hi.1 k hk with ⟨a, b⟩ | ⟨a, b, c1, c2, c3⟩
    · exact Or.inl ⟨a, by rw [m1 65 (by decide) (by decide)]; exact b⟩
    · refine Or.inr ⟨a, by rw [m1 65 (by decide) (by decide)]; exact b, ?_, ?_, ?_⟩
      · rw [x1 (990 + k) (by omega) (by omega), m1 64 (by decide) (by decide)]; exact c1
      · rw [x1 (990 + k) (by omega) (by omega), m1 64 (by decide) (by decide)]; exact c2
      · have eu := unp_em (σ := σm) (σ' := σm') hk (fun i hi => by rw [m1 64 (by decide) (by decide)])
        rw [x1 (990 + k) (by omega) (by omega)]
        rcases c3 with ⟨p, q⟩ | ⟨p, q⟩
        · exact Or.inl ⟨p, q.em eu⟩
        · exact Or.inr ⟨p, (q.em eu).ex (eqD.of (fun j hj => x1 (10000 + 1000 * k + j) (by omega) (by omega)))⟩
