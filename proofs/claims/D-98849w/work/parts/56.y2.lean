/-! Text: the recursion tied; clauses and rules held while they are made -/
set_option maxRecDepth 100000
noncomputable def t_F : Nat → cS → Option (cS × Nat × Option (Wds → Int32))
  | 0, _ => none
  | N + 1, σ => t_fact (t_F N) (t_tested (t_parted (t_F N))) σ
theorem w_t_F (l : Launch) {g : gG} {ad : Nat → Nat} {q : xR} (had : tI_ ad) : ∀ (N : Nat) (σ σr : cS) (c : Nat) (o : Option (Wds → Int32)), t_F N σ = some (σr, c, o) → MY l yX4_fact cX4_fact 6 (some (.object "DoughBorder$Test")) (30 + 3 * N) (700 + 120 * N) g ad q σ σr c [.ref (ad 997)] RT o := by
  intro N
  induction N with
  | zero => intro σ σr c o hf; cases hf
  | succ N ih =>
    intro σ σr c o hf
    refine w_t_fact l had (F := t_F N) (T := t_tested (t_parted (t_F N))) (fF := 30 + 3 * N) (lF := 700 + 120 * N) (fT := 32 + 3 * N) (lT := 780 + 120 * N) ih (fun σ σr c o hf => ?_) (by omega) hf
    refine w_t_tested l had (P := t_parted (t_F N)) (fP := 31 + 3 * N) (lP := 740 + 120 * N) (fun σ σr c o hf => ?_) (by omega) hf
    exact w_t_parted l had (F := t_F N) (fF := 30 + 3 * N) (lF := 700 + 120 * N) ih (by omega) hf
noncomputable def t_TT (σ : cS) : Option (cS × Nat × Option (Wds → Int32)) := t_tested (t_parted (t_F 12)) σ
theorem w_t_TT (l : Launch) {g : gG} {ad : Nat → Nat} {q : xR} (had : tI_ ad) {σ σr : cS} {c : Nat} {o : Option (Wds → Int32)} (hf : t_TT σ = some (σr, c, o)) : MY l yX4_tested cX4_tested 2 (some (.object "DoughBorder$Test")) 68 2220 g ad q σ σr c [.ref (ad 997)] RT o :=
  w_t_tested l had (P := t_parted (t_F 12)) (fP := 67) (lP := 2180) (fun σ σr c o hf => w_t_parted l had (F := t_F 12) (fF := 66) (lF := 2140) (w_t_F l had 12) (by omega) hf) (by omega) hf
abbrev RC (L : va_W) (r : (Wds → Int64) × Option (Wds → Int32)) (a : Nat) : Prop := FClause L L.length r a
theorem RC.l {n c : Nat} {nd nd1 : Nd} {r : (Wds → Int64) × Option (Wds → Int32)} {a : Nat} (h : RC (ndl n nd) r a) : RC (ndl (n + c) (nda n nd nd1)) r a := FClause_sub ndl_l (by rw [ndl_len, ndl_len]; omega) h
theorem RC.r {n c : Nat} {nd nd1 : Nd} {r : (Wds → Int64) × Option (Wds → Int32)} {a : Nat} (h : RC (ndl c nd1) r a) : RC (ndl (n + c) (nda n nd nd1)) r a := FClause_sub ndl_r (by rw [ndl_len, ndl_len]; omega) h
theorem RC.of0 {n : Nat} {nd : Nd} {a va : Nat} {φ : Wds → Int64} (h1 : RV (ndl n nd) φ va) : RC (ndl (n + 1) (nda n nd (fun _ => (a, .inr (6, [.ref va, .null]))))) (φ, none) a := ⟨va, none, ndl_c, FVal_sub ndl_l (by rw [ndl_len, ndl_len]; omega) h1, rfl⟩
theorem RC.of1 {n : Nat} {nd : Nd} {a va ta : Nat} {φ : Wds → Int64} {τ : Wds → Int32} (h1 : RV (ndl n nd) φ va) (h2 : RT (ndl n nd) τ ta) : RC (ndl (n + 1) (nda n nd (fun _ => (a, .inr (6, [.ref va, .ref ta]))))) (φ, some τ) a := ⟨va, some ta, ndl_c, FVal_sub ndl_l (by rw [ndl_len, ndl_len]; omega) h1, ta, rfl, FTest_sub ndl_l (by rw [ndl_len, ndl_len]; omega) h2⟩
/-- a rule whose clauses lie in L -/
def RR (g : gG) (L : va_W) (r : RS) (a : Nat) : Prop := ∃ (ca : Nat) (f : Nat → Option Nat), (a, .inr (5, [.ref ca, .int (nI r.length)])) ∈ L ∧ (ca, .inl (g.2.1 8, 12, .inr (.inr (.inr (.inr f))))) ∈ L ∧ r.length ≤ 12 ∧ ∀ (i : Nat) (q : (Wds → Int64) × Option (Wds → Int32)), r[i]? = some q → ∃ b, f i = some b ∧ FClause L L.length q b
theorem va_D_app {A : Nat → Prop} {ws : va_W} {a : Nat} {x : va_E} (h : va_D A ws) (ha : A a) (hn : ∀ q ∈ ws, q.1 ≠ a) : va_D A (ws ++ [(a, x)]) := by
  have cs : ∀ (i : Nat) (p : Nat × va_E), (ws ++ [(a, x)])[i]? = some p → (ws[i]? = some p) ∨ (i = ws.length ∧ p = (a, x)) := by
    intro i p hi
    by_cases hl : i < ws.length
    · rw [List.getElem?_append_left hl] at hi; exact Or.inl hi
    · rw [List.getElem?_append_right (by omega)] at hi
      have hz : i - ws.length < 1 := (List.getElem?_eq_some_iff.mp hi).1
      rw [show i - ws.length = 0 by omega] at hi
      cases hi
      exact Or.inr ⟨by omega, rfl⟩
  refine ⟨fun i j p q hi hj e => ?_, fun k q hk => ?_⟩
  · rcases cs i p hi with h1 | ⟨h1, rfl⟩ <;> rcases cs j q hj with h2 | ⟨h2, rfl⟩
    · exact h.1 i j p q h1 h2 e
    · exact absurd e (hn p (List.mem_of_getElem? h1))
    · exact absurd e.symm (hn q (List.mem_of_getElem? h2))
    · omega
  · rcases cs k q hk with h1 | ⟨-, rfl⟩
    · exact h.2 k q h1
    · exact ha
section YR2
variable {p : Program} {l : Launch} {e : Env} {s : State} {m : MethodId} {args : Array Value} {below : List Frame} {meth : Method} {c : Code} {H : Heap} {locs : List Loc} {Q : State → Prop} {R : Room} {cells slots fr lo mc kc : Nat}
variable {cc : ByteArray} {nL : Nat} {own : String} {ret : Option FieldType} {g : gG} {A : Nat → Prop} {ad : Nat → Nat} {q : xR} {σ σ' : cS} {pd : List Nat} {pz nd : Nd} {n : Nat} {pc : Nat} {ls : Array Slot} {rest : List Value} {lv : List (Nat × Value)}
def setp (pz : Nd) (b : Nat) (x : Nat × va_E) : Nd := fun k => if k = b then x else pz k
theorem setp_s {pz : Nd} {b : Nat} {x : Nat × va_E} : setp pz b x b = x := if_pos rfl
theorem setp_n {pz : Nd} {b k : Nat} {x : Nat × va_E} (h : k ≠ b) : setp pz b x k = pz k := if_neg h
/-- what is held, changed in place -/
theorem y_setp (hpd : pdOk pd) {b : Nat} (hb : b ∈ pd) {x : va_E} {H1 : Heap} {l1 : List Loc} (h : WB g A s.heap (yIds pd n) (ya ad pz nd) (va_up (yE g ad q σ pz nd) b x) H1 l1) : WBY g A s.heap ad q σ pd (setp pz b ((pz b).1, x)) n nd H1 l1 := by
  obtain ⟨hb1, hb2⟩ := hpd.2 b hb
  refine h.perm (yIds_nd hpd n) id (fun k hk => ⟨hk, ?_, ?_⟩) (fun _ _ _ _ e => e)
  · show ya ad (setp pz b ((pz b).1, x)) nd k = ya ad pz nd k
    unfold ya setp
    split
    · rfl
    · split
      · by_cases hkb : k = b
        · subst hkb; simp
        · simp [hkb]
      · rfl
  · show yE g ad q σ (setp pz b ((pz b).1, x)) nd k = va_up (yE g ad q σ pz nd) b x k
    by_cases hkb : k = b
    · subst hkb
      rw [yE_p hb1 hb2, setp_s]
      simp [va_up]
    · rw [show va_up (yE g ad q σ pz nd) b x k = yE g ad q σ pz nd k by simp [va_up, hkb]]
      unfold yE setp
      simp [hkb]
theorem y_put (X : MX p s m args meth c cc nL own ret g A) (hW : WBY g A s.heap ad q σ pd pz n nd H locs) (hpd : pdOk pd) {b a ci j index N : Nat} {C host : String} {T : u_T} {ty0 : Nat → FieldType} {fs : List Value} {v : Value} (hb : b ∈ pd) (hz : pz b = (a, .inr (ci, fs))) (hc : clG[ci]? = some (C, T, N)) (hin : ∀ w ∈ u_ws C T N, w ∈ lw_all) (hty : ∀ k, k < N → parseFieldDescriptor (T k).2.2.1 = some (ty0 k)) (hnm : ∀ a, a < N → ∀ b, b < N → a ≠ b → (T a).2.1 ≠ (T b).2.1) (hj : j < N) (hl : Cond.fieldLinkNest own index (T j).1 (T j).2.1 (T j).2.2.1 host ∈ lw_tbl) (hfin : (T j).2.2.2 = false) (hn : narrow (ty0 j) v = v) (hfit : fits (ty0 j) v = true) (hlen : j < fs.length) (hdg : decode cc pc = .ok (.putfield index, 3))
    (kk : ∀ (pz : Nd) (H1 : Heap) (l1 : List Loc), pz b = (a, .inr (ci, fs.set j v)) → WBY g A s.heap ad q σ pd pz n nd H1 l1 → W p l e R s m args below meth c H1 l1 cells slots Q (F0 m (pc + 3) ls rest)) : W p l e R s m args below meth c H locs cells slots Q (F0 m pc ls (v :: .ref a :: rest)) := by
  obtain ⟨hb1, hb2⟩ := hpd.2 b hb
  have e9 : ya ad pz nd b = a := by rw [ya_p hb1 hb2, hz]
  rw [← e9]
  refine r_putN X hW (k := b) (yIds_p hb) (by rw [yE_p hb1 hb2, hz]) hc hin hty hnm hj hl hfin hn hfit hlen hdg (fun H1 l1 h => kk _ H1 l1 ?_ (y_setp hpd hb h))
  rw [setp_s, hz]
theorem y_put2 (X : MX p s m args meth c cc nL own ret g A) (hW : WBY g A s.heap ad q σ pd pz n nd H locs) (hpd : pdOk pd) {b a ci j index N : Nat} {C host : String} {T : u_T} {ty0 : Nat → FieldType} {fs : List Value} {v : Value} (hb : b ∈ pd) (hz : pz b = (a, .inr (ci, fs))) (hc : clG[ci]? = some (C, T, N)) (hin : ∀ w ∈ u_ws C T N, w ∈ lw_all) (hty : ∀ k, k < N → parseFieldDescriptor (T k).2.2.1 = some (ty0 k)) (hnm : ∀ a, a < N → ∀ b, b < N → a ≠ b → (T a).2.1 ≠ (T b).2.1) (hj : j < N) (hl : Cond.fieldLinkNest own index (T j).1 (T j).2.1 (T j).2.2.1 host ∈ lw_tbl) (hfin : (T j).2.2.2 = false) (hn : narrow (ty0 j) v = v) (hfit : fits (ty0 j) v = true) (hlen : j < fs.length) (hdg : decode cc pc = .ok (.putfield index, 3))
    (kk : ∀ (pz1 : Nd) (H1 : Heap) (l1 : List Loc), pz1 b = (a, .inr (ci, fs.set j v)) → (∀ k, k ≠ b → pz1 k = pz k) → WBY g A s.heap ad q σ pd pz1 n nd H1 l1 → W p l e R s m args below meth c H1 l1 cells slots Q (F0 m (pc + 3) ls rest)) : W p l e R s m args below meth c H locs cells slots Q (F0 m pc ls (v :: .ref a :: rest)) := by
  obtain ⟨hb1, hb2⟩ := hpd.2 b hb
  have e9 : ya ad pz nd b = a := by rw [ya_p hb1 hb2, hz]
  rw [← e9]
  refine r_putN X hW (k := b) (yIds_p hb) (by rw [yE_p hb1 hb2, hz]) hc hin hty hnm hj hl hfin hn hfit hlen hdg (fun H1 l1 h => kk _ H1 l1 ?_ (fun k hk => setp_n hk) (y_setp hpd hb h))
  rw [setp_s, hz]
theorem y_get (X : MX p s m args meth c cc nL own ret g A) (hW : WBY g A s.heap ad q σ pd pz n nd H locs) (hpd : pdOk pd) {b a ci j index N : Nat} {C host : String} {T : u_T} {fs : List Value} {v : Value} (hb : b ∈ pd) (hz : pz b = (a, .inr (ci, fs))) (hc : clG[ci]? = some (C, T, N)) (hin : ∀ w ∈ u_ws C T N, w ∈ lw_all) (hj : j < N) (hl : Cond.fieldLinkNest own index (T j).1 (T j).2.1 (T j).2.2.1 host ∈ lw_tbl) (hv : fs[j]? = some v) (hdg : decode cc pc = .ok (.getfield index, 3))
    (kk : W p l e R s m args below meth c H locs cells slots Q (F0 m (pc + 3) ls (v :: rest))) : W p l e R s m args below meth c H locs cells slots Q (F0 m pc ls (.ref a :: rest)) := by
  obtain ⟨hb1, hb2⟩ := hpd.2 b hb
  have e9 : ya ad pz nd b = a := by rw [ya_p hb1 hb2, hz]
  rw [← e9]
  exact r_getN X hW (k := b) (yIds_p hb) (by rw [yE_p hb1 hb2, hz]) hc hin hj hl hv hdg kk
/-- a clause into the array that is held -/
theorem y_aast (X : MX p s m args meth c cc nL own ret g A) (hW : WBY g A s.heap ad q σ pd pz n nd H locs) (hpd : pdOk pd) {b a v : Nat} {r : (Wds → Int64) × Option (Wds → Int32)} {f : Nat → Option Nat} (hb : b ∈ pd) (hz : pz b = (a, .inl (g.2.1 8, 12, .inr (.inr (.inr (.inr f)))))) (hv : RC (ndl n nd) r v) {i : Int32} (hin : inb i 12 = true) (hdg : decode cc pc = .ok (.aastore, 1))
    (kk : ∀ (pz1 : Nd) (H1 : Heap) (l1 : List Loc), pz1 b = (a, .inl (g.2.1 8, 12, .inr (.inr (.inr (.inr (va_up f (ix i) (some v))))))) → (∀ k, k ≠ b → pz1 k = pz k) → WBY g A s.heap ad q σ pd pz1 n nd H1 l1 → W p l e R s m args below meth c H1 l1 cells slots Q (F0 m (pc + 1) ls rest)) : W p l e R s m args below meth c H locs cells slots Q (F0 m pc ls (.ref v :: .int i :: .ref a :: rest)) := by
  obtain ⟨hb1, hb2⟩ := hpd.2 b hb
  have e9 : ya ad pz nd b = a := by rw [ya_p hb1 hb2, hz]
  obtain ⟨va, ta, hm, -, -⟩ := hv
  obtain ⟨k, hk, hnk⟩ := ndl_mem.mp hm
  obtain ⟨qk, -, hqk⟩ := wl_i (ad := ya ad pz nd) (E := yE g ad q σ pz nd) (yIds_n hk : 20000 + k ∈ yIds pd n)
  rw [ya_n, yE_n, hnk] at hqk
  obtain ⟨q0, hq0, hq⟩ := wl_i (ad := ya ad pz nd) (E := yE g ad q σ pz nd) (yIds_p hb : b ∈ yIds pd n)
  rw [yE_p hb1 hb2, hz, e9] at hq
  refine va_astq X.1.1 X.1.2.1 X.2.2.2.1.1 hW.1 hW.D hW.2.2 q0 8 qk 6 (r := (RX6, TX6, 2)) hq rfl hqk rfl (inb_in hin) hdg (fun H1 l1 hP _ hS => ?_)
  rw [← e9] at hP
  have h := y_setp hpd hb (⟨wl_set hW.2.1.1 hW.2.1.2 hq0 hP, hW.2.1, hS⟩ : WB g A s.heap (yIds pd n) (ya ad pz nd) (va_up (yE g ad q σ pz nd) b (.inl (g.2.1 8, 12, .inr (.inr (.inr (.inr (va_up f (ix i) (some v)))))))) H1 l1)
  exact kk _ H1 l1 (by rw [setp_s, hz]) (fun k hk => setp_n hk) h
end YR2
/-- a rule's constructor: one array more -/
def MRI (l : Launch) (g : gG) (a : Nat) : Prop := ∀ sz : Nat, Met l yX5_init (ws_ yX5_init cX5_init 1 none) ({ frames := 2, cells := 1, slots := 12, locals := 60 } : Room) (va_Pc [.ref a] (Pre g [0] (fun _ => a) (oneE (.inr (5, [.null, .int 0]))) sz)) (fun _ st oc t => (oc = .returned none ∧ ∃ ca : Nat, sz ≤ ca ∧ va_P g.1 clG [(a, .inr (5, [.ref ca, .int 0])), (ca, .inl (g.2.1 8, 12, .inr (.inr (.inr (.inr (fun _ => none))))))] t.heap) ∧ va_F (wA [0] (fun _ => a) sz) st t) 1 12 (wA [0] (fun _ => a) sz)
theorem wb_X5_init {p : Program} {l : Launch} {e : Env} {s : State} {m : MethodId} {args : Array Value} {below : List Frame} {meth : Method} {c : Code} {ls : Array Slot} {g : gG} {a : Nat} (X : MX p s m args meth c cX5_init 1 RX5 none g (wA [0] (fun _ => a) s.heap.size)) (hin2 : meth.name = "<init>") (hW : WB g (wA [0] (fun _ => a) s.heap.size) s.heap [0] (fun _ => a) (oneE (.inr (5, [.null, .int 0]))) s.heap []) (hl : lv_has ls 1 [(0, .ref a)]) :
    W p l e ({ frames := 2, cells := 1, slots := 12, locals := 60 } : Room) s m args below meth c s.heap [] 0 0 (MQ below (fun _ st oc t => (oc = .returned none ∧ ∃ ca : Nat, s.heap.size ≤ ca ∧ va_P g.1 clG [(a, .inr (5, [.ref ca, .int 0])), (ca, .inl (g.2.1 8, 12, .inr (.inr (.inr (.inr (fun _ => none))))))] t.heap) ∧ va_F (wA [0] (fun _ => a) s.heap.size) st t) args s 1 12 (wA [0] (fun _ => a) s.heap.size)) (F0 m 0 ls []) := by
  have hx := X.1.1
  have hb := X.1.2.1
  refine lv_aload_n hx hb dX5_init_0 rfl (lv_at hl 0 rfl) ?_
  refine W.objInit hx hb X.1.2.2.2.1 (X.1.2.2.2.2 _ q637) (X.1.2.2.2.2 _ q152) (X.1.2.2.2.2 _ q153) rfl (by rw [X.1.2.2.1]; exact hl.1) rfl dX5_init_1 (Nat.le_of_ble_eq_true rfl) (Nat.le_of_ble_eq_true rfl) ?_
  refine W.eq (g2 := F0 m 4 ls []) rfl ?_
  refine lv_aload_n hx hb dX5_init_4 rfl (lv_at hl 0 rfl) ?_
  refine lv_bipush (v := 12) hx hb dX5_init_5 (by decide) ?_
  refine va_newq hx hb X.1.2.2.2.1 (X.1.2.2.2.2 _ q638) (X.2.2.2.1.2.2 "DoughBorder$Clause" (by decide)) X.2.2.2.1.1 hW.1 hW.D hW.2.2 X.2.2.2.2.2 (by decide) (by decide : (12 : Int32).toNatClampNeg = 12) (by decide) (Nat.le_refl 1) (Nat.le_refl 12) dX5_init_7 (fun ca cA H hK hP hD hS => ?_)
  have h8 : cA = g.2.1 8 := by
    obtain ⟨-, -, -, -, -, -, h1⟩ := hK.2 8 (g.2.1 8, .object "DoughBorder$Clause") rfl
    obtain ⟨-, -, -, -, -, -, h2⟩ := hK.2 9 (cA, .object "DoughBorder$Clause") rfl
    exact Option.some.inj (h2.symm.trans h1)
  subst h8
  have hne : ca ≠ a := fun e => by
    have := hD.1 0 1 _ _ rfl rfl e.symm
    omega
  have hge : s.heap.size ≤ ca := by
    rcases hD.2 1 _ rfl with ⟨k, -, e⟩ | h
    · exact absurd e hne
    · exact h
  have hW2 : WB g (wA [0] (fun _ => a) s.heap.size) s.heap [0, 1] (fun k => if k = 0 then a else ca) (fun k => if k = 0 then .inr (5, [.null, .int 0]) else .inl (g.2.1 8, 12, .inr (.inr (.inr (.inr (fun _ => none)))))) H [] := by
    refine ⟨hP, ⟨by decide, fun i j hi hj e => ?_, fun k hk => ?_⟩, hS⟩
    · simp only [List.mem_cons, List.not_mem_nil, or_false] at hi hj
      rcases hi with rfl | rfl <;> rcases hj with rfl | rfl
      · rfl
      · exact absurd e.symm hne
      · exact absurd e hne
      · rfl
    · simp only [List.mem_cons, List.not_mem_nil, or_false] at hk
      rcases hk with rfl | rfl
      · exact Or.inl ⟨0, List.mem_cons_self, rfl⟩
      · exact Or.inr hge
  refine r_putF X hW2 hin2 (k := 0) (ci := 5) (j := 0) (N := 2) (by decide) rfl rfl in_X5 tyX5_ok nmX5 (by decide) q640 rfl rfl rfl rfl (by show 0 < 2; decide) dX5_init_10 (fun H1 l1 hW3 => ?_)
  exact W.vret hx hb X.2.1 (fun t ht _ => ⟨⟨rfl, ca, hge, by rw [ht]; exact hW3.1⟩, hW3.2.2.F ht⟩) hW3.2.2.2.2 dX5_init_13 X.2.2.1
theorem w_X5_init (l : Launch) {g : gG} {a : Nat} : MRI l g a := by
  intro sz
  refine Met.ofW (cc := cX5_init) (maxL := 1) (ret := none) (by decide) rfl ?_
  intro p e s m args below meth c s₁ B hml hv
  obtain ⟨rfl, hsz, hP, hK, hF⟩ := hv
  subst hsz
  have hts := atoms_spec (ws := ws_ yX5_init cX5_init 1 none) B.pre
  have hts : ∀ w ∈ lw_all, w.before _ s = true := fun w h => hts w (List.mem_cons_of_mem _ h)
  have hl := lv_entry [.ref a] (n := 1) (Nat.le_of_ble_eq_true rfl)
  rw [lg_entry_eq]
  exact wb_X5_init ⟨⟨B.exec, B.bytes, hml, findClass_of_methodNamed B.named, hts⟩, B.returns, B.notSynchronized, hK, hF, fun q h => Or.inr h⟩ (name_of_methodNamed B.named B.method).1 ⟨hP, ⟨by decide, wI_0.1, fun k hk => Or.inl ⟨k, hk, rfl⟩⟩, va_S.rf⟩ hl
section YR3
variable {p : Program} {l : Launch} {e : Env} {s : State} {m : MethodId} {args : Array Value} {below : List Frame} {meth : Method} {c : Code} {H : Heap} {locs : List Loc} {Q : State → Prop} {fr lo mc kc : Nat}
variable {cc : ByteArray} {nL : Nat} {ret : Option FieldType} {g : gG} {A : Nat → Prop} {ad : Nat → Nat} {q : xR} {σ σ' : cS} {pz nd : Nd} {n : Nat} {pc : Nat} {ls : Array Slot} {rest : List Value} {lv : List (Nat × Value)}
theorem y_initR (X : MX p s m args meth c cc nL RX4 ret g A) (hW : WBY g A s.heap ad q σ [19999] pz n nd H locs) {a : Nat} (hz : pz 19999 = (a, .inr (5, [.null, .int 0]))) (hR : 3 ≤ fr ∧ 80 ≤ lo) (hls : lv_has ls nL lv) (hcat : (rest.map fun v => v.category).sum ≤ 8) (hcs : kc + 1 ≤ mc) (hdg : decode cc pc = .ok (.invokespecial 210, 3))
    (kk : ∀ (pz : Nd) (ca : Nat) (H1 : Heap) (l1 : List Loc), pz 19999 = (a, .inr (5, [.ref ca, .int 0])) → pz 19998 = (ca, .inl (g.2.1 8, 12, .inr (.inr (.inr (.inr (fun _ => none)))))) → WBY g A s.heap ad q σ [19998, 19999] pz n nd H1 l1 → W p l e (rmy fr lo mc) s m args below meth c H1 l1 (kc + 1) (12 * (kc + 1)) Q (F0 m (pc + 3) ls rest)) : W p l e (rmy fr lo mc) s m args below meth c H locs kc (12 * kc) Q (F0 m pc ls (.ref a :: rest)) := by
  have e9 : ya ad pz nd 19999 = a := by rw [ya_p (by decide) (by decide), hz]
  have m9 : 19999 ∈ yIds [19999] n := yIds_p List.mem_cons_self
  have hs0 : Sub (yIds [19999] n) (ya ad pz nd) (yE g ad q σ pz nd) (yE g ad q σ pz nd) [0] (fun _ => a) (oneE (.inr (5, [.null, .int 0]))) (oneE (.inr (5, [.null, .int 0]))) := by
    refine ⟨fun k hk => ⟨19999, m9, e9, by rw [yE_p (by decide) (by decide), hz]; rfl⟩, fun j hj => ?_⟩
    by_cases hjb : j = 19999
    · subst hjb
      exact Or.inl ⟨0, List.mem_cons_self, e9, by rw [yE_p (by decide) (by decide), hz]; rfl⟩
    · refine Or.inr ⟨rfl, fun k hk e => hjb ?_⟩
      rw [← e9] at e
      exact hW.I.1 _ _ hj m9 e
  have hr := va_runIN (R := rmy fr lo mc) (e := e) (below := below) (meth := meth) (locs := locs) X.1 (w_X5_init l (g := g) (a := a) H.size) ⟨va_cnB 0 X.1.2.2.2.2 (lw_meth q636) rfl rfl rfl (X.2.2.2.1.2.1 _ (nst_in q634 rfl)) (X.1.2.2.2.2 _ q133) ⟨by decide, by decide, by decide +kernel⟩ hR, rfl, X.1.2.2.2.2 _ q635⟩ ⟨pre_blind, fun U hU hWm => ⟨rfl, r_pre X hW hs0 U hU hWm⟩⟩ (g := F0 m pc ls (.ref a :: rest)) rfl (As := []) rfl hls.1 rfl (lv_room hcat) hdg (cells := kc) (slots := 12 * kc) (by show kc + 1 ≤ mc ∧ 12 * kc + 12 ≤ 12 * mc; omega)
  intro T hT XS
  obtain ⟨v, st₀, t, T', L, h0, X', hL, e1, e2, ⟨⟨hv, ca, hca, hb⟩, hF⟩, stp⟩ := hr T hT XS
  cases hv
  rw [show 12 * kc + 12 = 12 * (kc + 1) by omega] at X'
  have hk := hF.2
  have hz0 := hF.1
  rw [h0] at hk hz0
  have hA' := hs0.adr hW.2.1.2 hW.2.2 X.2.2.2.2.2
  have hS := hW.2.2
  have hlt : ∀ k ∈ yIds [19999] n, ya ad pz nd k < H.size := fun k hk1 => (wl_at hW.1 hk1).lt
  have hPn : va_P g.1 clG (wl (yIds [19999] n) (ya ad pz nd) (va_up (yE g ad q σ pz nd) 19999 (.inr (5, [.ref ca, .int 0])))) t.heap := by
    refine wl_P fun k hk1 => ?_
    by_cases hkb : k = 19999
    · subst hkb
      rw [e9, show va_up (yE g ad q σ pz nd) 19999 (.inr (5, [.ref ca, .int 0])) 19999 = .inr (5, [.ref ca, .int 0]) by simp [va_up]]
      exact hb 0 _ rfl
    · rw [show va_up (yE g ad q σ pz nd) 19999 (.inr (5, [.ref ca, .int 0])) k = yE g ad q σ pz nd k by simp [va_up, hkb]]
      have h1 := wl_at hW.1 hk1
      refine h1.kept (hk _ h1.lt ?_)
      rintro (⟨j, hj, e3⟩ | h3)
      · rw [← e9] at e3
        exact hkb (hW.I.1 _ _ hk1 m9 e3)
      · exact absurd h3 (Nat.not_le.mpr h1.lt)
  have hS' : va_S A s.heap t.heap (locs ++ L) := ⟨Nat.le_trans hS.1 hz0, fun q h1 h2 => by rw [hk q (Nat.lt_of_lt_of_le h1 hS.1) (fun z => h2 (hA' q z))]; exact hS.2.1 q h1 h2, fun q hq => by
    rcases List.mem_append.mp hq with h | h
    · exact hS.2.2 q h
    · exact hA' _ (hL q h)⟩
  have hW2 : WBY g A s.heap ad q σ [19999] (setp pz 19999 ((pz 19999).1, .inr (5, [.ref ca, .int 0]))) n nd t.heap (locs ++ L) := y_setp pdOk_1 List.mem_cons_self ⟨hPn, hW.2.1, hS'⟩
  generalize hpz : setp pz 19999 ((pz 19999).1, .inr (5, [.ref ca, .int 0])) = pz2 at hW2
  have hz2 : pz2 19999 = (a, .inr (5, [.ref ca, .int 0])) := by rw [← hpz, setp_s, hz]
  have had2 : ∀ k, ya ad pz2 nd k = ya ad pz nd k := by
    intro k
    rw [← hpz]
    unfold ya setp
    split
    · rfl
    · split
      · by_cases hkb : k = 19999
        · subst hkb; simp
        · simp [hkb]
      · rfl
  have hcaA : A ca := hA' ca (Or.inr hca)
  have hP3 : va_P g.1 clG (wl (yIds [19999] n) (ya ad pz2 nd) (yE g ad q σ pz2 nd) ++ [(ca, .inl (g.2.1 8, 12, .inr (.inr (.inr (.inr (fun _ => none))))))]) t.heap := by
    intro i z hi
    by_cases hl : i < (wl (yIds [19999] n) (ya ad pz2 nd) (yE g ad q σ pz2 nd)).length
    · rw [List.getElem?_append_left hl] at hi
      exact hW2.1 i z hi
    · rw [List.getElem?_append_right (by omega)] at hi
      have hz9 : i - (wl (yIds [19999] n) (ya ad pz2 nd) (yE g ad q σ pz2 nd)).length < 1 := (List.getElem?_eq_some_iff.mp hi).1
      rw [show i - (wl (yIds [19999] n) (ya ad pz2 nd) (yE g ad q σ pz2 nd)).length = 0 by omega] at hi
      cases hi
      exact hb 1 _ rfl
  have hD3 : va_D A (wl (yIds [19999] n) (ya ad pz2 nd) (yE g ad q σ pz2 nd) ++ [(ca, .inl (g.2.1 8, 12, .inr (.inr (.inr (.inr (fun _ => none))))))]) := va_D_app hW2.D hcaA (fun z hz9 e => by
    obtain ⟨i, hi⟩ := List.getElem?_of_mem hz9
    obtain ⟨k, -, hk2, rfl⟩ := wl_r hi
    have := hlt k hk2
    have e : ya ad pz2 nd k = ca := e
    rw [had2] at e
    omega)
  have h4 := y_add hW2 (b := 19998) (by decide) pdOk_2 hP3 hD3 hS'
  obtain ⟨t2, a1, b1⟩ := kk _ ca T'.heap (locs ++ L) ((if_neg (show ¬ (19999 : Nat) = 19998 by decide)).trans hz2) (if_pos rfl) (by rw [e1]; exact h4) T' rfl X'
  exact ⟨t2, stp t2 a1, b1⟩
end YR3
