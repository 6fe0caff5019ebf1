/-! constructors: worlds as lists that grow -/
set_option maxRecDepth 100000
def LW (g : gG) (A : Nat → Prop) (H0 : Heap) (ws : va_W) (H : Heap) (locs : List Loc) : Prop := va_P g.1 clG ws H ∧ va_D A ws ∧ va_S A H0 H locs
theorem va_RA_inj {U : State} {cA cB : ClassId} {ty : FieldType} (h1 : va_RA U cA ty) (h2 : va_RA U cB ty) : cA = cB := by
  cases ty with
  | object C =>
    obtain ⟨-, -, -, -, -, h1⟩ := h1
    obtain ⟨-, -, -, -, -, h2⟩ := h2
    exact Option.some.inj (h1.symm.trans h2)
  | _ => exact Option.some.inj (Eq.trans (Eq.symm h1) h2)
def σZ : cS := (fun _ _ => 0, fun _ _ => 0)
section CW
variable {p : Program} {l : Launch} {e : Env} {R : Room} {s : State} {m : MethodId} {args : Array Value} {below : List Frame} {meth : Method} {c : Code} {H : Heap} {locs : List Loc} {cells slots : Nat} {Q : State → Prop}
variable {cc : ByteArray} {nL : Nat} {own : String} {ret : Option FieldType} {g : gG} {A : Nat → Prop} {ws : va_W} {pc : Nat} {ls : Array Slot} {rest : List Value} {lv : List (Nat × Value)}
theorem LW.S (hW : LW g A s.heap ws H locs) : va_S A s.heap H locs := hW.2.2
theorem l_newa (X : MX p s m args meth c cc nL own ret g A) (hW : LW g A s.heap ws H locs) {atype : ArrayType} {ty : FieldType} {t N : Nat} {a0 : vp_A} {n : Int32} (harr : Cond.arrayClass ty ∈ lw_all) (hty : newarray.typeOf atype = ty) (ht : (tysG g)[t]? = some (g.2.1 t, ty)) (ha : ∀ cA : ClassId, vp_cell cA a0 = arrV cA N (fun _ => defaultValue ty)) (hn : ¬ n < 0) (hN : n.toNatClampNeg = N) (hbytes : N * componentBytes ty ≤ 536870912) (hcs : cells + 1 ≤ R.cells ∧ slots + N ≤ R.slots) (hdg : decode cc pc = .ok (.newarray atype, 2))
    (kk : ∀ (a : Nat) (H1 : Heap), LW g A s.heap (ws ++ [(a, .inl (g.2.1 t, a0))]) H1 locs → W p l e R s m args below meth c H1 locs (cells + 1) (slots + N) Q (F0 m (pc + 2) ls (.ref a :: rest))) : W p l e R s m args below meth c H locs cells slots Q (F0 m pc ls (.int n :: rest)) := by
  subst hty
  refine va_newa X.1.1 X.1.2.1 (X.1.2.2.2.2 _ harr) rfl X.2.2.2.1.1 hW.1 hW.2.1 hW.2.2 X.2.2.2.2.2 ha hn hN hbytes hcs.1 hcs.2 hdg (fun a cA H1 hK hP hD hS => ?_)
  have h1 := (X.2.2.2.1.1.2 t _ ht).2
  have h2 := (hK.2 (tysG g).length (cA, newarray.typeOf atype) (by rw [List.getElem?_append_right (Nat.le_refl _), Nat.sub_self]; rfl)).2
  have := va_RA_inj h2 h1
  subst this
  exact kk a H1 ⟨hP, hD, hS⟩
theorem l_newq (X : MX p s m args meth c cc nL own ret g A) (hW : LW g A s.heap ws H locs) {C : String} {t N index : Nat} {n : Int32} (hcl : Cond.classLink own index C ∈ lw_all) (hC : C ∈ aoL) (ht : (tysG g)[t]? = some (g.2.1 t, .object C)) (hn : ¬ n < 0) (hN : n.toNatClampNeg = N) (hbytes : N * 4 ≤ 536870912) (hcs : cells + 1 ≤ R.cells ∧ slots + N ≤ R.slots) (hdg : decode cc pc = .ok (.anewarray index, 3))
    (kk : ∀ (a : Nat) (H1 : Heap), LW g A s.heap (ws ++ [(a, .inl (g.2.1 t, N, rr (fun _ => none)))]) H1 locs → W p l e R s m args below meth c H1 locs (cells + 1) (slots + N) Q (F0 m (pc + 3) ls (.ref a :: rest))) : W p l e R s m args below meth c H locs cells slots Q (F0 m pc ls (.int n :: rest)) := by
  refine va_newq X.1.1 X.1.2.1 X.1.2.2.2.1 (X.1.2.2.2.2 _ hcl) (X.2.2.2.1.2.2 C hC) X.2.2.2.1.1 hW.1 hW.2.1 hW.2.2 X.2.2.2.2.2 hn hN hbytes hcs.1 hcs.2 hdg (fun a cA H1 hK hP hD hS => ?_)
  have h1 := (X.2.2.2.1.1.2 t _ ht).2
  have h2 := (hK.2 (tysG g).length (cA, .object C) (by rw [List.getElem?_append_right (Nat.le_refl _), Nat.sub_self]; rfl)).2
  have := va_RA_inj h2 h1
  subst this
  exact kk a H1 ⟨hP, hD, hS⟩
theorem l_new (X : MX p s m args meth c cc nL own ret g A) (hW : LW g A s.heap ws H locs) {C : String} {T : u_T} {N ci index : Nat} (hin : ∀ w ∈ u_ws C T N, w ∈ lw_all) (ty : Nat → FieldType) (hty : ∀ k, k < N → parseFieldDescriptor (T k).2.2.1 = some (ty k)) (hcl : Cond.classLink own index C ∈ lw_all) (hinst : Cond.instantiable C N ∈ lw_all) (hini : Cond.initialized C ∈ lw_all) (hc : clG[ci]? = some (C, T, N)) {fs : List Value} (hfs : ∀ j, j < N → defaultValue (ty j) = vp_V fs j) (hcs : cells + 1 ≤ R.cells ∧ slots + N ≤ R.slots) (hdg : decode cc pc = .ok (.new index, 3))
    (kk : ∀ (a : Nat) (H1 : Heap), LW g A s.heap (ws ++ [(a, .inr (ci, fs))]) H1 locs → W p l e R s m args below meth c H1 locs (cells + 1) (slots + N) Q (F0 m (pc + 3) ls (.ref a :: rest))) : W p l e R s m args below meth c H locs cells slots Q (F0 m pc ls rest) :=
  va_new X.1.1 X.1.2.1 X.1.2.2.2.2 hin ty hty X.1.2.2.2.1 (X.1.2.2.2.2 _ hcl) (X.1.2.2.2.2 _ hinst) (X.1.2.2.2.2 _ hini) X.2.2.2.1.1 hW.1 hW.2.1 hW.2.2 X.2.2.2.2.2 hc hfs hcs.1 hcs.2 hdg (fun a H1 hP hD hS => kk a H1 ⟨hP, hD, hS⟩)
theorem l_putF (X : MX p s m args meth c cc nL own ret g A) (hW : LW g A s.heap ws H locs) (hin2 : meth.name = "<init>") (q0 : Nat) {a ci j index N : Nat} {C : String} {T : u_T} {ty0 : Nat → FieldType} {fs : List Value} {v : Value} (he : ws[q0]? = some (a, .inr (ci, fs))) (hc : clG[ci]? = some (C, T, N)) (hin : ∀ w ∈ u_ws C T N, w ∈ lw_all) (hty : ∀ k, k < N → parseFieldDescriptor (T k).2.2.1 = some (ty0 k)) (hnm : ∀ a, a < N → ∀ b, b < N → a ≠ b → (T a).2.1 ≠ (T b).2.1) (hj : j < N) (hl : Cond.fieldLink own index (T j).1 (T j).2.1 (T j).2.2.1 ∈ lw_all) (hfin : (T j).2.2.2 = true) (hdecl : (T j).1 = own) (hn : narrow (ty0 j) v = v) (hfit : fits (ty0 j) v = true) (hlen : j < fs.length) (hdg : decode cc pc = .ok (.putfield index, 3))
    (kk : ∀ (H1 : Heap) (l1 : List Loc), LW g A s.heap (ws.set q0 (a, .inr (ci, fs.set j v))) H1 l1 → W p l e R s m args below meth c H1 l1 cells slots Q (F0 m (pc + 3) ls rest)) : W p l e R s m args below meth c H locs cells slots Q (F0 m pc ls (v :: .ref a :: rest)) :=
  va_putF X.1.1 X.1.2.1 X.1.2.2.2.2 hin ty0 hty hnm X.1.2.2.2.1 X.2.2.2.1.1 hW.1 hW.2.1 hW.2.2 q0 he hc j hj (X.1.2.2.2.2 _ hl) (fun _ h => h) hfin hin2 hdecl (hty j hj) hn hfit hlen hdg (fun H1 l1 hP hD hS => kk H1 l1 ⟨hP, hD, hS⟩)
theorem l_put (X : MX p s m args meth c cc nL own ret g A) (hW : LW g A s.heap ws H locs) (q0 : Nat) {a ci j index N : Nat} {C : String} {T : u_T} {ty0 : Nat → FieldType} {fs : List Value} {v : Value} (he : ws[q0]? = some (a, .inr (ci, fs))) (hc : clG[ci]? = some (C, T, N)) (hin : ∀ w ∈ u_ws C T N, w ∈ lw_all) (hty : ∀ k, k < N → parseFieldDescriptor (T k).2.2.1 = some (ty0 k)) (hnm : ∀ a, a < N → ∀ b, b < N → a ≠ b → (T a).2.1 ≠ (T b).2.1) (hj : j < N) (hl : Cond.fieldLink own index (T j).1 (T j).2.1 (T j).2.2.1 ∈ lw_all) (hfin : (T j).2.2.2 = false) (hn : narrow (ty0 j) v = v) (hfit : fits (ty0 j) v = true) (hlen : j < fs.length) (hdg : decode cc pc = .ok (.putfield index, 3))
    (kk : ∀ (H1 : Heap) (l1 : List Loc), LW g A s.heap (ws.set q0 (a, .inr (ci, fs.set j v))) H1 l1 → W p l e R s m args below meth c H1 l1 cells slots Q (F0 m (pc + 3) ls rest)) : W p l e R s m args below meth c H locs cells slots Q (F0 m pc ls (v :: .ref a :: rest)) :=
  va_put X.1.1 X.1.2.1 X.1.2.2.2.2 hin ty0 hty hnm X.1.2.2.2.1 X.2.2.2.1.1 hW.1 hW.2.1 hW.2.2 q0 he hc j hj (X.1.2.2.2.2 _ hl) (fun _ h => h) hfin (hty j hj) hn hfit hlen hdg (fun H1 l1 hP hD hS => kk H1 l1 ⟨hP, hD, hS⟩)
theorem l_iast (X : MX p s m args meth c cc nL own ret g A) (hW : LW g A s.heap ws H locs) (q0 : Nat) {a n : Nat} {f : Nat → Int32} (he : ws[q0]? = some (a, .inl (g.2.1 0, n, .inl f))) {i x : Int32} (hin : inb i n = true) (hdg : decode cc pc = .ok (.iastore, 1))
    (kk : ∀ (H1 : Heap) (l1 : List Loc), LW g A s.heap (ws.set q0 (a, .inl (g.2.1 0, n, .inl (upd f (ix i) x)))) H1 l1 → W p l e R s m args below meth c H1 l1 cells slots Q (F0 m (pc + 1) ls rest)) : W p l e R s m args below meth c H locs cells slots Q (F0 m pc ls (.int x :: .int i :: .ref a :: rest)) :=
  va_iast X.1.1 X.1.2.1 X.2.2.2.1.1 hW.1 hW.2.1 hW.2.2 q0 0 he rfl (inb_in hin) hdg (fun H1 l1 hP hD hS => kk H1 l1 ⟨hP, hD, hS⟩)
theorem l_aast (X : MX p s m args meth c cc nL own ret g A) (hW : LW g A s.heap ws H locs) (q0 t qk ci : Nat) {a n v : Nat} {r : vw_C} {vs : List Value} {f : Nat → Option Nat} (he : ws[q0]? = some (a, .inl (g.2.1 t, n, rr f))) (ht : (tysG g)[t]? = some (g.2.1 t, .object r.1)) (hv : ws[qk]? = some (v, .inr (ci, vs))) (hc : clG[ci]? = some r) {i : Int32} (hin : inb i n = true) (hdg : decode cc pc = .ok (.aastore, 1))
    (kk : ∀ (H1 : Heap) (l1 : List Loc), LW g A s.heap (ws.set q0 (a, .inl (g.2.1 t, n, rr (va_up f (ix i) (some v))))) H1 l1 → W p l e R s m args below meth c H1 l1 cells slots Q (F0 m (pc + 1) ls rest)) : W p l e R s m args below meth c H locs cells slots Q (F0 m pc ls (.ref v :: .int i :: .ref a :: rest)) :=
  va_astq X.1.1 X.1.2.1 X.2.2.2.1.1 hW.1 hW.2.1 hW.2.2 q0 t qk ci he ht hv hc (inb_in hin) hdg (fun H1 l1 hP hD hS => kk H1 l1 ⟨hP, hD, hS⟩)
end CW
/-- a constructor that makes more cells: behind it the object x1 d, the new cells cs d -/
def MGo {ι : Type} (l : Launch) (y : MethodName) (cc : ByteArray) (nL fr lo mc ms : Nat) (g : gG) (a : Nat) (x0 : va_E) (I : ι → Prop) (x1 : ι → va_E) (cs : ι → va_W) : Prop :=
  ∀ sz : Nat, Met l y (ws_ y cc nL none) ({ frames := fr, cells := mc, slots := ms, locals := lo } : Room) (va_Pc [.ref a] (Pre g [0] (fun _ => a) (oneE x0) sz)) (fun _ st oc t => (oc = .returned none ∧ ∃ d : ι, I d ∧ va_P g.1 clG ((a, x1 d) :: cs d) t.heap ∧ (∀ y ∈ cs d, sz ≤ y.1) ∧ va_D (fun _ => True) (cs d)) ∧ va_F (wA [0] (fun _ => a) sz) st t) mc ms (wA [0] (fun _ => a) sz)
def QG {ι : Type} (below : List Frame) (g : gG) (a : Nat) (I : ι → Prop) (x1 : ι → va_E) (cs : ι → va_W) (mc ms : Nat) (args : Array Value) (s : State) : State → Prop :=
  MQ below (fun _ st oc t => (oc = .returned none ∧ ∃ d : ι, I d ∧ va_P g.1 clG ((a, x1 d) :: cs d) t.heap ∧ (∀ y ∈ cs d, s.heap.size ≤ y.1) ∧ va_D (fun _ => True) (cs d)) ∧ va_F (wA [0] (fun _ => a) s.heap.size) st t) args s mc ms (wA [0] (fun _ => a) s.heap.size)
theorem MGo.of {ι : Type} {l : Launch} {y : MethodName} {cc : ByteArray} {nL fr lo mc ms : Nat} {g : gG} {a : Nat} {x0 : va_E} {I : ι → Prop} {x1 : ι → va_E} {cs : ι → va_W} (hy : plainName y.cls = true) (hL : 1 ≤ nL)
    (body : ∀ (p : Program) (e : Env) (s : State) (m : MethodId) (args : Array Value) (below : List Frame) (meth : Method) (c : Code) (ls : Array Slot), MX p s m args meth c cc nL y.cls none g (wA [0] (fun _ => a) s.heap.size) → meth.name = y.name → LW g (wA [0] (fun _ => a) s.heap.size) s.heap [(a, x0)] s.heap [] → lv_has ls nL [(0, .ref a)] →
      W p l e ({ frames := fr, cells := mc, slots := ms, locals := lo } : Room) s m args below meth c s.heap [] 0 0 (QG below g a I x1 cs mc ms args s) (F0 m 0 ls [])) : MGo l y cc nL fr lo mc ms g a x0 I x1 cs := by
  intro sz
  refine Met.ofW (cc := cc) (maxL := nL) (ret := none) hy rfl ?_
  intro p e s m args below meth c s₁ B hml hv
  obtain ⟨rfl, hsz, hP, hK, hF⟩ := hv
  subst hsz
  have hts := atoms_spec (ws := ws_ y cc nL none) B.pre
  have hts : ∀ w ∈ lw_all, w.before _ s = true := fun w h => hts w (List.mem_cons_of_mem _ h)
  have hl := lv_entry [.ref a] (n := nL) hL
  rw [lg_entry_eq]
  have hI : wI (wA [0] (fun _ => a) s.heap.size) [0] (fun _ => a) := ⟨wI_0.1, fun k hk => Or.inl ⟨k, hk, rfl⟩⟩
  exact body p e s m _ below meth c _ ⟨⟨B.exec, B.bytes, hml, findClass_of_methodNamed B.named, hts⟩, B.returns, B.notSynchronized, hK, hF, fun q h => Or.inr h⟩ (name_of_methodNamed B.named B.method).1 ⟨hP, wl_D (E := oneE x0) (by decide) hI, va_S.rf⟩ hl
theorem l_ret {ι : Type} {p : Program} {l : Launch} {e : Env} {s : State} {m : MethodId} {args : Array Value} {below : List Frame} {meth : Method} {c : Code} {H : Heap} {locs : List Loc} {cc : ByteArray} {nL fr lo mc ms pc a : Nat} {own : String} {g : gG} {ls : Array Slot} {I : ι → Prop} {x1 : ι → va_E} {cs : ι → va_W} (X : MX p s m args meth c cc nL own none g (wA [0] (fun _ => a) s.heap.size)) (d : ι) (hI : I d) (hW : LW g (wA [0] (fun _ => a) s.heap.size) s.heap ((a, x1 d) :: cs d) H locs) (hdg : decode cc pc = .ok (.return_, 1)) :
    W p l e ({ frames := fr, cells := mc, slots := ms, locals := lo } : Room) s m args below meth c H locs mc ms (QG below g a I x1 cs mc ms args s) (F0 m pc ls []) := by
  have hsz : ∀ y ∈ cs d, s.heap.size ≤ y.1 := by
    intro y hy
    obtain ⟨i, hi⟩ := List.getElem?_of_mem hy
    rcases hW.2.1.2 (i + 1) y (by simpa using hi) with ⟨k, -, e⟩ | h
    · have := hW.2.1.1 (i + 1) 0 y (a, x1 d) (by simpa using hi) rfl e
      omega
    · exact h
  have hD : va_D (fun _ => True) (cs d) := ⟨fun i j p q hi hj e => by
    have := hW.2.1.1 (i + 1) (j + 1) p q (by simpa using hi) (by simpa using hj) e
    omega, fun _ _ _ => trivial⟩
  exact W.vret X.1.1 X.1.2.1 X.2.1 (fun t ht _ => ⟨⟨rfl, d, hI, by rw [ht]; exact hW.1, hsz, hD⟩, hW.2.2.F ht⟩) hW.2.2.2.2 hdg X.2.2.1
theorem va_D_ap {A : Nat → Prop} {ws cs : va_W} (h : va_D A ws) (h2 : va_D A cs) (hn : ∀ q ∈ ws, ∀ r ∈ cs, q.1 ≠ r.1) : va_D A (ws ++ cs) := by
  have cse : ∀ (i : Nat) (p : Nat × va_E), (ws ++ cs)[i]? = some p → (ws[i]? = some p ∧ i < ws.length) ∨ (ws.length ≤ i ∧ cs[i - ws.length]? = some p) := by
    intro i p hi
    by_cases hl : i < ws.length
    · rw [List.getElem?_append_left hl] at hi; exact Or.inl ⟨hi, hl⟩
    · rw [List.getElem?_append_right (by omega)] at hi; exact Or.inr ⟨by omega, hi⟩
  refine ⟨fun i j p q hi hj e => ?_, fun k q hk => ?_⟩
  · rcases cse i p hi with ⟨h3, h4⟩ | ⟨h3, h4⟩ <;> rcases cse j q hj with ⟨h5, h6⟩ | ⟨h5, h6⟩
    · exact h.1 i j p q h3 h5 e
    · exact absurd e (hn p (List.mem_of_getElem? h3) q (List.mem_of_getElem? h6))
    · exact absurd e.symm (hn q (List.mem_of_getElem? h5) p (List.mem_of_getElem? h4))
    · have := h2.1 _ _ p q h4 h6 e
      omega
  · rcases cse k q hk with ⟨h3, -⟩ | ⟨-, h3⟩
    · exact h.2 k q h3
    · exact h2.2 _ q h3
theorem l_callG {ι : Type} {p : Program} {l : Launch} {e : Env} {R : Room} {s : State} {m : MethodId} {args : Array Value} {below : List Frame} {meth : Method} {c : Code} {H : Heap} {locs : List Loc} {cells slots : Nat} {Q : State → Prop} {cc : ByteArray} {nL : Nat} {own : String} {ret : Option FieldType} {g : gG} {A : Nat → Prop} {ws : va_W} {pc : Nat} {ls : Array Slot} {rest : List Value} (X : MX p s m args meth c cc nL own ret g A) (hW : LW g A s.heap ws H locs) (q0 : Nat) {a : Nat} {x0 : va_E} (he : ws[q0]? = some (a, x0)) {y : MethodName} {bytes : ByteArray} {maxL fr2 lo2 mc ms : Nat} {I : ι → Prop} {x1 : ι → va_E} {cs : ι → va_W}
    (hM : MGo l y bytes maxL fr2 lo2 mc ms g a x0 I x1 cs) (cwb : ∀ (hR : fr2 + 1 ≤ R.frames ∧ 8 + (maxL + 11) + lo2 ≤ R.locals), ∀ T : State, True → va_Run p l e R s m args below meth c H locs cells slots mc ms (F0 m pc ls (.ref a :: rest)) rest ((fun (_ : Array Value) st oc t => (oc = .returned none ∧ ∃ d : ι, I d ∧ va_P g.1 clG ((a, x1 d) :: cs d) t.heap ∧ (∀ y ∈ cs d, H.size ≤ y.1) ∧ va_D (fun _ => True) (cs d)) ∧ va_F (wA [0] (fun _ => a) H.size) st t) #[.ref a]) (wA [0] (fun _ => a) H.size))
    (hR : fr2 + 1 ≤ R.frames ∧ 8 + (maxL + 11) + lo2 ≤ R.locals)
    (kk : ∀ (d : ι) (H1 : Heap) (l1 : List Loc), I d → LW g A s.heap (ws.set q0 (a, x1 d) ++ cs d) H1 l1 → W p l e R s m args below meth c H1 l1 (cells + mc) (slots + ms) Q (F0 m (pc + 3) ls rest)) : W p l e R s m args below meth c H locs cells slots Q (F0 m pc ls (.ref a :: rest)) := by
  intro T hT XS
  obtain ⟨v, st₀, t, T', L, h0, X', hL, e1, e2, ⟨⟨hv, d, hI, hb, hge, hDc⟩, hF⟩, stp⟩ := cwb hR T trivial T hT XS
  cases hv
  have hk := hF.2
  have hz0 := hF.1
  rw [h0] at hk hz0
  have hS := hW.2.2
  have hAa : A a := hW.2.1.2 q0 _ he
  have hA' : ∀ q, wA [0] (fun _ => a) H.size q → A q := by
    rintro q (⟨k, -, rfl⟩ | h)
    · exact hAa
    · exact X.2.2.2.2.2 q (Nat.le_trans hS.1 h)
  have hl0 : q0 < ws.length := (List.getElem?_eq_some_iff.mp he).1
  have lt : ∀ z ∈ ws, z.1 < H.size := by
    intro z hz
    obtain ⟨i, hi⟩ := List.getElem?_of_mem hz
    exact (hW.1 i z hi).lt
  have hP : va_P g.1 clG (ws.set q0 (a, x1 d) ++ cs d) t.heap := by
    intro i z hi
    by_cases hl : i < (ws.set q0 (a, x1 d)).length
    · rw [List.getElem?_append_left hl, List.getElem?_set] at hi
      by_cases hq : q0 = i
      · subst hq
        rw [if_pos rfl, if_pos hl0] at hi
        cases hi
        exact hb 0 _ rfl
      · rw [if_neg hq] at hi
        have h1 := hW.1 i z hi
        refine h1.kept (hk _ h1.lt ?_)
        rintro (⟨j, -, e3⟩ | h3)
        · exact hq (hW.2.1.1 q0 i _ z he hi e3.symm)
        · exact absurd h3 (Nat.not_le.mpr h1.lt)
    · rw [List.getElem?_append_right (by omega)] at hi
      exact hb (i - (ws.set q0 (a, x1 d)).length + 1) z (by simpa using hi)
  have hDs : va_D A (ws.set q0 (a, x1 d)) := by
    have gt : ∀ (i : Nat) (z : Nat × va_E), (ws.set q0 (a, x1 d))[i]? = some z → ∃ z0, ws[i]? = some z0 ∧ z0.1 = z.1 := by
      intro i z hi
      rw [List.getElem?_set] at hi
      by_cases hq : q0 = i
      · subst hq
        rw [if_pos rfl, if_pos hl0] at hi
        cases hi
        exact ⟨_, he, rfl⟩
      · rw [if_neg hq] at hi
        exact ⟨z, hi, rfl⟩
    refine ⟨fun i j p q hi hj e => ?_, fun k q hk => ?_⟩
    · obtain ⟨p0, h1, h2⟩ := gt i p hi
      obtain ⟨q1, h3, h4⟩ := gt j q hj
      exact hW.2.1.1 i j p0 q1 h1 h3 (by rw [h2, h4, e])
    · obtain ⟨q1, h1, h2⟩ := gt k q hk
      rw [← h2]
      exact hW.2.1.2 k q1 h1
  have hDA : va_D A (cs d) := ⟨hDc.1, fun k z hk => hA' _ (Or.inr (hge z (List.mem_of_getElem? hk)))⟩
  have hD : va_D A (ws.set q0 (a, x1 d) ++ cs d) := va_D_ap hDs hDA (fun z hz r hr e => by
    have h1 := hge r hr
    have h2 : z.1 < H.size := by
      rcases List.mem_or_eq_of_mem_set hz with h | h
      · exact lt z h
      · rw [h]; exact lt (a, x0) (List.mem_of_getElem? he)
    omega)
  have hS' : va_S A s.heap t.heap (locs ++ L) := ⟨Nat.le_trans hS.1 hz0, fun q h1 h2 => by rw [hk q (Nat.lt_of_lt_of_le h1 hS.1) (fun z => h2 (hA' q z))]; exact hS.2.1 q h1 h2, fun q hq => by
    rcases List.mem_append.mp hq with h | h
    · exact hS.2.2 q h
    · exact hA' _ (hL q h)⟩
  obtain ⟨t2, a1, b1⟩ := kk d T'.heap (locs ++ L) hI ⟨by rw [e1]; exact hP, hD, by rw [e1]; exact hS'⟩ T' rfl X'
  exact ⟨t2, stp t2 a1, b1⟩
theorem l_pre {p : Program} {s : State} {m : MethodId} {args : Array Value} {meth : Method} {c : Code} {H : Heap} {locs : List Loc} {cc : ByteArray} {nL : Nat} {own : String} {ret : Option FieldType} {g : gG} {A : Nat → Prop} {ws : va_W} (X : MX p s m args meth c cc nL own ret g A) (hW : LW g A s.heap ws H locs) {q0 a : Nat} {x0 : va_E} (he : ws[q0]? = some (a, x0)) : ∀ U : State, U.heap = H → s.WarmedH U.vm → Pre g [0] (fun _ => a) (oneE x0) H.size U := by
  intro U hU hWm
  have hA' : ∀ q, wA [0] (fun _ => a) H.size q → A q := by
    rintro q (⟨k, -, rfl⟩ | h)
    · exact hW.2.1.2 q0 _ he
    · exact X.2.2.2.2.2 q (Nat.le_trans hW.2.2.1 h)
  refine ⟨by rw [hU], ?_, KG.warm hWm X.2.2.2.1, ?_⟩
  · rw [hU]
    intro i z hi
    have hz : i < 1 := (List.getElem?_eq_some_iff.mp hi).1
    have : i = 0 := by omega
    subst this
    cases hi
    exact hW.1 q0 _ he
  · rw [hU]
    exact FZ.warm hWm ((X.2.2.2.2.1.kept hW.2.2.2.1).narrow hA')
section CW2
variable {p : Program} {l : Launch} {e : Env} {R : Room} {s : State} {m : MethodId} {args : Array Value} {below : List Frame} {meth : Method} {c : Code} {H : Heap} {locs : List Loc} {cells slots : Nat} {Q : State → Prop}
variable {cc : ByteArray} {nL : Nat} {own : String} {ret : Option FieldType} {g : gG} {A : Nat → Prop} {ws : va_W} {pc : Nat} {ls : Array Slot} {rest : List Value} {lv : List (Nat × Value)}
theorem l_callI {ι : Type} (X : MX p s m args meth c cc nL own ret g A) (hW : LW g A s.heap ws H locs) (q0 : Nat) {a : Nat} {x0 : va_E} (he : ws[q0]? = some (a, x0)) {y : MethodName} {bytes : ByteArray} {maxL fr2 lo2 mc ms index : Nat} {I : ι → Prop} {x1 : ι → va_E} {cs : ι → va_W}
    (hM : MGo l y bytes maxL fr2 lo2 mc ms g a x0 I x1 cs) (hco : Cond.code y bytes maxL none ∈ lw_all) (hini : Cond.initialized y.cls ∈ lw_all) (hlk : Cond.methodLink own index y ∈ lw_all) (hinst : Cond.instanceMethod y ∈ lw_all) (hy1 : y.name = "<init>") (hd : y.cls ≠ "java/lang/invoke/MethodHandle" ∧ y.cls ≠ "java/lang/invoke/VarHandle" ∧ (parseMethodDescriptor y.desc).map (fun d => d.parameters.length) = some 0)
    (hR : fr2 + 1 ≤ R.frames ∧ 8 + (maxL + 11) + lo2 ≤ R.locals) (hls : lv_has ls nL lv) (hcat : (rest.map fun v => v.category).sum ≤ 8) (hcs : cells + mc ≤ R.cells ∧ slots + ms ≤ R.slots) (hdg : decode cc pc = .ok (.invokespecial index, 3))
    (kk : ∀ (d : ι) (H1 : Heap) (l1 : List Loc), I d → LW g A s.heap (ws.set q0 (a, x1 d) ++ cs d) H1 l1 → W p l e R s m args below meth c H1 l1 (cells + mc) (slots + ms) Q (F0 m (pc + 3) ls rest)) : W p l e R s m args below meth c H locs cells slots Q (F0 m pc ls (.ref a :: rest)) :=
  l_callG X hW q0 he hM (fun hR _ _ => va_runI X.1 (hM H.size) (cwI 0 X.1.2.2.2.2 (lw_meth hco) rfl rfl rfl (X.1.2.2.2.2 _ hini) (X.1.2.2.2.2 _ hlk) (X.1.2.2.2.2 _ hinst) hy1 hd hR) ⟨pre_blind, fun U hU hWm => ⟨rfl, l_pre X hW he U hU hWm⟩⟩ (g := F0 m pc ls (.ref a :: rest)) rfl (As := []) rfl hls.1 rfl (lv_room hcat) hdg hcs) hR kk
theorem l_callIN {ι : Type} (X : MX p s m args meth c cc nL own ret g A) (hW : LW g A s.heap ws H locs) (q0 : Nat) {a : Nat} {x0 : va_E} (he : ws[q0]? = some (a, x0)) {y : MethodName} {bytes : ByteArray} {maxL fr2 lo2 mc ms index : Nat} {host : String} {I : ι → Prop} {x1 : ι → va_E} {cs : ι → va_W}
    (hM : MGo l y bytes maxL fr2 lo2 mc ms g a x0 I x1 cs) (hco : Cond.code y bytes maxL none ∈ lw_all) (hini : Cond.initialized y.cls ∈ lw_all) (hlk : Cond.methodLinkNest own index y host ∈ lw_tbl) (hinst : Cond.instanceMethod y ∈ lw_all) (hy1 : y.name = "<init>") (hd : y.cls ≠ "java/lang/invoke/MethodHandle" ∧ y.cls ≠ "java/lang/invoke/VarHandle" ∧ (parseMethodDescriptor y.desc).map (fun d => d.parameters.length) = some 0)
    (hR : fr2 + 1 ≤ R.frames ∧ 8 + (maxL + 11) + lo2 ≤ R.locals) (hls : lv_has ls nL lv) (hcat : (rest.map fun v => v.category).sum ≤ 8) (hcs : cells + mc ≤ R.cells ∧ slots + ms ≤ R.slots) (hdg : decode cc pc = .ok (.invokespecial index, 3))
    (kk : ∀ (d : ι) (H1 : Heap) (l1 : List Loc), I d → LW g A s.heap (ws.set q0 (a, x1 d) ++ cs d) H1 l1 → W p l e R s m args below meth c H1 l1 (cells + mc) (slots + ms) Q (F0 m (pc + 3) ls rest)) : W p l e R s m args below meth c H locs cells slots Q (F0 m pc ls (.ref a :: rest)) :=
  l_callG X hW q0 he hM (fun hR _ _ => va_runIN X.1 (hM H.size) ⟨va_cnB 0 X.1.2.2.2.2 (lw_meth hco) rfl rfl rfl (X.2.2.2.1.2.1 _ (nst_in hlk rfl)) (X.1.2.2.2.2 _ hini) hd hR, hy1, X.1.2.2.2.2 _ hinst⟩ ⟨pre_blind, fun U hU hWm => ⟨rfl, l_pre X hW he U hU hWm⟩⟩ (g := F0 m pc ls (.ref a :: rest)) rfl (As := []) rfl hls.1 rfl (lv_room hcat) hdg hcs) hR kk
end CW2
