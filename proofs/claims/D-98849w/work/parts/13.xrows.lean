/-! rows of the class's side: nest mates, Math, arraycopy, frozen cells -/
set_option maxRecDepth 100000
def jmax (x y : Int32) : Int32 := if x < y then y else x
def jmin (x y : Int32) : Int32 := if y < x then y else x
def jabs (x : Int32) : Int32 := if 0 ≤ x then x else 0 - x
def jmaxL (x y : Int64) : Int64 := if y < x then x else y
def jminL (x y : Int64) : Int64 := if y < x then y else x
/-- a copy of n ints from sp (of n0) to dp (of n1) is in range -/
def cpb (sp dp n : Int32) (n0 n1 : Nat) : Bool := decide (¬ sp < 0) && decide (¬ dp < 0) && decide (¬ n < 0) && decide (sp.toNatClampNeg + n.toNatClampNeg ≤ n0) && decide (dp.toNatClampNeg + n.toNatClampNeg ≤ n1)
theorem cpb_e {sp dp n : Int32} {n0 n1 : Nat} (h : cpb sp dp n n0 n1 = true) : ¬ sp < 0 ∧ ¬ dp < 0 ∧ ¬ n < 0 ∧ sp.toNatClampNeg + n.toNatClampNeg ≤ n0 ∧ dp.toNatClampNeg + n.toNatClampNeg ≤ n1 := by
  simp only [cpb, Bool.and_eq_true, decide_eq_true_eq] at h
  exact ⟨h.1.1.1.1, h.1.1.1.2, h.1.1.2, h.1.2, h.2⟩
section XR
variable {p : Program} {l : Launch} {e : Env} {R : Room} {s : State} {m : MethodId} {args : Array Value} {below : List Frame} {meth : Method} {c : Code} {H : Heap} {locs : List Loc} {cells slots : Nat} {Q : State → Prop}
variable {cc : ByteArray} {nL : Nat} {own : String} {ret : Option FieldType} {g : gG} {A : Nat → Prop} {ids : List Nat} {ad : Nat → Nat} {E : Nat → va_E} {pc : Nat} {ls : Array Slot} {rest : List Value}
theorem nst_in {w : Cond} (h : w ∈ lw_tbl) (hw : isNst w = true) : w ∈ lw_nst := List.mem_filter.mpr ⟨h, hw⟩
theorem r_callSN (X : MX p s m args meth c cc nL own ret g A) (hW : WB g A s.heap ids ad E H locs) {ids2 : List Nat} {ad2 : Nat → Nat} {E' E2 E2' : Nat → va_E} (hs : Sub ids ad E E' ids2 ad2 E2 E2') {y : MethodName} {host : String} {bytes : ByteArray} {maxL fr2 lo2 index n : Nat} {ret2 : Option FieldType} {As st : List Value} {rv : Option Value}
    (hM : MC l y bytes maxL ret2 fr2 lo2 g ids2 ad2 E2 E2' As rv) (hl : Cond.methodLinkNest own index y host ∈ lw_tbl) (hst : Cond.static y ∈ lw_all) (hini : Cond.initialized y.cls ∈ lw_all) (hco : Cond.code y bytes maxL ret2 ∈ lw_all) (hd : y.cls ≠ "java/lang/invoke/MethodHandle" ∧ y.cls ≠ "java/lang/invoke/VarHandle" ∧ (parseMethodDescriptor y.desc).map (fun d => d.parameters.length) = some n)
    (hR : fr2 + 1 ≤ R.frames ∧ 8 + (maxL + 11) + lo2 ≤ R.locals) {lv : List (Nat × Value)} (hls : lv_has ls nL lv) (hn : As.length = n) (hstk : st = As.reverse ++ rest) (hcat : (rest.map fun v => v.category).sum ≤ 8) (hcs : cells ≤ R.cells ∧ slots ≤ R.slots) (hdg : decode cc pc = .ok (.invokestatic index, 3))
    (kk : ∀ (H1 : Heap) (locs1 : List Loc), WB g A s.heap ids ad E' H1 locs1 → W p l e R s m args below meth c H1 locs1 cells slots Q (F0 m (pc + 3) ls (rv.toList ++ rest))) : W p l e R s m args below meth c H locs cells slots Q (F0 m pc ls st) :=
  r_back X hW hs (va_runSN X.1 (hM H.size) ⟨va_cnB n X.1.2.2.2.2 (lw_meth hco) rfl rfl rfl (X.2.2.2.1.2.1 _ (nst_in hl rfl)) (X.1.2.2.2.2 _ hini) hd hR, X.1.2.2.2.2 _ hst, trivial⟩ ⟨pre_blind, fun U hU hWm => ⟨rfl, r_pre X hW hs U hU hWm⟩⟩ rfl hn hls.1 hstk (lv_room hcat) hdg hcs) kk
theorem r_max (X : MX p s m args meth c cc nL own ret g A) {lv : List (Nat × Value)} (hl : lv_has ls nL lv) {index : Nat} (hlink : Cond.methodLink own index Lib.Math.max.name ∈ lw_all) (hR : 1 ≤ R.frames ∧ 21 ≤ R.locals) (hcat : (rest.map fun v => v.category).sum ≤ 8) {x y : Int32} (hdg : decode cc pc = .ok (.invokestatic index, 3))
    (kk : W p l e R s m args below meth c H locs 0 0 Q (F0 m (pc + 3) ls (.int (jmax x y) :: rest))) : W p l e R s m args below meth c H locs 0 0 Q (F0 m pc ls (.int y :: .int x :: rest)) :=
  va_mmax X.1.1 X.1.2.1 (X.1.2.2.1.trans hl.1.symm) X.1.2.2.2.1 (X.1.2.2.2.2 _ hlink) (X.1.2.2.2.2 _ q888) (X.1.2.2.2.2 _ q143) (X.1.2.2.2.2 _ q889) hR.1 (by have := hR.2; omega) (Nat.zero_le _) (Nat.zero_le _) hdg kk
theorem r_min (X : MX p s m args meth c cc nL own ret g A) {lv : List (Nat × Value)} (hl : lv_has ls nL lv) {index : Nat} (hlink : Cond.methodLink own index Lib.Math.min.name ∈ lw_all) (hR : 1 ≤ R.frames ∧ 21 ≤ R.locals) (hcat : (rest.map fun v => v.category).sum ≤ 8) {x y : Int32} (hdg : decode cc pc = .ok (.invokestatic index, 3))
    (kk : W p l e R s m args below meth c H locs 0 0 Q (F0 m (pc + 3) ls (.int (jmin x y) :: rest))) : W p l e R s m args below meth c H locs 0 0 Q (F0 m pc ls (.int y :: .int x :: rest)) :=
  va_mmin X.1.1 X.1.2.1 (X.1.2.2.1.trans hl.1.symm) X.1.2.2.2.1 (X.1.2.2.2.2 _ hlink) (X.1.2.2.2.2 _ q877) (X.1.2.2.2.2 _ q143) (X.1.2.2.2.2 _ q878) hR.1 (by have := hR.2; omega) (Nat.zero_le _) (Nat.zero_le _) hdg kk
theorem r_abs (X : MX p s m args meth c cc nL own ret g A) {lv : List (Nat × Value)} (hl : lv_has ls nL lv) {index : Nat} (hlink : Cond.methodLink own index Lib.Math.abs.name ∈ lw_all) (hR : 1 ≤ R.frames ∧ 21 ≤ R.locals) (hcat : (rest.map fun v => v.category).sum ≤ 8) {x : Int32} (hdg : decode cc pc = .ok (.invokestatic index, 3))
    (kk : W p l e R s m args below meth c H locs 0 0 Q (F0 m (pc + 3) ls (.int (jabs x) :: rest))) : W p l e R s m args below meth c H locs 0 0 Q (F0 m pc ls (.int x :: rest)) :=
  va_mabs X.1.1 X.1.2.1 (X.1.2.2.1.trans hl.1.symm) X.1.2.2.2.1 (X.1.2.2.2.2 _ hlink) (X.1.2.2.2.2 _ q948) (X.1.2.2.2.2 _ q143) (X.1.2.2.2.2 _ q949) hR.1 (by have := hR.2; omega) (Nat.zero_le _) (Nat.zero_le _) hdg kk
theorem r_maxL (X : MX p s m args meth c cc nL own ret g A) {lv : List (Nat × Value)} (hl : lv_has ls nL lv) {index : Nat} (hlink : Cond.methodLink own index Lib.MathLoose.max_long.x ∈ lw_all) (hR : 1 ≤ R.frames ∧ 23 ≤ R.locals) (hcat : (rest.map fun v => v.category).sum ≤ 8) {x y : Int64} (hdg : decode cc pc = .ok (.invokestatic index, 3))
    (kk : W p l e R s m args below meth c H locs 0 0 Q (F0 m (pc + 3) ls (.long (jmaxL x y) :: rest))) : W p l e R s m args below meth c H locs 0 0 Q (F0 m pc ls (.long y :: .long x :: rest)) :=
  va_mmax_long X.1.1 X.1.2.1 (X.1.2.2.1.trans hl.1.symm) X.1.2.2.2.1 (X.1.2.2.2.2 _ hlink) (X.1.2.2.2.2 _ q941) (X.1.2.2.2.2 _ q143) (X.1.2.2.2.2 _ q942) hR.1 (by have := hR.2; omega) (Nat.zero_le _) (Nat.zero_le _) hdg kk
theorem r_minL (X : MX p s m args meth c cc nL own ret g A) {lv : List (Nat × Value)} (hl : lv_has ls nL lv) {index : Nat} (hlink : Cond.methodLink own index Lib.MathLoose.min_long.x ∈ lw_all) (hR : 1 ≤ R.frames ∧ 23 ≤ R.locals) (hcat : (rest.map fun v => v.category).sum ≤ 8) {x y : Int64} (hdg : decode cc pc = .ok (.invokestatic index, 3))
    (kk : W p l e R s m args below meth c H locs 0 0 Q (F0 m (pc + 3) ls (.long (jminL x y) :: rest))) : W p l e R s m args below meth c H locs 0 0 Q (F0 m pc ls (.long y :: .long x :: rest)) :=
  va_mmin_long X.1.1 X.1.2.1 (X.1.2.2.1.trans hl.1.symm) X.1.2.2.2.1 (X.1.2.2.2.2 _ hlink) (X.1.2.2.2.2 _ q938) (X.1.2.2.2.2 _ q143) (X.1.2.2.2.2 _ q939) hR.1 (by have := hR.2; omega) (Nat.zero_le _) (Nat.zero_le _) hdg kk
theorem r_copyi (X : MX p s m args meth c cc nL own ret g A) (hW : WB g A s.heap ids ad E H locs) {lv : List (Nat × Value)} (hl : lv_has ls nL lv) {index : Nat} (hlink : Cond.methodLink own index arraycopyName ∈ lw_all) (hR : 1 ≤ R.frames ∧ 40 ≤ R.locals) (hcat : (rest.map fun v => v.category).sum ≤ 8) {k0 k1 n0 n1 : Nat} {f f1 : Nat → Int32} (hk0 : k0 ∈ ids) (hk1 : k1 ∈ ids) (hE0 : E k0 = .inl (g.2.1 0, n0, .inl f)) (hE1 : E k1 = .inl (g.2.1 0, n1, .inl f1)) {sp dp n : Int32} (h : cpb sp dp n n0 n1 = true) (hdg : decode cc pc = .ok (.invokestatic index, 3))
    (kk : ∀ (H1 : Heap) (l1 : List Loc), WB g A s.heap ids ad (va_up E k1 (.inl (g.2.1 0, n1, .inl (va_cpy f f1 (ix sp) (ix dp) (ix n))))) H1 l1 → W p l e R s m args below meth c H1 l1 cells slots Q (F0 m (pc + 3) ls rest)) : W p l e R s m args below meth c H locs cells slots Q (F0 m pc ls (.int n :: .int dp :: .ref (ad k1) :: .int sp :: .ref (ad k0) :: rest)) := by
  obtain ⟨q0, -, hq0⟩ := wl_i (ad := ad) (E := E) hk0
  obtain ⟨q1, hqi, hq1⟩ := wl_i (ad := ad) (E := E) hk1
  rw [hE0] at hq0
  rw [hE1] at hq1
  obtain ⟨h1, h2, h3, h4, h5⟩ := cpb_e h
  exact va_copyi X.1.1 X.1.2.1 (X.1.2.2.1.trans hl.1.symm) X.1.2.2.2.1 (X.1.2.2.2.2 _ hlink) (X.1.2.2.2.2 _ q506) (X.1.2.2.2.2 _ q505) (X.1.2.2.2.2 _ q128) X.2.2.2.1.1 hW.1 hW.D hW.2.2 q0 q1 0 0 hq0 hq1 rfl rfl rfl h1 h2 h3 h4 h5 (fun i _ => rfl) hR.1 (by have := hR.2; have : nativeFrameWords "java/lang/System" "arraycopy" 5 ≤ 20 := (by decide +kernel); omega) hdg (fun H1 locs1 hP _ hS => kk H1 locs1 ⟨wl_set hW.2.1.1 hW.2.1.2 hqi hP, hW.2.1, hS⟩)
/-- a field of a frozen object -/
theorem r_fget (X : MX p s m args meth c cc nL own ret g A) (hW : WB g A s.heap ids ad E H locs) {a ci j index N : Nat} {C : String} {T : u_T} {fs : List Value} {v : Value} (ha : (a, .inr (ci, fs)) ∈ g.2.2.2.2) (hc : clG[ci]? = some (C, T, N)) (hin : ∀ w ∈ u_ws C T N, w ∈ lw_all) (hj : j < N) (hl : Cond.fieldLink own index (T j).1 (T j).2.1 (T j).2.2.1 ∈ lw_all) (hv : fs[j]? = some v) (hdg : decode cc pc = .ok (.getfield index, 3))
    (kk : W p l e R s m args below meth c H locs cells slots Q (F0 m (pc + 3) ls (v :: rest))) : W p l e R s m args below meth c H locs cells slots Q (F0 m pc ls (.ref a :: rest)) := by
  obtain ⟨q, hq⟩ := List.getElem?_of_mem ha
  have hF := (X.2.2.2.2.1.kept hW.2.2.2.1).2.2.2.2.2.1
  exact va_get X.1.1 X.1.2.1 X.1.2.2.2.2 hin X.1.2.2.2.1 X.2.2.2.1.1 hF q hq hc j hj (X.1.2.2.2.2 _ hl) (fun _ h => h) hv hdg kk
theorem fz_P (X : MX p s m args meth c cc nL own ret g A) (hW : WB g A s.heap ids ad E H locs) : va_P g.1 clG g.2.2.2.2 H := (X.2.2.2.2.1.kept hW.2.2.2.1).2.2.2.2.2.1
/-- a frozen array of references -/
theorem r_fald (X : MX p s m args meth c cc nL own ret g A) (hW : WB g A s.heap ids ad E H locs) {a t0 n : Nat} {cA : ClassId} {C : String} {f : Nat → Option Nat} (ha : (a, .inl (cA, n, .inr (.inr (.inr (.inr f))))) ∈ g.2.2.2.2) (ht : (tysG g)[t0]? = some (cA, .object C)) {i : Int32} (hin : inb i n = true) (hdg : decode cc pc = .ok (.aaload, 1))
    (kk : W p l e R s m args below meth c H locs cells slots Q (F0 m (pc + 1) ls (va_rf (f (ix i)) :: rest))) : W p l e R s m args below meth c H locs cells slots Q (F0 m pc ls (.int i :: .ref a :: rest)) := by
  obtain ⟨q, hq⟩ := List.getElem?_of_mem ha
  exact va_aldq X.1.1 X.1.2.1 X.2.2.2.1.1 (fz_P X hW) q t0 hq ht (inb_in hin) hdg kk
theorem fz_recv (X : MX p s m args meth c cc nL own ret g A) (hW : WB g A s.heap ids ad E H locs) {a ci N : Nat} {C : String} {T : u_T} {fs : List Value} (ha : (a, .inr (ci, fs)) ∈ g.2.2.2.2) (hc : clG[ci]? = some (C, T, N)) : ∃ cell : Cell, H[a]? = some cell ∧ cell.vm.isStatics = false ∧ s.vm.findClass C = some cell.cls := by
  obtain ⟨q, hq⟩ := List.getElem?_of_mem ha
  exact va_recv X.2.2.2.1.1 (fz_P X hW) hc hq
end XR
