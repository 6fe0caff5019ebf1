/-! BASE: states of chunks, worlds by block numbers, contracts, and rows over them -/
set_option maxRecDepth 100000
abbrev cS : Type := (Nat → Nat → Int32) × (Nat → Nat → Int64)
def ix (i : Int32) : Nat := i.toNatClampNeg
def inb (i : Int32) (n : Nat) : Bool := !(decide (i < 0) || decide (n ≤ i.toNatClampNeg))
theorem inb_in {i : Int32} {n : Nat} (h : inb i n = true) : vp_in i n := by
  intro q
  simp only [inb, Bool.not_eq_true', Bool.or_eq_false_iff, decide_eq_false_iff_not] at h
  rcases q with q | q
  · exact h.1 q
  · exact h.2 q
theorem inb_of {i : Int32} {n : Nat} (h : vp_in i n) : inb i n = true := by
  simp only [inb, Bool.not_eq_true', Bool.or_eq_false_iff, decide_eq_false_iff_not]
  exact ⟨fun q => h (Or.inl q), fun q => h (Or.inr q)⟩
def gd {α : Type} (b : Bool) (k : Option α) : Option α := match b with
  | true => k
  | false => none
theorem gd_e {α : Type} {b : Bool} {k : Option α} {y : α} (h : gd b k = some y) : b = true ∧ k = some y := by
  cases b with
  | true => exact ⟨rfl, h⟩
  | false => cases h
theorem bd_e {α β : Type} {o : Option α} {k : α → Option β} {y : β} (h : o.bind k = some y) : ∃ a, o = some a ∧ k a = some y := by
  cases o with
  | none => cases h
  | some a => exact ⟨a, rfl, h⟩
theorem ip {c : Prop} [Decidable c] {α : Type} {a b y : α} (h : (if c then a else b) = y) (hc : c) : a = y := by
  rw [if_pos hc] at h; exact h
theorem ine {c : Prop} [Decidable c] {α : Type} {a b y : α} (h : (if c then a else b) = y) (hc : ¬ c) : b = y := by
  rw [if_neg hc] at h; exact h
theorem ret_e {α β : Type} {a c : α} {b d : β} (h : some (a, b) = some (c, d)) : a = c ∧ b = d := by
  cases h; exact ⟨rfl, rfl⟩
def si (σ : cS) (k i : Nat) (v : Int32) : cS := (va_up σ.1 k (upd (σ.1 k) i v), σ.2)
def sL (σ : cS) (k i : Nat) (v : Int64) : cS := (σ.1, va_up σ.2 k (vp_updL (σ.2 k) i v))
def sA (σ : cS) (k : Nat) (f : Nat → Int32) : cS := (va_up σ.1 k f, σ.2)
def zb (v : Int32) : Bool := decide (v = 0) || decide (v = 1)
theorem zb_n {v : Int32} (h : zb v = true) : narrow .boolean (.int v) = .int v := by
  simp only [zb, Bool.or_eq_true, decide_eq_true_eq] at h
  rcases h with rfl | rfl <;> rfl
/-! the classes, the array types, the strings, the statics -/
def clG : List vw_C := [(RX0, TX0, 25), (RX1, TX1, 24), (RX2, TX2, 8), (RX3, TX3, 68), (RX4, TX4, 7), (RX5, TX5, 2), (RX6, TX6, 2), (RX8, TX8, 1), (RX9, TX9, 1), (RX10, TX10, 3), (RX12, TX12, 1), (RX13, TX13, 3), (RX14, TX14, 3), (RX15, TX15, 4)]
abbrev gG : Type := va_G × (Nat → ClassId) × (Nat → Nat) × (Nat → Nat) × va_W
def tysG (g : gG) : List (ClassId × FieldType) := [(g.2.1 0, .int), (g.2.1 1, .byte), (g.2.1 2, .boolean), (g.2.1 3, .long), (g.2.1 4, .object "DoughBorder$Dough"), (g.2.1 5, .object "java/lang/String"), (g.2.1 6, .object "DoughBorder$Rule"), (g.2.1 7, .object "DoughBorder$Image"), (g.2.1 8, .object "DoughBorder$Clause")]
def isNst (w : Cond) : Bool := match w with
  | .fieldLinkNest _ _ _ _ _ _ => true
  | .methodLinkNest _ _ _ _ => true
  | .castable _ _ => true
  | .declares _ => true
  | _ => false
def lw_nst : List Cond := lw_tbl.filter isNst
theorem nst_warm {w : Cond} {s U : State} (hw : isNst w = true) (hW : s.WarmedH U.vm) (h : va_Nw w s) : va_Nw w U := by
  cases w with
  | fieldLinkNest _ _ _ _ _ _ => exact va_Nw.warmF hW h
  | methodLinkNest _ _ _ _ => exact va_Nw.warmM hW h
  | castable _ _ => exact va_Nw.warmC hW h
  | declares _ => exact va_Nw.warmD hW h
  | _ => cases hw
theorem nst_same {w : Cond} {s U : State} (hw : isNst w = true) (hW : s.vm = U.vm) (h : va_Nw w s) : va_Nw w U := by
  cases w with
  | fieldLinkNest _ _ _ _ _ _ => exact va_Nw.same rfl hW h
  | methodLinkNest _ _ _ _ => exact va_Nw.same rfl hW h
  | castable _ _ => exact va_Nw.same rfl hW h
  | declares _ => exact va_Nw.same rfl hW h
  | _ => cases hw
def aoL : List String := ["DoughBorder$Dough", "java/lang/String", "DoughBorder$Rule", "DoughBorder$Image", "DoughBorder$Clause"]
def KG (g : gG) (U : State) : Prop := va_K g.1 clG (tysG g) U ∧ (∀ w ∈ lw_nst, va_Nw w U) ∧ ∀ C ∈ aoL, va_AO C U
theorem KG.warm {g : gG} {s U : State} (hW : s.WarmedH U.vm) (h : KG g s) : KG g U := ⟨va_K.moved hW.alike h.1, fun w hw => nst_warm (List.mem_filter.mp hw).2 hW (h.2.1 w hw), fun C hC => va_AO.moved hW.alike (h.2.2 C hC)⟩
theorem KG.same {g : gG} {s U : State} (hW : s.vm = U.vm) (h : KG g s) : KG g U := ⟨va_K.moved (by rw [hW]; exact Vm.Alike.refl _) h.1, fun w hw => nst_same (List.mem_filter.mp hw).2 hW (h.2.1 w hw), fun C hC => va_AO.moved (by rw [hW]; exact Vm.Alike.refl _) (h.2.2 C hC)⟩
def stT : List (String × Nat × String) := [("DoughBorder", 55, "strip"), ("DoughBorder", 57, "mile"), ("DoughBorder", 59, "warm"), ("DoughBorder", 61, "baked"), ("DoughBorder", 63, "village"), ("DoughBorder", 65, "want"), ("DoughBorder", 71, "creep"), ("DoughBorder", 76, "line"), ("DoughBorder", 78, "dough"), ("DoughBorder", 80, "salt"), ("DoughBorder", 82, "damp"), ("DoughBorder", 84, "night"), ("DoughBorder", 86, "above"), ("DoughBorder", 88, "below"), ("DoughBorder", 90, "west"), ("DoughBorder", 92, "east"), ("DoughBorder", 94, "crust"), ("DoughBorder$Fault", 1, "fault"), ("DoughBorder$Text", 195, "if"), ("DoughBorder$Text", 226, "or"), ("DoughBorder$Text", 236, "and"), ("DoughBorder$Text", 238, "not"), ("DoughBorderModel", 192, "mile"), ("DoughBorderModel", 194, "line"), ("DoughBorderModel", 195, "dough"), ("DoughBorderModel", 196, "salt"), ("DoughBorderModel", 198, "damp"), ("DoughBorderModel", 200, "warm"), ("DoughBorderModel", 202, "night"), ("DoughBorderModel", 204, "above"), ("DoughBorderModel", 206, "below"), ("DoughBorderModel", 208, "west"), ("DoughBorderModel", 210, "east"), ("DoughBorderModel", 212, "crust"), ("DoughBorderModel", 294, "not"), ("DoughBorderModel", 308, "and"), ("DoughBorderModel", 310, "or"), ("DoughBorderModel", 312, "strip"), ("DoughBorderModel", 314, "baked"), ("DoughBorderModel", 316, "village"), ("DoughBorderModel", 318, "want"), ("DoughBorderModel", 364, "creep"), ("DoughBorderModel", 366, "if")]
/-- the letters of a string, as bytes -/
def stC (i : Nat) : List Int32 := (stT.getD i ("", 0, "")).2.2.toList.map (fun c => nI c.toNat)
def FZ (g : gG) (A : Nat → Prop) (U : State) (H : Heap) : Prop :=
  (∀ i : Nat, ∀ q : String × Nat × String, stT[i]? = some q → vk_R q.1 q.2.1 q.2.2 (g.2.2.1 i) U ∧ va_O "java/lang/String" (g.2.2.1 i) A U H ∧ va_OF "java/lang/String" "coder" "B" (.int 0) (g.2.2.1 i) A U H ∧ va_OF "java/lang/String" "value" "[B" (.ref (g.2.2.2.1 i)) (g.2.2.1 i) A U H ∧ va_T .byte (g.2.2.2.1 i) (stC i).length (fun j => .int ((stC i).getD j 0)) A U H) ∧
  va_Z "java/lang/String" "COMPACT_STRINGS" "Z" (.int 1) A U H ∧ vx_Zq "jdk/internal/util/Preconditions" "SIOOBE_FORMATTER" "Ljava/util/function/BiFunction;" A U H ∧ vx_Zq Bundle.tN "UNASSIGNED_STACK" Bundle.steD A U H ∧ vx_Zq Bundle.tN "SUPPRESSED_SENTINEL" Bundle.listD A U H ∧
  va_P g.1 clG g.2.2.2.2 H ∧ ∀ q ∈ g.2.2.2.2, ¬ A q.1
theorem zq_moved {C n d : String} {A : Nat → Prop} {u U : State} {H : Heap} (hvm : u.vm.Alike U.vm) (h : vx_Zq C n d A u H) : vx_Zq C n d A U H := vx_Zq.moved hvm h
theorem FZ.warm {g : gG} {A : Nat → Prop} {s U : State} {H : Heap} (hW : s.WarmedH U.vm) (h : FZ g A s H) : FZ g A U H :=
  ⟨fun i q hq => by
    obtain ⟨h1, h2, h3, h4, h5⟩ := h.1 i q hq
    exact ⟨vk_R.warm hW h1, va_O.moved hW.alike h2, va_OF.moved hW.alike h3, va_OF.moved hW.alike h4, va_T.moved hW.alike h5⟩,
   va_Z.moved hW.alike h.2.1, vx_Zq.moved hW.alike h.2.2.1, vx_Zq.moved hW.alike h.2.2.2.1, vx_Zq.moved hW.alike h.2.2.2.2.1, h.2.2.2.2.2⟩
theorem FZ.same {g : gG} {A : Nat → Prop} {s U : State} {H : Heap} (hW : s.vm = U.vm) (h : FZ g A s H) : FZ g A U H := by
  have ha : s.vm.Alike U.vm := by rw [hW]; exact Vm.Alike.refl _
  exact ⟨fun i q hq => by
    obtain ⟨h1, h2, h3, h4, h5⟩ := h.1 i q hq
    exact ⟨vk_R.same hW.symm h1, va_O.moved ha h2, va_OF.moved ha h3, va_OF.moved ha h4, va_T.moved ha h5⟩,
   va_Z.moved ha h.2.1, vx_Zq.moved ha h.2.2.1, vx_Zq.moved ha h.2.2.2.1, vx_Zq.moved ha h.2.2.2.2.1, h.2.2.2.2.2⟩
theorem FZ.kept {g : gG} {A : Nat → Prop} {U : State} {H H1 : Heap} (h : FZ g A U H) (hq : ∀ a : Nat, a < H.size → ¬ A a → H1[a]? = H[a]?) : FZ g A U H1 :=
  ⟨fun i q hi => by
    obtain ⟨h1, h2, h3, h4, h5⟩ := h.1 i q hi
    exact ⟨h1, h2.kept hq, h3.kept hq, h4.kept hq, h5.kept hq⟩,
   h.2.1.kept hq, h.2.2.1.kept hq, h.2.2.2.1.kept hq, h.2.2.2.2.1.kept hq, fun k q hk => (h.2.2.2.2.2.1 k q hk).kept (hq _ (h.2.2.2.2.2.1 k q hk).lt (h.2.2.2.2.2.2 q (List.mem_of_getElem? hk))), h.2.2.2.2.2.2⟩
theorem FZ.narrow {g : gG} {A B : Nat → Prop} {U : State} {H : Heap} (h : FZ g A U H) (hAB : ∀ q, B q → A q) : FZ g B U H :=
  ⟨fun i q hi => by
    obtain ⟨h1, h2, h3, h4, h5⟩ := h.1 i q hi
    exact ⟨h1, h2.narrow hAB, h3.narrow hAB, h4.narrow hAB, h5.narrow hAB⟩,
   h.2.1.narrow hAB, h.2.2.1.narrow hAB, h.2.2.2.1.narrow hAB, h.2.2.2.2.1.narrow hAB, h.2.2.2.2.2.1, fun q hq hb => h.2.2.2.2.2.2 q hq (hAB _ hb)⟩
/-! worlds by block numbers -/
def wl (ids : List Nat) (ad : Nat → Nat) (E : Nat → va_E) : va_W := ids.map fun k => (ad k, E k)
def wI (A : Nat → Prop) (ids : List Nat) (ad : Nat → Nat) : Prop := (∀ i j, i ∈ ids → j ∈ ids → ad i = ad j → i = j) ∧ ∀ k ∈ ids, A (ad k)
def wA (ids : List Nat) (ad : Nat → Nat) (sz : Nat) : Nat → Prop := fun q => (∃ k, k ∈ ids ∧ q = ad k) ∨ sz ≤ q
theorem wl_i {ids : List Nat} {ad : Nat → Nat} {E : Nat → va_E} {k : Nat} (hk : k ∈ ids) : ∃ q : Nat, ids[q]? = some k ∧ (wl ids ad E)[q]? = some (ad k, E k) := by
  obtain ⟨q, hq⟩ := List.getElem?_of_mem hk
  exact ⟨q, hq, by simp [wl, hq]⟩
theorem wl_r {ids : List Nat} {ad : Nat → Nat} {E : Nat → va_E} {q : Nat} {z : Nat × va_E} (h : (wl ids ad E)[q]? = some z) : ∃ k : Nat, ids[q]? = some k ∧ k ∈ ids ∧ z = (ad k, E k) := by
  simp only [wl, List.getElem?_map, Option.map_eq_some_iff] at h
  obtain ⟨k, h1, h2⟩ := h
  exact ⟨k, h1, List.mem_of_getElem? h1, h2.symm⟩
theorem wl_at {D : va_G} {cl : List vw_C} {H : Heap} {ids : List Nat} {ad : Nat → Nat} {E : Nat → va_E} (h : va_P D cl (wl ids ad E) H) {k : Nat} (hk : k ∈ ids) : va_at D cl (ad k, E k) H := by
  obtain ⟨q, -, hq⟩ := wl_i (ad := ad) (E := E) hk
  exact h q _ hq
theorem wl_P {D : va_G} {cl : List vw_C} {H : Heap} {ids : List Nat} {ad : Nat → Nat} {E : Nat → va_E} (h : ∀ k ∈ ids, va_at D cl (ad k, E k) H) : va_P D cl (wl ids ad E) H := by
  intro q z hz
  obtain ⟨k, -, h2, rfl⟩ := wl_r hz
  exact h k h2
theorem wl_D {A : Nat → Prop} {ids : List Nat} {ad : Nat → Nat} {E : Nat → va_E} (hn : ids.Nodup) (h : wI A ids ad) : va_D A (wl ids ad E) := by
  refine ⟨fun i j x y hi hj hxy => ?_, fun q z hz => ?_⟩
  · obtain ⟨a, h1, h2, rfl⟩ := wl_r hi
    obtain ⟨b, h3, h4, rfl⟩ := wl_r hj
    have e := h.1 a b h2 h4 hxy
    subst e
    exact (List.getElem?_inj (List.getElem?_eq_some_iff.mp h1).1 hn).mp (h1.trans h3.symm)
  · obtain ⟨a, h1, h2, rfl⟩ := wl_r hz
    exact h.2 a h2
theorem wl_set {D : va_G} {cl : List vw_C} {A : Nat → Prop} {H : Heap} {ids : List Nat} {ad : Nat → Nat} {E : Nat → va_E} (hn : ids.Nodup) (hI : wI A ids ad) {q k : Nat} (hq : ids[q]? = some k) {e : va_E} (h : va_P D cl ((wl ids ad E).set q (ad k, e)) H) : va_P D cl (wl ids ad (va_up E k e)) H := by
  have hz : (wl ids ad E).set q (ad k, e) = wl ids ad (va_up E k e) := by
    apply List.ext_getElem?
    intro j
    rw [List.getElem?_set]
    by_cases hj : q = j
    · subst hj
      have hl := (List.getElem?_eq_some_iff.mp hq).1
      have hl2 : q < (wl ids ad E).length := by rw [wl, List.length_map]; exact hl
      rw [if_pos rfl, if_pos hl2, wl, List.getElem?_map, hq]
      simp [va_up]
    · rw [if_neg hj]
      simp only [wl, List.getElem?_map]
      cases hj2 : ids[j]? with
      | none => rfl
      | some b =>
        have hb : b ≠ k := by
          intro e
          subst e
          exact hj ((List.getElem?_inj (List.getElem?_eq_some_iff.mp hq).1 hn).mp (hq.trans hj2.symm))
        simp [va_up, hb]
  rw [← hz]
  exact h
def WB (g : gG) (A : Nat → Prop) (H0 : Heap) (ids : List Nat) (ad : Nat → Nat) (E : Nat → va_E) (H : Heap) (locs : List Loc) : Prop := va_P g.1 clG (wl ids ad E) H ∧ (ids.Nodup ∧ wI A ids ad) ∧ va_S A H0 H locs
theorem wl_congr {ids : List Nat} {ad : Nat → Nat} {E E' : Nat → va_E} (he : ∀ k ∈ ids, E' k = E k) : wl ids ad E' = wl ids ad E := List.map_congr_left fun k hk => by rw [he k hk]
theorem WB.e {g : gG} {A : Nat → Prop} {H0 H : Heap} {ids : List Nat} {ad : Nat → Nat} {E E' : Nat → va_E} {locs : List Loc} (h : WB g A H0 ids ad E H locs) (he : ∀ k ∈ ids, E' k = E k) : WB g A H0 ids ad E' H locs := ⟨by rw [wl_congr he]; exact h.1, h.2⟩
theorem WB.D {g : gG} {A : Nat → Prop} {H0 H : Heap} {ids : List Nat} {ad : Nat → Nat} {E E' : Nat → va_E} {locs : List Loc} (h : WB g A H0 ids ad E H locs) : va_D A (wl ids ad E') := wl_D h.2.1.1 h.2.1.2
/-! contracts -/
def Pre (g : gG) (ids : List Nat) (ad : Nat → Nat) (E : Nat → va_E) (sz : Nat) : State → Prop := fun U => U.heap.size = sz ∧ va_P g.1 clG (wl ids ad E) U.heap ∧ KG g U ∧ FZ g (wA ids ad sz) U U.heap
def Qg (rv : Option Value) (B : State → Prop) (A : Nat → Prop) : Array Value → State → Outcome → State → Prop := fun _ st oc t => (oc = .returned rv ∧ B t) ∧ va_F A st t
abbrev rm_ (fr lo : Nat) : Room := { frames := fr, cells := 0, slots := 0, locals := lo }
def MC (l : Launch) (y : MethodName) (cc : ByteArray) (nL : Nat) (ret : Option FieldType) (fr lo : Nat) (g : gG) (ids : List Nat) (ad : Nat → Nat) (E E' : Nat → va_E) (As : List Value) (rv : Option Value) : Prop :=
  ∀ sz : Nat, Met l y (ws_ y cc nL ret) (rm_ fr lo) (va_Pc As (Pre g ids ad E sz)) (Qg rv (fun t => va_P g.1 clG (wl ids ad E') t.heap) (wA ids ad sz)) 0 0 (wA ids ad sz)
/-- what holds all through a method -/
def MX (p : Program) (s : State) (m : MethodId) (args : Array Value) (meth : Method) (c : Code) (cc : ByteArray) (nL : Nat) (own : String) (ret : Option FieldType) (g : gG) (A : Nat → Prop) : Prop :=
  CallFix p m c cc nL s args lw_all own ∧ meth.sig.returnType = ret ∧ meth.locks = false ∧ KG g s ∧ FZ g A s s.heap ∧ ∀ q : Nat, s.heap.size ≤ q → A q
abbrev Qm (below : List Frame) (g : gG) (ids : List Nat) (ad : Nat → Nat) (E' : Nat → va_E) (rv : Option Value) (A : Nat → Prop) (args : Array Value) (s : State) : State → Prop := MQ below (Qg rv (fun t => va_P g.1 clG (wl ids ad E') t.heap) A) args s 0 0 A
theorem MC.of {l : Launch} {y : MethodName} {cc : ByteArray} {nL : Nat} {ret : Option FieldType} {fr lo : Nat} {g : gG} {ids : List Nat} {ad : Nat → Nat} {E E' : Nat → va_E} {As : List Value} {rv : Option Value} (hy : plainName y.cls = true) (hn : ids.Nodup) (hi : wI (fun _ => True) ids ad) (hL : (lg_sl As).length ≤ nL)
    (body : ∀ (p : Program) (e : Env) (s : State) (m : MethodId) (below : List Frame) (meth : Method) (c : Code) (A : Nat → Prop) (ls : Array Slot), MX p s m As.toArray meth c cc nL y.cls ret g A → WB g A s.heap ids ad E s.heap [] → lv_has ls nL (lv_args 0 As) →
      W p l e (rm_ fr lo) s m As.toArray below meth c s.heap [] 0 0 (Qm below g ids ad E' rv A As.toArray s) (F0 m 0 ls [])) : MC l y cc nL ret fr lo g ids ad E E' As rv := by
  intro sz
  refine Met.ofW (cc := cc) (maxL := nL) (ret := ret) hy rfl ?_
  intro p e s m args below meth c s₁ B hml hv
  obtain ⟨rfl, hsz, hP, hK, hF⟩ := hv
  subst hsz
  have hts := atoms_spec (ws := ws_ y cc nL ret) B.pre
  have hts : ∀ w ∈ lw_all, w.before _ s = true := fun w h => hts w (List.mem_cons_of_mem _ h)
  have hl := lv_entry As (n := nL) hL
  rw [lg_entry_eq]
  exact body p e s m below meth c (wA ids ad s.heap.size) _ ⟨⟨B.exec, B.bytes, hml, findClass_of_methodNamed B.named, hts⟩, B.returns, B.notSynchronized, hK, hF, fun q h => Or.inr h⟩ ⟨hP, ⟨hn, hi.1, fun k hk => Or.inl ⟨k, hk, rfl⟩⟩, va_S.rf⟩ hl
section RB
variable {p : Program} {l : Launch} {e : Env} {R : Room} {s : State} {m : MethodId} {args : Array Value} {below : List Frame} {meth : Method} {c : Code} {H : Heap} {locs : List Loc} {cells slots : Nat} {Q : State → Prop}
variable {cc : ByteArray} {nL : Nat} {own : String} {ret : Option FieldType} {g : gG} {A : Nat → Prop} {ids : List Nat} {ad : Nat → Nat} {E : Nat → va_E} {pc : Nat} {ls : Array Slot} {rest : List Value}
theorem r_get (X : MX p s m args meth c cc nL own ret g A) (hW : WB g A s.heap ids ad E H locs) {k ci j index N : Nat} {C : String} {T : u_T} {fs : List Value} {v : Value} (hk : k ∈ ids) (hE : E k = .inr (ci, fs)) (hc : clG[ci]? = some (C, T, N)) (hin : ∀ w ∈ u_ws C T N, w ∈ lw_all) (hj : j < N) (hl : Cond.fieldLink own index (T j).1 (T j).2.1 (T j).2.2.1 ∈ lw_all) (hv : fs[j]? = some v) (hdg : decode cc pc = .ok (.getfield index, 3))
    (kk : W p l e R s m args below meth c H locs cells slots Q (F0 m (pc + 3) ls (v :: rest))) : W p l e R s m args below meth c H locs cells slots Q (F0 m pc ls (.ref (ad k) :: rest)) := by
  obtain ⟨q, -, hq⟩ := wl_i (ad := ad) (E := E) hk
  rw [hE] at hq
  exact va_get X.1.1 X.1.2.1 X.1.2.2.2.2 hin X.1.2.2.2.1 X.2.2.2.1.1 hW.1 q hq hc j hj (X.1.2.2.2.2 _ hl) (fun _ h => h) hv hdg kk
theorem r_put (X : MX p s m args meth c cc nL own ret g A) (hW : WB g A s.heap ids ad E H locs) {k ci j index N : Nat} {C : String} {T : u_T} {ty0 : Nat → FieldType} {fs : List Value} {v : Value} (hk : k ∈ ids) (hE : E k = .inr (ci, fs)) (hc : clG[ci]? = some (C, T, N)) (hin : ∀ w ∈ u_ws C T N, w ∈ lw_all) (hty : ∀ k, k < N → parseFieldDescriptor (T k).2.2.1 = some (ty0 k)) (hnm : ∀ a, a < N → ∀ b, b < N → a ≠ b → (T a).2.1 ≠ (T b).2.1) (hj : j < N) (hl : Cond.fieldLink own index (T j).1 (T j).2.1 (T j).2.2.1 ∈ lw_all) (hfin : (T j).2.2.2 = false) (hn : narrow (ty0 j) v = v) (hfit : fits (ty0 j) v = true) (hlen : j < fs.length) (hdg : decode cc pc = .ok (.putfield index, 3))
    (kk : ∀ (H1 : Heap) (locs1 : List Loc), WB g A s.heap ids ad (va_up E k (.inr (ci, fs.set j v))) H1 locs1 → W p l e R s m args below meth c H1 locs1 cells slots Q (F0 m (pc + 3) ls rest)) : W p l e R s m args below meth c H locs cells slots Q (F0 m pc ls (v :: .ref (ad k) :: rest)) := by
  obtain ⟨q, hqi, hq⟩ := wl_i (ad := ad) (E := E) hk
  rw [hE] at hq
  exact va_put X.1.1 X.1.2.1 X.1.2.2.2.2 hin ty0 hty hnm X.1.2.2.2.1 X.2.2.2.1.1 hW.1 hW.D hW.2.2 q hq hc j hj (X.1.2.2.2.2 _ hl) (fun _ h => h) hfin (hty j hj) hn hfit hlen hdg (fun H1 locs1 hP _ hS => kk H1 locs1 ⟨wl_set hW.2.1.1 hW.2.1.2 hqi hP, hW.2.1, hS⟩)
theorem r_iald (X : MX p s m args meth c cc nL own ret g A) (hW : WB g A s.heap ids ad E H locs) {k n : Nat} {f : Nat → Int32} (hk : k ∈ ids) (hE : E k = .inl (g.2.1 0, n, .inl f)) {i : Int32} (hin : inb i n = true) (hdg : decode cc pc = .ok (.iaload, 1))
    (kk : W p l e R s m args below meth c H locs cells slots Q (F0 m (pc + 1) ls (.int (f (ix i)) :: rest))) : W p l e R s m args below meth c H locs cells slots Q (F0 m pc ls (.int i :: .ref (ad k) :: rest)) := by
  obtain ⟨q, -, hq⟩ := wl_i (ad := ad) (E := E) hk
  rw [hE] at hq
  exact va_iald X.1.1 X.1.2.1 X.2.2.2.1.1 hW.1 q 0 hq rfl (inb_in hin) hdg kk
theorem r_bald (X : MX p s m args meth c cc nL own ret g A) (hW : WB g A s.heap ids ad E H locs) {k n : Nat} {f : Nat → Int32} (hk : k ∈ ids) (hE : E k = .inl (g.2.1 1, n, .inl f)) {i : Int32} (hin : inb i n = true) (hdg : decode cc pc = .ok (.baload, 1))
    (kk : W p l e R s m args below meth c H locs cells slots Q (F0 m (pc + 1) ls (.int (f (ix i)) :: rest))) : W p l e R s m args below meth c H locs cells slots Q (F0 m pc ls (.int i :: .ref (ad k) :: rest)) := by
  obtain ⟨q, -, hq⟩ := wl_i (ad := ad) (E := E) hk
  rw [hE] at hq
  exact va_bald X.1.1 X.1.2.1 X.2.2.2.1.1 hW.1 q 1 hq rfl (inb_in hin) hdg kk
theorem r_zald (X : MX p s m args meth c cc nL own ret g A) (hW : WB g A s.heap ids ad E H locs) {k n : Nat} {f : Nat → Int32} (hk : k ∈ ids) (hE : E k = .inl (g.2.1 2, n, .inl f)) {i : Int32} (hin : inb i n = true) (hdg : decode cc pc = .ok (.baload, 1))
    (kk : W p l e R s m args below meth c H locs cells slots Q (F0 m (pc + 1) ls (.int (f (ix i)) :: rest))) : W p l e R s m args below meth c H locs cells slots Q (F0 m pc ls (.int i :: .ref (ad k) :: rest)) := by
  obtain ⟨q, -, hq⟩ := wl_i (ad := ad) (E := E) hk
  rw [hE] at hq
  exact va_zald X.1.1 X.1.2.1 X.2.2.2.1.1 hW.1 q 2 hq rfl (inb_in hin) hdg kk
theorem r_lald (X : MX p s m args meth c cc nL own ret g A) (hW : WB g A s.heap ids ad E H locs) {k n : Nat} {f : Nat → Int64} (hk : k ∈ ids) (hE : E k = .inl (g.2.1 3, n, .inr (.inl f))) {i : Int32} (hin : inb i n = true) (hdg : decode cc pc = .ok (.laload, 1))
    (kk : W p l e R s m args below meth c H locs cells slots Q (F0 m (pc + 1) ls (.long (f (ix i)) :: rest))) : W p l e R s m args below meth c H locs cells slots Q (F0 m pc ls (.int i :: .ref (ad k) :: rest)) := by
  obtain ⟨q, -, hq⟩ := wl_i (ad := ad) (E := E) hk
  rw [hE] at hq
  exact va_lald X.1.1 X.1.2.1 X.2.2.2.1.1 hW.1 q 3 hq rfl (inb_in hin) hdg kk
theorem r_alen (X : MX p s m args meth c cc nL own ret g A) (hW : WB g A s.heap ids ad E H locs) {k t0 : Nat} {cA : ClassId} {x : vp_A} {ty : FieldType} (hk : k ∈ ids) (hE : E k = .inl (cA, x)) (ht : (tysG g)[t0]? = some (cA, ty)) (hdg : decode cc pc = .ok (.arraylength, 1))
    (kk : W p l e R s m args below meth c H locs cells slots Q (F0 m (pc + 1) ls (.int (nI x.1) :: rest))) : W p l e R s m args below meth c H locs cells slots Q (F0 m pc ls (.ref (ad k) :: rest)) := by
  obtain ⟨q, -, hq⟩ := wl_i (ad := ad) (E := E) hk
  rw [hE] at hq
  exact va_alen X.1.1 X.1.2.1 X.2.2.2.1.1 hW.1 q t0 hq ht rfl hdg kk
theorem r_iast (X : MX p s m args meth c cc nL own ret g A) (hW : WB g A s.heap ids ad E H locs) {k n : Nat} {f : Nat → Int32} (hk : k ∈ ids) (hE : E k = .inl (g.2.1 0, n, .inl f)) {i x : Int32} (hin : inb i n = true) (hdg : decode cc pc = .ok (.iastore, 1))
    (kk : ∀ (H1 : Heap) (locs1 : List Loc), WB g A s.heap ids ad (va_up E k (.inl (g.2.1 0, n, .inl (upd f (ix i) x)))) H1 locs1 → W p l e R s m args below meth c H1 locs1 cells slots Q (F0 m (pc + 1) ls rest)) : W p l e R s m args below meth c H locs cells slots Q (F0 m pc ls (.int x :: .int i :: .ref (ad k) :: rest)) := by
  obtain ⟨q, hqi, hq⟩ := wl_i (ad := ad) (E := E) hk
  rw [hE] at hq
  exact va_iast X.1.1 X.1.2.1 X.2.2.2.1.1 hW.1 hW.D hW.2.2 q 0 hq rfl (inb_in hin) hdg (fun H1 locs1 hP _ hS => kk H1 locs1 ⟨wl_set hW.2.1.1 hW.2.1.2 hqi hP, hW.2.1, hS⟩)
theorem r_bast (X : MX p s m args meth c cc nL own ret g A) (hW : WB g A s.heap ids ad E H locs) {k n : Nat} {f : Nat → Int32} (hk : k ∈ ids) (hE : E k = .inl (g.2.1 1, n, .inl f)) {i x : Int32} (hin : inb i n = true) (hdg : decode cc pc = .ok (.bastore, 1))
    (kk : ∀ (H1 : Heap) (locs1 : List Loc), WB g A s.heap ids ad (va_up E k (.inl (g.2.1 1, n, .inl (upd f (ix i) x.toInt8.toInt32)))) H1 locs1 → W p l e R s m args below meth c H1 locs1 cells slots Q (F0 m (pc + 1) ls rest)) : W p l e R s m args below meth c H locs cells slots Q (F0 m pc ls (.int x :: .int i :: .ref (ad k) :: rest)) := by
  obtain ⟨q, hqi, hq⟩ := wl_i (ad := ad) (E := E) hk
  rw [hE] at hq
  refine va_bast X.1.1 X.1.2.1 X.2.2.2.1.1 hW.1 hW.D hW.2.2 q 1 hq rfl (inb_in hin) hdg (fun H1 locs1 hP _ hS => kk H1 locs1 ⟨?_, hW.2.1, hS⟩)
  rw [vp_nar_byte] at hP
  exact wl_set hW.2.1.1 hW.2.1.2 hqi hP
theorem nar_z {v : Int32} (h : zb v = true) : vp_nar .boolean v = v := by
  simp only [zb, Bool.or_eq_true, decide_eq_true_eq] at h
  rcases h with rfl | rfl <;> rfl
theorem r_zast (X : MX p s m args meth c cc nL own ret g A) (hW : WB g A s.heap ids ad E H locs) {k n : Nat} {f : Nat → Int32} (hk : k ∈ ids) (hE : E k = .inl (g.2.1 2, n, .inl f)) {i x : Int32} (hin : inb i n = true) (hz : zb x = true) (hdg : decode cc pc = .ok (.bastore, 1))
    (kk : ∀ (H1 : Heap) (locs1 : List Loc), WB g A s.heap ids ad (va_up E k (.inl (g.2.1 2, n, .inl (upd f (ix i) x)))) H1 locs1 → W p l e R s m args below meth c H1 locs1 cells slots Q (F0 m (pc + 1) ls rest)) : W p l e R s m args below meth c H locs cells slots Q (F0 m pc ls (.int x :: .int i :: .ref (ad k) :: rest)) := by
  obtain ⟨q, hqi, hq⟩ := wl_i (ad := ad) (E := E) hk
  rw [hE] at hq
  refine va_zast X.1.1 X.1.2.1 X.2.2.2.1.1 hW.1 hW.D hW.2.2 q 2 hq rfl (inb_in hin) hdg (fun H1 locs1 hP _ hS => kk H1 locs1 ⟨?_, hW.2.1, hS⟩)
  rw [nar_z hz] at hP
  exact wl_set hW.2.1.1 hW.2.1.2 hqi hP
theorem r_last (X : MX p s m args meth c cc nL own ret g A) (hW : WB g A s.heap ids ad E H locs) {k n : Nat} {f : Nat → Int64} (hk : k ∈ ids) (hE : E k = .inl (g.2.1 3, n, .inr (.inl f))) {i : Int32} {x : Int64} (hin : inb i n = true) (hdg : decode cc pc = .ok (.lastore, 1))
    (kk : ∀ (H1 : Heap) (locs1 : List Loc), WB g A s.heap ids ad (va_up E k (.inl (g.2.1 3, n, .inr (.inl (vp_updL f (ix i) x))))) H1 locs1 → W p l e R s m args below meth c H1 locs1 cells slots Q (F0 m (pc + 1) ls rest)) : W p l e R s m args below meth c H locs cells slots Q (F0 m pc ls (.long x :: .int i :: .ref (ad k) :: rest)) := by
  obtain ⟨q, hqi, hq⟩ := wl_i (ad := ad) (E := E) hk
  rw [hE] at hq
  exact va_last X.1.1 X.1.2.1 X.2.2.2.1.1 hW.1 hW.D hW.2.2 q 3 hq rfl (inb_in hin) hdg (fun H1 locs1 hP _ hS => kk H1 locs1 ⟨wl_set hW.2.1.1 hW.2.1.2 hqi hP, hW.2.1, hS⟩)
/-- a method's ends -/
theorem r_iret {E' : Nat → va_E} {rv : Option Value} {v : Int32} (X : MX p s m args meth c cc nL own (some .int) g A) (hW : WB g A s.heap ids ad E H locs) (he : ∀ k ∈ ids, E' k = E k) (hv : rv = some (.int v)) (hdg : decode cc pc = .ok (.ireturn, 1)) : W p l e R s m args below meth c H locs 0 0 (Qm below g ids ad E' rv A args s) (F0 m pc ls [.int v]) :=
  W.iret X.1.1 X.1.2.1 X.2.1 (fun t ht _ => ⟨⟨by rw [hv], by show va_P _ _ _ t.heap; rw [ht, wl_congr he]; exact hW.1⟩, hW.2.2.F ht⟩) hW.2.2.2.2 hdg X.2.2.1
theorem r_zret {E' : Nat → va_E} {rv : Option Value} {v : Int32} (X : MX p s m args meth c cc nL own (some .boolean) g A) (hW : WB g A s.heap ids ad E H locs) (he : ∀ k ∈ ids, E' k = E k) (hv : rv = some (.int v)) (hz : zb v = true) (hdg : decode cc pc = .ok (.ireturn, 1)) : W p l e R s m args below meth c H locs 0 0 (Qm below g ids ad E' rv A args s) (F0 m pc ls [.int v]) :=
  W.zret X.1.1 X.1.2.1 X.2.1 (zb_n hz) (fun t ht _ => ⟨⟨by rw [hv], by show va_P _ _ _ t.heap; rw [ht, wl_congr he]; exact hW.1⟩, hW.2.2.F ht⟩) hW.2.2.2.2 hdg X.2.2.1
theorem r_lret {E' : Nat → va_E} {rv : Option Value} {v : Int64} (X : MX p s m args meth c cc nL own (some .long) g A) (hW : WB g A s.heap ids ad E H locs) (he : ∀ k ∈ ids, E' k = E k) (hv : rv = some (.long v)) (hdg : decode cc pc = .ok (.lreturn, 1)) : W p l e R s m args below meth c H locs 0 0 (Qm below g ids ad E' rv A args s) (F0 m pc ls [.long v]) :=
  W.lret X.1.1 X.1.2.1 X.2.1 (fun t ht _ => ⟨⟨by rw [hv], by show va_P _ _ _ t.heap; rw [ht, wl_congr he]; exact hW.1⟩, hW.2.2.F ht⟩) hW.2.2.2.2 hdg X.2.2.1
theorem r_vret {E' : Nat → va_E} {rv : Option Value} (X : MX p s m args meth c cc nL own none g A) (hW : WB g A s.heap ids ad E H locs) (he : ∀ k ∈ ids, E' k = E k) (hv : rv = none) (hdg : decode cc pc = .ok (.return_, 1)) : W p l e R s m args below meth c H locs 0 0 (Qm below g ids ad E' rv A args s) (F0 m pc ls []) :=
  W.vret X.1.1 X.1.2.1 X.2.1 (fun t ht _ => ⟨⟨by rw [hv], by show va_P _ _ _ t.heap; rw [ht, wl_congr he]; exact hW.1⟩, hW.2.2.F ht⟩) hW.2.2.2.2 hdg X.2.2.1
/-! calls: the callee's world is a part of the caller's -/
/-- ids2, ad2, E2 lie in ids, ad, E; behind the call E becomes E' where E2 becomes E2' -/
def Sub (ids : List Nat) (ad : Nat → Nat) (E E' : Nat → va_E) (ids2 : List Nat) (ad2 : Nat → Nat) (E2 E2' : Nat → va_E) : Prop :=
  (∀ k ∈ ids2, ∃ j ∈ ids, ad j = ad2 k ∧ E j = E2 k) ∧ ∀ j ∈ ids, (∃ k ∈ ids2, ad j = ad2 k ∧ E' j = E2' k) ∨ (E' j = E j ∧ ∀ k ∈ ids2, ad j ≠ ad2 k)
theorem Sub.all {ids : List Nat} {ad : Nat → Nat} {E E' : Nat → va_E} : Sub ids ad E E' ids ad E E' := ⟨fun k hk => ⟨k, hk, rfl, rfl⟩, fun j hj => Or.inl ⟨j, hj, rfl, rfl⟩⟩
theorem Sub.nil {ids : List Nat} {ad ad2 : Nat → Nat} {E E2 E2' : Nat → va_E} : Sub ids ad E E [] ad2 E2 E2' := ⟨fun k hk => (List.not_mem_nil hk).elim, fun j _ => Or.inr ⟨rfl, fun k hk => (List.not_mem_nil hk).elim⟩⟩
theorem Sub.P {ids ids2 : List Nat} {ad ad2 : Nat → Nat} {E E' E2 E2' : Nat → va_E} (h : Sub ids ad E E' ids2 ad2 E2 E2') {D : va_G} {cl : List vw_C} {H : Heap} (hP : va_P D cl (wl ids ad E) H) : va_P D cl (wl ids2 ad2 E2) H := by
  refine wl_P fun k hk => ?_
  obtain ⟨j, hj, e1, e2⟩ := h.1 k hk
  have := wl_at hP hj
  rw [e1, e2] at this
  exact this
theorem Sub.adr {ids ids2 : List Nat} {ad ad2 : Nat → Nat} {E E' E2 E2' : Nat → va_E} (h : Sub ids ad E E' ids2 ad2 E2 E2') {A : Nat → Prop} (hI : wI A ids ad) {H0 H : Heap} {locs : List Loc} (hS : va_S A H0 H locs) (hA : ∀ q : Nat, H0.size ≤ q → A q) : ∀ q, wA ids2 ad2 H.size q → A q := by
  rintro q (⟨k, hk, rfl⟩ | hq)
  · obtain ⟨j, hj, e1, -⟩ := h.1 k hk
    rw [← e1]
    exact hI.2 j hj
  · exact hA q (Nat.le_trans hS.1 hq)
theorem Sub.join {ids ids2 : List Nat} {ad ad2 : Nat → Nat} {E E' E2 E2' : Nat → va_E} (h : Sub ids ad E E' ids2 ad2 E2 E2') {D : va_G} {cl : List vw_C} {H H1 : Heap} (hP : va_P D cl (wl ids ad E) H) (hP1 : va_P D cl (wl ids2 ad2 E2') H1) (hk : ∀ q : Nat, q < H.size → ¬ wA ids2 ad2 H.size q → H1[q]? = H[q]?) : va_P D cl (wl ids ad E') H1 := by
  refine wl_P fun j hj => ?_
  rcases h.2 j hj with ⟨k, hk2, e1, e2⟩ | ⟨e1, e2⟩
  · rw [e1, e2]
    exact wl_at hP1 hk2
  · rw [e1]
    have h1 := wl_at hP hj
    refine h1.kept (hk _ h1.lt ?_)
    rintro (⟨k, hk2, e3⟩ | h3)
    · exact e2 k hk2 e3
    · have := h1.lt
      exact absurd h3 (Nat.not_le.mpr this)
theorem pre_blind {As : List Value} {ids : List Nat} {ad : Nat → Nat} {E : Nat → va_E} {sz : Nat} : FrameBlind (va_Pc As (Pre g ids ad E sz)) := by
  intro a U gf mk h
  obtain ⟨h0, h1, h2, h3, h4⟩ := h
  exact ⟨h0, h1, h2, KG.same (s := U) (U := U.calling gf mk a) rfl h3, FZ.same (s := U) (U := U.calling gf mk a) rfl h4⟩
theorem r_pre (X : MX p s m args meth c cc nL own ret g A) (hW : WB g A s.heap ids ad E H locs) {ids2 : List Nat} {ad2 : Nat → Nat} {E' E2 E2' : Nat → va_E} (hs : Sub ids ad E E' ids2 ad2 E2 E2') : ∀ U : State, U.heap = H → s.WarmedH U.vm → Pre g ids2 ad2 E2 H.size U := by
  intro U hU hWm
  refine ⟨by rw [hU], by rw [hU]; exact hs.P hW.1, KG.warm hWm X.2.2.2.1, ?_⟩
  rw [hU]
  exact FZ.warm hWm ((X.2.2.2.2.1.kept hW.2.2.2.1).narrow (hs.adr hW.2.1.2 hW.2.2 X.2.2.2.2.2))
theorem r_back {cells slots : Nat} (X : MX p s m args meth c cc nL own ret g A) (hW : WB g A s.heap ids ad E H locs) {ids2 : List Nat} {ad2 : Nat → Nat} {E' E2 E2' : Nat → va_E} (hs : Sub ids ad E E' ids2 ad2 E2 E2') {rv : Option Value} {st : List Value} {a : Array Value}
    (hr : va_Run p l e R s m args below meth c H locs cells slots 0 0 (F0 m pc ls st) rest (Qg rv (fun t => va_P g.1 clG (wl ids2 ad2 E2') t.heap) (wA ids2 ad2 H.size) a) (wA ids2 ad2 H.size))
    (kk : ∀ (H1 : Heap) (locs1 : List Loc), WB g A s.heap ids ad E' H1 locs1 → W p l e R s m args below meth c H1 locs1 cells slots Q (F0 m (pc + 3) ls (rv.toList ++ rest))) : W p l e R s m args below meth c H locs cells slots Q (F0 m pc ls st) := by
  intro T hT XS
  obtain ⟨v, st₀, t, T', L, h0, X', hL, e1, e2, ⟨⟨hv, hb⟩, hz, hk⟩, stp⟩ := hr T hT XS
  cases hv
  rw [h0] at hz hk
  have hA := hs.adr hW.2.1.2 hW.2.2 X.2.2.2.2.2
  have hS := hW.2.2
  obtain ⟨t2, a1, b1⟩ := kk T'.heap (locs ++ L) ⟨by rw [e1]; exact hs.join hW.1 hb hk, hW.2.1, Nat.le_trans hS.1 (by rw [e1]; exact hz), fun q h1 h2 => by rw [e1, hk q (Nat.lt_of_lt_of_le h1 hS.1) (fun z => h2 (hA q z))]; exact hS.2.1 q h1 h2, fun q hq => by
      rcases List.mem_append.mp hq with h | h
      · exact hS.2.2 q h
      · exact hA _ (hL q h)⟩ T' rfl X'
  exact ⟨t2, stp t2 a1, b1⟩
theorem r_callV (X : MX p s m args meth c cc nL own ret g A) (hW : WB g A s.heap ids ad E H locs) {ids2 : List Nat} {ad2 : Nat → Nat} {E' E2 E2' : Nat → va_E} (hs : Sub ids ad E E' ids2 ad2 E2 E2') {y : MethodName} {bytes : ByteArray} {maxL fr2 lo2 index n ci k0 N : Nat} {ret2 : Option FieldType} {C : String} {T : u_T} {fs : List Value} {As st : List Value} {rv : Option Value}
    (hM : MC l y bytes maxL ret2 fr2 lo2 g ids2 ad2 E2 E2' (.ref (ad k0) :: As) rv) (hG : GoodIn lw_all (wsV own index C y (ws_ y bytes maxL ret2))) (hd : y.cls = C ∧ y.cls ≠ "java/lang/invoke/MethodHandle" ∧ y.cls ≠ "java/lang/invoke/VarHandle" ∧ (parseMethodDescriptor y.desc).map (fun d => d.parameters.length) = some n)
    (hk : k0 ∈ ids) (hE : E k0 = .inr (ci, fs)) (hc : clG[ci]? = some (C, T, N)) (hR : fr2 + 1 ≤ R.frames ∧ 8 + (maxL + 11) + lo2 ≤ R.locals) {lv : List (Nat × Value)} (hls : lv_has ls nL lv) (hn : As.length = n) (hst : st = As.reverse ++ .ref (ad k0) :: rest) (hcat : (rest.map fun v => v.category).sum ≤ 8) (hcs : cells ≤ R.cells ∧ slots ≤ R.slots) (hdg : decode cc pc = .ok (.invokevirtual index, 3))
    (kk : ∀ (H1 : Heap) (locs1 : List Loc), WB g A s.heap ids ad E' H1 locs1 → W p l e R s m args below meth c H1 locs1 cells slots Q (F0 m (pc + 3) ls (rv.toList ++ rest))) : W p l e R s m args below meth c H locs cells slots Q (F0 m pc ls st) := by
  obtain ⟨q, -, hq⟩ := wl_i (ad := ad) (E := E) hk
  rw [hE] at hq
  exact r_back X hW hs (va_runV X.1 (hM H.size) (cwV n X.1.2.2.2.2 hG rfl rfl rfl hd hR) ⟨pre_blind, va_recv X.2.2.2.1.1 hW.1 hc hq, fun U hU hWm => ⟨rfl, r_pre X hW hs U hU hWm⟩⟩ rfl hn hls.1 hst (lv_room hcat) hdg hcs) kk
theorem r_callS (X : MX p s m args meth c cc nL own ret g A) (hW : WB g A s.heap ids ad E H locs) {ids2 : List Nat} {ad2 : Nat → Nat} {E' E2 E2' : Nat → va_E} (hs : Sub ids ad E E' ids2 ad2 E2 E2') {y : MethodName} {bytes : ByteArray} {maxL fr2 lo2 index n : Nat} {ret2 : Option FieldType} {As st : List Value} {rv : Option Value}
    (hM : MC l y bytes maxL ret2 fr2 lo2 g ids2 ad2 E2 E2' As rv) (hG : GoodIn lw_all (va_wsS own index y (ws_ y bytes maxL ret2))) (hd : y.cls ≠ "java/lang/invoke/MethodHandle" ∧ y.cls ≠ "java/lang/invoke/VarHandle" ∧ (parseMethodDescriptor y.desc).map (fun d => d.parameters.length) = some n)
    (hR : fr2 + 1 ≤ R.frames ∧ 8 + (maxL + 11) + lo2 ≤ R.locals) {lv : List (Nat × Value)} (hls : lv_has ls nL lv) (hn : As.length = n) (hst : st = As.reverse ++ rest) (hcat : (rest.map fun v => v.category).sum ≤ 8) (hcs : cells ≤ R.cells ∧ slots ≤ R.slots) (hdg : decode cc pc = .ok (.invokestatic index, 3))
    (kk : ∀ (H1 : Heap) (locs1 : List Loc), WB g A s.heap ids ad E' H1 locs1 → W p l e R s m args below meth c H1 locs1 cells slots Q (F0 m (pc + 3) ls (rv.toList ++ rest))) : W p l e R s m args below meth c H locs cells slots Q (F0 m pc ls st) := by
  exact r_back X hW hs (va_runS X.1 (hM H.size) (va_cwS n X.1.2.2.2.2 hG rfl rfl rfl hd hR) ⟨pre_blind, fun U hU hWm => ⟨rfl, r_pre X hW hs U hU hWm⟩⟩ rfl hn hls.1 hst (lv_room hcat) hdg hcs) kk
end RB
