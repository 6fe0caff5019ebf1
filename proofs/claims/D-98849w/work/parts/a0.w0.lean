/-! THE CLAIM OUT OF ONE WALK OF THE LAW'S BODY. Your part is whole_start (and what it stands on); all else here is the same for every law, but numbers. -/
def R_law : String := "DoughBorderLaw"
def lw_P (b : Addr) (xs : List Int32) (args : Array Value) (s : State) : Prop := args = #[.ref b] ∧ s.IntsAt b xs ∧ xs.length ≤ 384 ∧ (Jvm.Cond.and given_1 narrow_1).before args s = true
def lw_Q (_ : Array Value) (s : State) (o : Outcome) (t : State) : Prop := o = .returned (some (.int 1)) ∧ Framed s o t [] 601024 7293034
def lw_Z (below : List Frame) (a : Array Value) (s : State) : State → Prop := fun t => ∃ o, t.status = .running ∧ Ended t below o ∧ lw_Q a s o t
/-- the law's own end, with 1 on the stack, nothing written that was there before, its room as the claim has it -/
theorem lw_ret {p : Program} {l : Launch} {e : Env} {s : State} {m : MethodId} {below : List Frame} {meth : Method} {c : Code} {b : Nat} (hx : p.tables.exec = Jvm.exec) (hb : c.code = code) (hr : meth.sig.returnType = ret) (hlocks : meth.locks = false) {pc : Nat} {H : Heap} {ls : Array Slot} (hdg : decode code pc = .ok (.ireturn, 1)) : W p l e room_1 s m #[Value.ref b] below meth c H [] 601024 7293034 (lw_Z below #[Value.ref b] s) (F0 m pc ls [.int 1]) := by
  intro T hT X
  obtain ⟨fs, hret, hrun, hended, hW, hframe⟩ := X.leave (v := some (.int 1)) (hlocks := hlocks) (fun h => by rw [hr] at h; cases h)
  have hmeth' : T.vm.method? m = some meth := X.method'
  refine ⟨T.setFrames fs, ?_, .returned (some (.int 1)), hrun, hended, rfl, ⟨_, rfl⟩, hW, hframe⟩
  jvm_step X.here [X.here.top, hx, hb, hdg, hmeth', hr, ret, narrow_b1]
  (try refine ⟨rfl, ?_⟩); (try refine ⟨rfl, ?_⟩)
  first | (intro acts; rw [hret _ acts rfl rfl rfl]) | rw [hret _ _ rfl rfl rfl]
  exact Steps.refl _
/-- what holds at the law's entry: the machine, the code, the tables' words (any of lw_tbl by 'hts w (by decide +kernel)'), the script of L ints xs at the cell b, what the Statement gives of the start (any of its parts by flat_of_before) -/
def lw_At (p : Program) (s : State) (m : MethodId) (meth : Method) (c : Code) (b L : Nat) (xs : Nat → Int32) : Prop :=
  p.tables.exec = Jvm.exec ∧ c.code = code ∧ meth.sig.returnType = ret ∧ c.maxLocals = 4 ∧ s.vm.findClass R_law = some m.cls ∧ (∀ w ∈ lw_tbl, w.before #[Value.ref b] s = true) ∧ va_X b L xs s s.heap ∧ b < s.heap.size ∧ meth.locks = false ∧ (Jvm.Cond.and given_1 narrow_1).before #[Value.ref b] s = true

set_option maxRecDepth 100000
def tmS (i : Nat) : Term := .string (stT.getD i ("", 0, "")).1 (stT.getD i ("", 0, "")).2.1
def tmV (i : Nat) : Term := .field (tmS i) "java/lang/String" "value" "[B"
/-- what the start says of a String constant -/
def cdZs (i : Nat) : List Cond := [Cond.exactly (tmS i) "java/lang/String", Cond.eq (.field (tmS i) "java/lang/String" "coder" "B") (.int 0), Cond.arrayOf (tmV i) .byte, Cond.eq (.length (tmV i)) (.int (Int32.ofNat (stC i).length))] ++ (List.range (stC i).length).map (fun j => Cond.eq (.elem (tmV i) (.int (Int32.ofNat j))) (.int ((stC i).getD j 0)))
/-- a condition by its path -/
def atP : List Bool → Cond → Cond
  | false :: p, .and a _ => atP p a
  | true :: p, .and _ b => atP p b
  | _, c => c
theorem atP_b {args : Array Value} {s : State} : ∀ (p : List Bool) (T : Cond), T.before args s = true → (atP p T).before args s = true := by
  intro p
  induction p with
  | nil =>
    intro T h
    cases T <;> exact h
  | cons x p ih =>
    intro T h
    cases T with
    | and a b =>
      rw [Cond.before_and, Bool.and_eq_true] at h
      cases x
      · exact ih a h.1
      · exact ih b h.2
    | _ => cases x <;> exact h
def pth : Nat → List (List Bool)
  | 0 => [[true, false, false, true, true, false, false, true, true, true], [true, false, false, true, true, false, true, false, false], [true, false, false, true, true, false, true, false, true, false], [true, false, false, true, true, false, true, false, true, true], [true, false, false, true, true, false, true, true, false, false], [true, false, false, true, true, false, true, true, false, true], [true, false, false, true, true, false, true, true, true, false], [true, false, false, true, true, false, true, true, true, true], [true, false, false, true, true, true, false, false, false]]
  | 1 => [[true, false, false, true, true, true, false, false, true, false], [true, false, false, true, true, true, false, false, true, true], [true, false, false, true, true, true, false, true, false, false], [true, false, false, true, true, true, false, true, false, true], [true, false, false, true, true, true, false, true, true, false], [true, false, false, true, true, true, false, true, true, true], [true, false, false, true, true, true, true, false, false, false], [true, false, false, true, true, true, true, false, false, true]]
  | 2 => [[true, false, false, true, true, true, true, false, true, false], [true, false, false, true, true, true, true, false, true, true], [true, false, false, true, true, true, true, true, false, false], [true, false, false, true, true, true, true, true, false, true], [true, false, false, true, true, true, true, true, true, false], [true, false, false, true, true, true, true, true, true, true], [true, false, true, false, false, false, false, false, false], [true, false, true, false, false, false, false, false, true, false]]
  | 3 => [[true, false, true, false, false, false, false, false, true, true], [true, false, true, false, false, false, false, true, false, false], [true, false, true, false, false, false, false, true, false, true], [true, false, true, false, false, false, false, true, true, false], [true, false, true, false, false, false, false, true, true, true], [true, false, true, false, false, false, true, false, false], [true, false, true, false, false, false, true, false, true, false], [true, false, true, false, false, false, true, false, true, true], [true, false, true, false, false, false, true, true, false, false]]
  | 4 => [[true, false, true, false, false, false, true, true, false, true], [true, false, true, false, false, false, true, true, true, false], [true, false, true, false, false, false, true, true, true, true], [true, false, true, false, false, true, false, false, false], [true, false, true, false, false, true, false, false, true, false], [true, false, true, false, false, true, false, false, true, true], [true, false, true, false, false, true, false, true, false, false], [true, false, true, false, false, true, false, true, false, true], [true, false, true, false, false, true, false, true, true, false], [true, false, true, false, false, true, false, true, true, true], [true, false, true, false, false, true, true, false, false]]
  | 5 => [[true, false, true, false, false, true, true, false, true, false], [true, false, true, false, false, true, true, false, true, true], [true, false, true, false, false, true, true, true, false, false], [true, false, true, false, false, true, true, true, false, true], [true, false, true, false, false, true, true, true, true, false], [true, false, true, false, false, true, true, true, true, true], [true, false, true, false, true, false, false, false, false], [true, false, true, false, true, false, false, false, true, false]]
  | 6 => [[true, false, true, false, true, false, false, false, true, true], [true, false, true, false, true, false, false, true, false, false], [true, false, true, false, true, false, false, true, false, true], [true, false, true, false, true, false, false, true, true, false], [true, false, true, false, true, false, false, true, true, true], [true, false, true, false, true, false, true, false, false], [true, false, true, false, true, false, true, false, true, false], [true, false, true, false, true, false, true, false, true, true], [true, false, true, false, true, false, true, true, false, false]]
  | 7 => [[true, false, true, false, true, false, true, true, false, true], [true, false, true, false, true, false, true, true, true, false], [true, false, true, false, true, false, true, true, true, true], [true, false, true, false, true, true, false, false, false], [true, false, true, false, true, true, false, false, true, false], [true, false, true, false, true, true, false, false, true, true], [true, false, true, false, true, true, false, true, false, false], [true, false, true, false, true, true, false, true, false, true]]
  | 8 => [[true, false, true, false, true, true, false, true, true, false], [true, false, true, false, true, true, false, true, true, true], [true, false, true, false, true, true, true, false, false, false], [true, false, true, false, true, true, true, false, false, true], [true, false, true, false, true, true, true, false, true, false], [true, false, true, false, true, true, true, false, true, true], [true, false, true, false, true, true, true, true, false, false], [true, false, true, false, true, true, true, true, false, true], [true, false, true, false, true, true, true, true, true, false]]
  | 9 => [[true, false, true, false, true, true, true, true, true, true], [true, false, true, true, false, false, false, false, false], [true, false, true, true, false, false, false, false, true, false], [true, false, true, true, false, false, false, false, true, true], [true, false, true, true, false, false, false, true, false, false], [true, false, true, true, false, false, false, true, false, true], [true, false, true, true, false, false, false, true, true, false], [true, false, true, true, false, false, false, true, true, true]]
  | 10 => [[true, false, true, true, false, false, true, false, false], [true, false, true, true, false, false, true, false, true, false], [true, false, true, true, false, false, true, false, true, true], [true, false, true, true, false, false, true, true, false, false], [true, false, true, true, false, false, true, true, false, true], [true, false, true, true, false, false, true, true, true, false], [true, false, true, true, false, false, true, true, true, true], [true, false, true, true, false, true, false, false, false]]
  | 11 => [[true, false, true, true, false, true, false, false, true, false], [true, false, true, true, false, true, false, false, true, true], [true, false, true, true, false, true, false, true, false, false], [true, false, true, true, false, true, false, true, false, true], [true, false, true, true, false, true, false, true, true, false], [true, false, true, true, false, true, false, true, true, true], [true, false, true, true, false, true, true, false, false, false], [true, false, true, true, false, true, true, false, false, true], [true, false, true, true, false, true, true, false, true, false]]
  | 12 => [[true, false, true, true, false, true, true, false, true, true], [true, false, true, true, false, true, true, true, false, false], [true, false, true, true, false, true, true, true, false, true], [true, false, true, true, false, true, true, true, true, false], [true, false, true, true, false, true, true, true, true, true], [true, false, true, true, true, false, false, false, false], [true, false, true, true, true, false, false, false, true, false], [true, false, true, true, true, false, false, false, true, true], [true, false, true, true, true, false, false, true, false, false]]
  | 13 => [[true, false, true, true, true, false, false, true, false, true], [true, false, true, true, true, false, false, true, true, false], [true, false, true, true, true, false, false, true, true, true], [true, false, true, true, true, false, true, false, false], [true, false, true, true, true, false, true, false, true, false], [true, false, true, true, true, false, true, false, true, true], [true, false, true, true, true, false, true, true, false, false], [true, false, true, true, true, false, true, true, false, true], [true, false, true, true, true, false, true, true, true, false]]
  | 14 => [[true, false, true, true, true, false, true, true, true, true], [true, false, true, true, true, true, false, false, false], [true, false, true, true, true, true, false, false, true, false], [true, false, true, true, true, true, false, false, true, true], [true, false, true, true, true, true, false, true, false, false], [true, false, true, true, true, true, false, true, false, true], [true, false, true, true, true, true, false, true, true, false], [true, false, true, true, true, true, false, true, true, true]]
  | 15 => [[true, false, true, true, true, true, true, false, false, false], [true, false, true, true, true, true, true, false, false, true], [true, false, true, true, true, true, true, false, true, false], [true, false, true, true, true, true, true, false, true, true], [true, false, true, true, true, true, true, true, false, false], [true, false, true, true, true, true, true, true, false, true], [true, false, true, true, true, true, true, true, true, false], [true, false, true, true, true, true, true, true, true, true]]
  | 16 => [[true, true, false, false, false, false, false, false, false], [true, true, false, false, false, false, false, false, true, false], [true, true, false, false, false, false, false, false, true, true], [true, true, false, false, false, false, false, true, false, false], [true, true, false, false, false, false, false, true, false, true], [true, true, false, false, false, false, false, true, true, false], [true, true, false, false, false, false, false, true, true, true], [true, true, false, false, false, false, true, false, false], [true, true, false, false, false, false, true, false, true, false]]
  | 17 => [[true, false, false, true, false, true, true, true, false, true], [true, false, false, true, false, true, true, true, true, false], [true, false, false, true, false, true, true, true, true, true], [true, false, false, true, true, false, false, false, false], [true, false, false, true, true, false, false, false, true, false], [true, false, false, true, true, false, false, false, true, true], [true, false, false, true, true, false, false, true, false, false], [true, false, false, true, true, false, false, true, false, true], [true, false, false, true, true, false, false, true, true, false]]
  | 18 => [[true, true, false, false, false, false, true, false, true, true], [true, true, false, false, false, false, true, true, false, false], [true, true, false, false, false, false, true, true, false, true], [true, true, false, false, false, false, true, true, true, false], [true, true, false, false, false, false, true, true, true, true], [true, true, false, false, false, true, false, false, false]]
  | 19 => [[true, true, false, false, true, false, false, false, true, false], [true, true, false, false, true, false, false, false, true, true], [true, true, false, false, true, false, false, true, false, false], [true, true, false, false, true, false, false, true, false, true], [true, true, false, false, true, false, false, true, true, false], [true, true, false, false, true, false, false, true, true, true]]
  | 20 => [[true, true, false, false, false, true, true, false, true, false], [true, true, false, false, false, true, true, false, true, true], [true, true, false, false, false, true, true, true, false, false], [true, true, false, false, false, true, true, true, false, true], [true, true, false, false, false, true, true, true, true, false], [true, true, false, false, false, true, true, true, true, true], [true, true, false, false, true, false, false, false, false]]
  | 21 => [[true, true, false, false, false, true, false, false, true, false], [true, true, false, false, false, true, false, false, true, true], [true, true, false, false, false, true, false, true, false, false], [true, true, false, false, false, true, false, true, false, true], [true, true, false, false, false, true, false, true, true, false], [true, true, false, false, false, true, false, true, true, true], [true, true, false, false, false, true, true, false, false]]
  | 22 => [[true, true, false, false, true, true, false, true, false, false], [true, true, false, false, true, true, false, true, false, true], [true, true, false, false, true, true, false, true, true, false], [true, true, false, false, true, true, false, true, true, true], [true, true, false, false, true, true, true, false, false, false], [true, true, false, false, true, true, true, false, false, true], [true, true, false, false, true, true, true, false, true, false], [true, true, false, false, true, true, true, false, true, true]]
  | 23 => [[true, true, false, true, true, true, false, true, true, false], [true, true, false, true, true, true, false, true, true, true], [true, true, false, true, true, true, true, false, false, false], [true, true, false, true, true, true, true, false, false, true], [true, true, false, true, true, true, true, false, true, false], [true, true, false, true, true, true, true, false, true, true], [true, true, false, true, true, true, true, true, false, false], [true, true, false, true, true, true, true, true, false, true]]
  | 24 => [[true, true, false, true, true, true, true, true, true, true], [true, true, true, false, false, false, false, false, false], [true, true, true, false, false, false, false, false, true, false], [true, true, true, false, false, false, false, false, true, true], [true, true, true, false, false, false, false, true, false, false], [true, true, true, false, false, false, false, true, false, true], [true, true, true, false, false, false, false, true, true, false], [true, true, true, false, false, false, false, true, true, true], [true, true, true, false, false, false, true, false, false]]
  | 25 => [[true, true, true, false, false, false, true, false, true, true], [true, true, true, false, false, false, true, true, false, false], [true, true, true, false, false, false, true, true, false, true], [true, true, true, false, false, false, true, true, true, false], [true, true, true, false, false, false, true, true, true, true], [true, true, true, false, false, true, false, false, false], [true, true, true, false, false, true, false, false, true, false], [true, true, true, false, false, true, false, false, true, true]]
  | 26 => [[true, true, true, false, false, true, false, true, false, true], [true, true, true, false, false, true, false, true, true, false], [true, true, true, false, false, true, false, true, true, true], [true, true, true, false, false, true, true, false, false], [true, true, true, false, false, true, true, false, true, false], [true, true, true, false, false, true, true, false, true, true], [true, true, true, false, false, true, true, true, false, false], [true, true, true, false, false, true, true, true, false, true]]
  | 27 => [[true, true, false, false, true, true, true, true, false, true], [true, true, false, false, true, true, true, true, true, false], [true, true, false, false, true, true, true, true, true, true], [true, true, false, true, false, false, false, false, false], [true, true, false, true, false, false, false, false, true, false], [true, true, false, true, false, false, false, false, true, true], [true, true, false, true, false, false, false, true, false, false], [true, true, false, true, false, false, false, true, false, true]]
  | 28 => [[true, true, true, false, false, true, true, true, true, true], [true, true, true, false, true, false, false, false, false], [true, true, true, false, true, false, false, false, true, false], [true, true, true, false, true, false, false, false, true, true], [true, true, true, false, true, false, false, true, false, false], [true, true, true, false, true, false, false, true, false, true], [true, true, true, false, true, false, false, true, true, false], [true, true, true, false, true, false, false, true, true, true], [true, true, true, false, true, false, true, false, false]]
  | 29 => [[true, true, true, false, true, false, true, false, true, true], [true, true, true, false, true, false, true, true, false, false], [true, true, true, false, true, false, true, true, false, true], [true, true, true, false, true, false, true, true, true, false], [true, true, true, false, true, false, true, true, true, true], [true, true, true, false, true, true, false, false, false], [true, true, true, false, true, true, false, false, true, false], [true, true, true, false, true, true, false, false, true, true], [true, true, true, false, true, true, false, true, false, false]]
  | 30 => [[true, true, true, false, true, true, false, true, true, false], [true, true, true, false, true, true, false, true, true, true], [true, true, true, false, true, true, true, false, false, false], [true, true, true, false, true, true, true, false, false, true], [true, true, true, false, true, true, true, false, true, false], [true, true, true, false, true, true, true, false, true, true], [true, true, true, false, true, true, true, true, false, false], [true, true, true, false, true, true, true, true, false, true], [true, true, true, false, true, true, true, true, true, false]]
  | 31 => [[true, true, true, true, false, false, false, false, false], [true, true, true, true, false, false, false, false, true, false], [true, true, true, true, false, false, false, false, true, true], [true, true, true, true, false, false, false, true, false, false], [true, true, true, true, false, false, false, true, false, true], [true, true, true, true, false, false, false, true, true, false], [true, true, true, true, false, false, false, true, true, true], [true, true, true, true, false, false, true, false, false]]
  | 32 => [[true, true, true, true, false, false, true, false, true, true], [true, true, true, true, false, false, true, true, false, false], [true, true, true, true, false, false, true, true, false, true], [true, true, true, true, false, false, true, true, true, false], [true, true, true, true, false, false, true, true, true, true], [true, true, true, true, false, true, false, false, false], [true, true, true, true, false, true, false, false, true, false], [true, true, true, true, false, true, false, false, true, true]]
  | 33 => [[true, true, true, true, false, true, false, true, false, true], [true, true, true, true, false, true, false, true, true, false], [true, true, true, true, false, true, false, true, true, true], [true, true, true, true, false, true, true, false, false, false], [true, true, true, true, false, true, true, false, false, true], [true, true, true, true, false, true, true, false, true, false], [true, true, true, true, false, true, true, false, true, true], [true, true, true, true, false, true, true, true, false, false], [true, true, true, true, false, true, true, true, false, true]]
  | 34 => [[true, true, true, true, true, false, false, true, true, true], [true, true, true, true, true, false, true, false, false], [true, true, true, true, true, false, true, false, true, false], [true, true, true, true, true, false, true, false, true, true], [true, true, true, true, true, false, true, true, false, false], [true, true, true, true, true, false, true, true, false, true], [true, true, true, true, true, false, true, true, true, false]]
  | 35 => [[true, true, true, true, true, true, false, false, false], [true, true, true, true, true, true, false, false, true, false], [true, true, true, true, true, true, false, false, true, true], [true, true, true, true, true, true, false, true, false, false], [true, true, true, true, true, true, false, true, false, true], [true, true, true, true, true, true, false, true, true, false], [true, true, true, true, true, true, false, true, true, true]]
  | 36 => [[true, true, true, true, true, true, true, false, false, true], [true, true, true, true, true, true, true, false, true, false], [true, true, true, true, true, true, true, false, true, true], [true, true, true, true, true, true, true, true, false, false], [true, true, true, true, true, true, true, true, false, true], [true, true, true, true, true, true, true, true, true, false]]
  | 37 => [[true, true, false, false, true, false, true, false, false], [true, true, false, false, true, false, true, false, true, false], [true, true, false, false, true, false, true, false, true, true], [true, true, false, false, true, false, true, true, false, false], [true, true, false, false, true, false, true, true, false, true], [true, true, false, false, true, false, true, true, true, false], [true, true, false, false, true, false, true, true, true, true], [true, true, false, false, true, true, false, false, false], [true, true, false, false, true, true, false, false, true, false]]
  | 38 => [[true, true, false, true, false, false, false, true, true, true], [true, true, false, true, false, false, true, false, false], [true, true, false, true, false, false, true, false, true, false], [true, true, false, true, false, false, true, false, true, true], [true, true, false, true, false, false, true, true, false, false], [true, true, false, true, false, false, true, true, false, true], [true, true, false, true, false, false, true, true, true, false], [true, true, false, true, false, false, true, true, true, true], [true, true, false, true, false, true, false, false, false]]
  | 39 => [[true, true, false, true, false, true, false, false, true, true], [true, true, false, true, false, true, false, true, false, false], [true, true, false, true, false, true, false, true, false, true], [true, true, false, true, false, true, false, true, true, false], [true, true, false, true, false, true, false, true, true, true], [true, true, false, true, false, true, true, false, false], [true, true, false, true, false, true, true, false, true, false], [true, true, false, true, false, true, true, false, true, true], [true, true, false, true, false, true, true, true, false, false], [true, true, false, true, false, true, true, true, false, true], [true, true, false, true, false, true, true, true, true, false]]
  | 40 => [[true, true, false, true, true, false, false, false, false], [true, true, false, true, true, false, false, false, true, false], [true, true, false, true, true, false, false, false, true, true], [true, true, false, true, true, false, false, true, false, false], [true, true, false, true, true, false, false, true, false, true], [true, true, false, true, true, false, false, true, true, false], [true, true, false, true, true, false, false, true, true, true], [true, true, false, true, true, false, true, false, false]]
  | 41 => [[true, true, false, true, true, false, true, false, true, true], [true, true, false, true, true, false, true, true, false, false], [true, true, false, true, true, false, true, true, false, true], [true, true, false, true, true, false, true, true, true, false], [true, true, false, true, true, false, true, true, true, true], [true, true, false, true, true, true, false, false, false], [true, true, false, true, true, true, false, false, true, false], [true, true, false, true, true, true, false, false, true, true], [true, true, false, true, true, true, false, true, false, false]]
  | 42 => [[true, true, true, true, false, true, true, true, true, true], [true, true, true, true, true, false, false, false, false], [true, true, true, true, true, false, false, false, true, false], [true, true, true, true, true, false, false, false, true, true], [true, true, true, true, true, false, false, true, false, false], [true, true, true, true, true, false, false, true, false, true]]
  | _ => []
theorem pth_ok : ∀ i, i < 43 → (pth i).map (fun p => atP p (Cond.and given_1 narrow_1)) = cdZs i := by decide +kernel
theorem cdZs_b {args : Array Value} {s : State} (h : (Cond.and given_1 narrow_1).before args s = true) {i : Nat} (hi : i < 43) : ∀ c ∈ cdZs i, c.before args s = true := by
  intro c hc
  rw [← pth_ok i hi] at hc
  obtain ⟨p, -, rfl⟩ := List.mem_map.mp hc
  exact atP_b p _ h
theorem stR_in : ∀ i, i < 43 → Cond.stringRef (stT.getD i ("", 0, "")).1 (stT.getD i ("", 0, "")).2.1 (stT.getD i ("", 0, "")).2.2 ∈ lw_tbl := by
  intro i hi
  match i, hi with
  | 0, _ => exact q347
  | 1, _ => exact q348
  | 2, _ => exact q349
  | 3, _ => exact q350
  | 4, _ => exact q351
  | 5, _ => exact q352
  | 6, _ => exact q353
  | 7, _ => exact q354
  | 8, _ => exact q355
  | 9, _ => exact q356
  | 10, _ => exact q357
  | 11, _ => exact q358
  | 12, _ => exact q359
  | 13, _ => exact q360
  | 14, _ => exact q361
  | 15, _ => exact q362
  | 16, _ => exact q363
  | 17, _ => exact q313
  | 18, _ => exact q724
  | 19, _ => exact q796
  | 20, _ => exact q779
  | 21, _ => exact q741
  | 22, _ => exact q1394
  | 23, _ => exact q1490
  | 24, _ => exact q1491
  | 25, _ => exact q1492
  | 26, _ => exact q1493
  | 27, _ => exact q1395
  | 28, _ => exact q1494
  | 29, _ => exact q1495
  | 30, _ => exact q1496
  | 31, _ => exact q1497
  | 32, _ => exact q1498
  | 33, _ => exact q1499
  | 34, _ => exact q1513
  | 35, _ => exact q1530
  | 36, _ => exact q1531
  | 37, _ => exact q1393
  | 38, _ => exact q1396
  | 39, _ => exact q1397
  | 40, _ => exact q1398
  | 41, _ => exact q1466
  | 42, _ => exact q1500
  | n + 43, h => exact absurd h (by omega)
theorem st_len : stT.length = 43 ∧ ∀ i, i < 43 → (stC i).length < 2 ^ 31 := by decide +kernel
theorem stat_b {args : Array Value} {s : State} (h : (Cond.and given_1 narrow_1).before args s = true) : (Cond.eq (.static "java/lang/String" "COMPACT_STRINGS" "Z") (.int 1)).before args s = true ∧ (Cond.isRef (.static "jdk/internal/util/Preconditions" "SIOOBE_FORMATTER" "Ljava/util/function/BiFunction;")).before args s = true ∧ (Cond.isRef (.static Bundle.tN "UNASSIGNED_STACK" Bundle.steD)).before args s = true ∧ (Cond.isRef (.static Bundle.tN "SUPPRESSED_SENTINEL" Bundle.listD)).before args s = true :=
  ⟨atP_b [true, false, false, false, false, false, false, true, false, true] _ h, atP_b [true, false, false, false, false, false, false, true, true, false] _ h, atP_b [true, false, false, false, false, false, false, false, true, true] _ h, atP_b [true, false, false, false, false, false, false, true, false, false] _ h⟩
theorem arr_prim {s : State} {args : Array Value} {ty : FieldType} (hp : ty = .int ∨ ty = .byte ∨ ty = .boolean ∨ ty = .long) (h : (Cond.arrayClass ty).before args s = true) : ∃ cA : ClassId, ArrOfT s cA ty ∧ va_RA s cA ty := by
  obtain ⟨c, k, comp, h1, h2, h3⟩ := Cond.arrayClass_spec h
  refine ⟨c, fun n z => ⟨(fun k h => by cases h), k, h2, comp, h3⟩, ?_⟩
  rcases hp with rfl | rfl | rfl | rfl <;> exact h1
theorem arr_obj {s : State} {args : Array Value} {C : String} (h : (Cond.arrayOver (.object C)).before args s = true) : ∃ cA : ClassId, ArrOfT s cA (.object C) ∧ va_RA s cA (.object C) := by
  obtain ⟨comp, c, k, h1, h2, h3, h4, h5⟩ := Cond.arrayOver_spec h
  exact ⟨c, fun n z => ⟨(fun k h => by cases h), k, h3, comp, h4⟩, k, comp, h3, h4, h1, h5⟩
/-- what holds at the law's entry, as what holds all through a method -/
theorem law_start {p : Program} {s : State} {m : MethodId} {meth : Method} {c : Code} {b L : Nat} {xs : Nat → Int32} (C0 : lw_At p s m meth c b L xs) : ∃ g : gG, g.2.2.2.2 = [] ∧ MX p s m #[Value.ref b] meth c code 4 R_law ret g (fun q => s.heap.size ≤ q) := by
  obtain ⟨hx, hb, hr, hml, hown, hts0, hX, hbl, hlocks, hgv⟩ := C0
  have hts : ∀ w ∈ lw_all, w.before #[Value.ref b] s = true := fun w h => hts0 w (lw_all_tbl h)
  have hA : ∀ a : Nat, a < s.heap.size → ¬ (fun q : Nat => s.heap.size ≤ q) a := fun a h => Nat.not_le.mpr h
  have hst := stat_b hgv
  obtain ⟨c0, i0, k0⟩ := u_known (C := RX0) (T := TX0) (N := 25) hts in_X0 (hts _ q147)
  obtain ⟨c1, i1, k1⟩ := u_known (C := RX1) (T := TX1) (N := 24) hts in_X1 (hts _ q155)
  obtain ⟨c2, i2, k2⟩ := u_known (C := RX2) (T := TX2) (N := 8) hts in_X2 (hts _ q272)
  obtain ⟨c3, i3, k3⟩ := u_known (C := RX3) (T := TX3) (N := 68) hts in_X3 (hts _ q1144)
  obtain ⟨c4, i4, k4⟩ := u_known (C := RX4) (T := TX4) (N := 7) hts in_X4 (hts _ q469)
  obtain ⟨c5, i5, k5⟩ := u_known (C := RX5) (T := TX5) (N := 2) hts in_X5 (hts _ q633)
  obtain ⟨c6, i6, k6⟩ := u_known (C := RX6) (T := TX6) (N := 2) hts in_X6 (hts _ q654)
  obtain ⟨c7, i7, k7⟩ := u_known (C := RX8) (T := TX8) (N := 1) hts in_X8 (hts _ q686)
  obtain ⟨c8, i8, k8⟩ := u_known (C := RX9) (T := TX9) (N := 1) hts in_X9 (hts _ q699)
  obtain ⟨c9, i9, k9⟩ := u_known (C := RX10) (T := TX10) (N := 3) hts in_X10 (hts _ q709)
  obtain ⟨c10, i10, k10⟩ := u_known (C := RX12) (T := TX12) (N := 1) hts in_X12 (hts _ q747)
  obtain ⟨c11, i11, k11⟩ := u_known (C := RX13) (T := TX13) (N := 3) hts in_X13 (hts _ q764)
  obtain ⟨c12, i12, k12⟩ := u_known (C := RX14) (T := TX14) (N := 3) hts in_X14 (hts _ q781)
  obtain ⟨c13, i13, k13⟩ := u_known (C := RX15) (T := TX15) (N := 4) hts in_X15 (hts _ q1118)
  obtain ⟨a0, A0⟩ := arr_prim (ty := .int) (by decide) (hts _ q268)
  obtain ⟨a1, A1⟩ := arr_prim (ty := .byte) (by decide) (hts _ q344)
  obtain ⟨a2, A2⟩ := arr_prim (ty := .boolean) (by decide) (hts _ q1353)
  obtain ⟨a3, A3⟩ := arr_prim (ty := .long) (by decide) (hts _ q269)
  obtain ⟨a4, A4⟩ := arr_obj (hts0 _ q270)
  obtain ⟨a5, A5⟩ := arr_obj (hts0 _ q346)
  obtain ⟨a6, A6⟩ := arr_obj (hts0 _ q365)
  obtain ⟨a7, A7⟩ := arr_obj (hts0 _ q367)
  obtain ⟨a8, A8⟩ := arr_obj (hts0 _ q639)
  have hstr : ∀ i : Nat, ∃ q : Nat × Nat, i < 43 → (tmS i).eval #[Value.ref b] s none [] s = some (.ref q.1) ∧ va_O "java/lang/String" q.1 (fun q => s.heap.size ≤ q) s s.heap ∧ va_OF "java/lang/String" "coder" "B" (.int 0) q.1 (fun q => s.heap.size ≤ q) s s.heap ∧ va_OF "java/lang/String" "value" "[B" (.ref q.2) q.1 (fun q => s.heap.size ≤ q) s s.heap ∧ va_T .byte q.2 (stC i).length (fun j => .int ((stC i).getD j 0)) (fun q => s.heap.size ≤ q) s s.heap := by
    intro i
    by_cases hi : i < 43
    · have hc : ∀ w ∈ cdZs i, w.before #[Value.ref b] s = true := cdZs_b hgv hi
      have hex : (Cond.exactly (tmS i) "java/lang/String").before #[Value.ref b] s = true := hc _ (List.mem_append_left _ List.mem_cons_self)
      have hco : (Cond.eq (.field (tmS i) "java/lang/String" "coder" "B") (.int 0)).before #[Value.ref b] s = true := hc _ (List.mem_append_left _ (List.mem_cons_of_mem _ List.mem_cons_self))
      have har : (Cond.arrayOf (tmV i) .byte).before #[Value.ref b] s = true := hc _ (List.mem_append_left _ (List.mem_cons_of_mem _ (List.mem_cons_of_mem _ List.mem_cons_self)))
      have hle : (Cond.eq (.length (tmV i)) (.int (Int32.ofNat (stC i).length))).before #[Value.ref b] s = true := hc _ (List.mem_append_left _ (List.mem_cons_of_mem _ (List.mem_cons_of_mem _ (List.mem_cons_of_mem _ List.mem_cons_self))))
      have hel : ∀ j : Nat, j < (stC i).length → (Cond.eq (.elem (tmV i) (.int (Int32.ofNat j))) (.int ((stC i).getD j 0))).before #[Value.ref b] s = true := fun j hj => hc _ (List.mem_append_right _ (List.mem_map.mpr ⟨j, List.mem_range.mpr hj, rfl⟩))
      obtain ⟨a, c, cA, kA, q1, q2, q3, q4, q5, q6, -⟩ := Cond.exactly_spec (args := #[Value.ref b]) (first := s) (o := none) (s := s) (idx := []) (t := tmS i) (cls := "java/lang/String") hex
      obtain ⟨t, ht, hT⟩ := va_Tof (f := fun j => .int ((stC i).getD j 0)) (A := fun q => s.heap.size ≤ q) (st_len.2 i hi) har (va_eqt hle) (fun j hj => va_eqt (hel j hj)) hA
      exact ⟨(a, t), fun _ => ⟨q1, ⟨cA, q3, q5, by rw [q6]; exact q2, hA a (Array.getElem?_eq_some_iff.mp q3).1⟩, vk_OFof q1 (va_eqt hco) hA, vk_OFof q1 ht hA, hT⟩⟩
    · exact ⟨(0, 0), fun h => absurd h hi⟩
  obtain ⟨as, has⟩ := Classical.axiomOfChoice hstr
  refine ⟨((fun k => [c0, c1, c2, c3, c4, c5, c6, c7, c8, c9, c10, c11, c12, c13].getD k c0, fun k => [i0, i1, i2, i3, i4, i5, i6, i7, i8, i9, i10, i11, i12, i13].getD k i0), fun k => [a0, a1, a2, a3, a4, a5, a6, a7, a8].getD k a0, fun i => (as i).1, fun i => (as i).2, []), rfl, ⟨hx, hb, hml, hown, hts⟩, hr, hlocks, ⟨⟨fun k q hq => ?_, fun k q hq => ?_⟩, fun w hw => ?_, fun C hC => ?_⟩, ⟨fun i q hq => ?_, ?_, ?_, ?_, ?_, fun k q hq => by simp at hq, fun q hq => absurd hq List.not_mem_nil⟩, fun q h => h⟩
  · have hk : k < 14 := (List.getElem?_eq_some_iff.mp hq).1
    rcases (show k = 0 ∨ k = 1 ∨ k = 2 ∨ k = 3 ∨ k = 4 ∨ k = 5 ∨ k = 6 ∨ k = 7 ∨ k = 8 ∨ k = 9 ∨ k = 10 ∨ k = 11 ∨ k = 12 ∨ k = 13 by omega) with rfl | rfl | rfl | rfl | rfl | rfl | rfl | rfl | rfl | rfl | rfl | rfl | rfl | rfl
    · cases hq; exact k0
    · cases hq; exact k1
    · cases hq; exact k2
    · cases hq; exact k3
    · cases hq; exact k4
    · cases hq; exact k5
    · cases hq; exact k6
    · cases hq; exact k7
    · cases hq; exact k8
    · cases hq; exact k9
    · cases hq; exact k10
    · cases hq; exact k11
    · cases hq; exact k12
    · cases hq; exact k13
  · have hk : k < 9 := (List.getElem?_eq_some_iff.mp hq).1
    rcases (show k = 0 ∨ k = 1 ∨ k = 2 ∨ k = 3 ∨ k = 4 ∨ k = 5 ∨ k = 6 ∨ k = 7 ∨ k = 8 by omega) with rfl | rfl | rfl | rfl | rfl | rfl | rfl | rfl | rfl
    · cases hq; exact A0
    · cases hq; exact A1
    · cases hq; exact A2
    · cases hq; exact A3
    · cases hq; exact A4
    · cases hq; exact A5
    · cases hq; exact A6
    · cases hq; exact A7
    · cases hq; exact A8
  · obtain ⟨h1, h2⟩ := List.mem_filter.mp hw
    have ho : w.onTables = true := by
      cases w <;> first | rfl | cases h2
    exact va_Nw.of ho (hts0 w h1)
  · have h5 : C = "DoughBorder$Dough" ∨ C = "java/lang/String" ∨ C = "DoughBorder$Rule" ∨ C = "DoughBorder$Image" ∨ C = "DoughBorder$Clause" := by
      simpa [aoL] using hC
    rcases h5 with rfl | rfl | rfl | rfl | rfl
    · exact va_AO.of (hts0 _ q270)
    · exact va_AO.of (hts0 _ q346)
    · exact va_AO.of (hts0 _ q365)
    · exact va_AO.of (hts0 _ q367)
    · exact va_AO.of (hts0 _ q639)
  · have hi : i < 43 := by
      have := (List.getElem?_eq_some_iff.mp hq).1
      rw [st_len.1] at this
      exact this
    have eq : stT.getD i ("", 0, "") = q := by rw [List.getD_eq_getElem?_getD, hq]; rfl
    obtain ⟨q1, q2⟩ := has i hi
    refine ⟨vk_R.of (A := #[Value.ref b]) ?_ ?_, q2⟩
    · have h1 := stR_in i hi
      rw [eq] at h1
      exact hts0 _ h1
    · have h2 := q1
      unfold tmS at h2
      rw [eq] at h2
      exact h2
  · exact va_Zof (hts0 _ q536) (hts _ q129) (va_eqt hst.1) hA
  · exact vx_Zqof (hts0 _ q552) (hts _ q131) hst.2.1 hA
  · exact vx_Zqof (hts0 _ q298) (hts _ q122) hst.2.2.1 hA
  · exact vx_Zqof (hts0 _ q300) (hts _ q122) hst.2.2.2 hA
