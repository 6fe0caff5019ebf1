/-! PURE LAW: an entry of a rule -/
set_option maxRecDepth 100000
section EN
variable {r e : Nat} {β : cS} {c v : Int32}
/-- an entry written -/
def en (β : cS) (r e : Nat) (c v : Int32) : cS := si (si (si β 38 (300 * r + e) c) 39 (300 * r + e) v) 999 32 (nI (e + 1))
theorem m_entry_eq (h29 : β.1 999 29 = 0) (h30 : β.1 999 30 = nI r) (h32 : β.1 999 32 = nI e) (hr : r < 6) (he : e < 300) : m_entry β c v = some (en β r e c v) := by
  unfold m_entry
  rw [if_pos h29, si_o (by decide), h30, h32, show (300 : Int32) = nI 300 from rfl, pk_mul, nI_add, inbn (by omega) (by decide), ixn (by omega)]
  show some (si (si (si β 38 (300 * r + e) c) 39 (300 * r + e) v) 999 32 ((si (si β 38 (300 * r + e) c) 39 (300 * r + e) v).1 999 32 + 1)) = _
  rw [si_o (by decide), si_o (by decide), h32, nI_1]
  rfl
theorem m_entry_d (h29 : ¬ β.1 999 29 = 0) : m_entry β c v = some β := by
  unfold m_entry
  rw [if_neg h29]
end EN
