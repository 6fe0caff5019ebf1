/-! PURE LAW: operations on two, on both sides -/
set_option maxRecDepth 100000
section MB
/-- truth, as the model keeps it -/
def tru (x : Int32) : Int64 := if x = 0 then 0 else 1
theorem mb_add (x y : Int64) : m_both 2 x y = some (vPair 43 x y) := rfl
theorem mb_sub (x y : Int64) : m_both 3 x y = some (vPair 45 x y) := rfl
theorem mb_mul (x y : Int64) : m_both 13 x y = some (vPair 42 x y) := rfl
theorem mb_div (x y : Int64) : m_both 14 x y = some (vPair 47 x y) := by
  show (if (lg_cmp y 0) = 0 then some 0 else gd (nzL y) (some (x / y))) = some (if y = 0 then 0 else x / y)
  simp only [lg_cmp_eq]
  by_cases h : y = 0
  · rw [if_pos h, if_pos h]
  · rw [if_neg h, if_neg h, show nzL y = true by simp [nzL, h]]
    rfl
theorem mb_rem (x y : Int64) : m_both 15 x y = some (vPair 37 x y) := by
  show (if (lg_cmp y 0) = 0 then some 0 else gd (nzL y) (some (x - x / y * y))) = some (if y = 0 then 0 else x - x / y * y)
  simp only [lg_cmp_eq]
  by_cases h : y = 0
  · rw [if_pos h, if_pos h]
  · rw [if_neg h, if_neg h, show nzL y = true by simp [nzL, h]]
    rfl
end MB
section MC2
theorem mb_cmp {sg c : Int32} (h : (sg = 0 ∧ c = 4) ∨ (sg = 1 ∧ c = 5) ∨ (sg = 2 ∧ c = 6) ∨ (sg = 3 ∧ c = 7) ∨ (sg = 4 ∧ c = 8)) (x y : Int64) : m_both c x y = some (tru (vCmp sg x y)) := by
  rcases h with ⟨rfl, rfl⟩ | ⟨rfl, rfl⟩ | ⟨rfl, rfl⟩ | ⟨rfl, rfl⟩ | ⟨rfl, rfl⟩
  · show (if 0 ≤ (lg_cmp x y) then some 0 else some 1) = some (tru (if x < y then 1 else 0))
    by_cases q : x < y
    · rw [if_neg (by rw [lg_cmp_ge]; exact Int64.not_le.mpr q), if_pos q]; rfl
    · rw [if_pos (by rw [lg_cmp_ge]; exact Int64.not_lt.mp q), if_neg q]; rfl
  · show (if 0 < (lg_cmp x y) then some 0 else some 1) = some (tru (if x ≤ y then 1 else 0))
    by_cases q : x ≤ y
    · rw [if_neg (by rw [lg_cmp_gt]; exact Int64.not_lt.mpr q), if_pos q]; rfl
    · rw [if_pos (by rw [lg_cmp_gt]; exact Int64.not_le.mp q), if_neg q]; rfl
  · show (if (lg_cmp x y) = 0 then some 1 else some 0) = some (tru (if x = y then 1 else 0))
    rw [ifc (lg_cmp_eq _ _)]
    by_cases q : x = y
    · rw [if_pos q, if_pos q]; rfl
    · rw [if_neg q, if_neg q]; rfl
  · show (if (lg_cmp x y) < 0 then some 0 else some 1) = some (tru (if y ≤ x then 1 else 0))
    by_cases q : y ≤ x
    · rw [if_neg (by rw [lg_cmp_lt]; exact Int64.not_lt.mpr q), if_pos q]; rfl
    · rw [if_pos (by rw [lg_cmp_lt]; exact Int64.not_le.mp q), if_neg q]; rfl
  · show (if (lg_cmp x y) ≤ 0 then some 0 else some 1) = some (tru (if y < x then 1 else 0))
    by_cases q : y < x
    · rw [if_neg (by rw [lg_cmp_le]; exact Int64.not_le.mpr q), if_pos q]; rfl
    · rw [if_pos (by rw [lg_cmp_le]; exact Int64.not_lt.mp q), if_neg q]; rfl
theorem tru_both (x y : Int32) : (tru x &&& tru y = tru (vBoth 1 x y)) ∧ tru x ||| tru y = tru (vBoth 0 x y) := by
  unfold tru vBoth
  by_cases a : x = 0 <;> by_cases b : y = 0 <;> simp [a, b]
theorem mb_and (x y : Int32) : m_both 10 (tru x) (tru y) = some (tru (vBoth 1 x y)) := by
  rw [← (tru_both x y).1]; rfl
theorem mb_or (x y : Int32) : m_both 11 (tru x) (tru y) = some (tru (vBoth 0 x y)) := by
  rw [← (tru_both x y).2]; rfl
theorem tru_not (x : Int32) : 1 - tru x = tru (if x = 0 then 1 else 0) := by
  unfold tru
  by_cases a : x = 0 <;> simp [a]
end MC2
