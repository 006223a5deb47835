/-! PURE LAW: rings: one behind another (the class) against those left (the model) -/
set_option maxRecDepth 100000
def cnt (k m : Nat) : Nat := (List.range k).countP (fun a => !m.testBit a)
def pc (m : Nat) : Nat := (List.range 8).countP (fun a => m.testBit a)
theorem andn : ∀ u, u < 256 → ∀ d, d < 256 → nI u &&& (nI d ^^^ (-1)) = nI (u &&& (255 ^^^ d)) := by decide +kernel
theorem andn_lt {u d : Nat} (hu : u < 256) : u &&& (255 ^^^ d) < 256 := Nat.lt_of_le_of_lt Nat.and_le_left hu
theorem andn_bit {u d b : Nat} (hu : u < 256) : (u &&& (255 ^^^ d)).testBit b = true ↔ u.testBit b = true ∧ d.testBit b = false := by
  rw [Nat.testBit_and, Nat.testBit_xor]
  by_cases h : u.testBit b = true
  · have hb := bit8 hu h
    have h255 : (255 : Nat).testBit b = true := by
      match b, hb with
      | 0, _ => rfl
      | 1, _ => rfl
      | 2, _ => rfl
      | 3, _ => rfl
      | 4, _ => rfl
      | 5, _ => rfl
      | 6, _ => rfl
      | 7, _ => rfl
    rw [h, h255]; simp
  · simp [h]
theorem cnt_set : ∀ k, k < 9 → ∀ m, m < 256 → ∀ a, a < k → m.testBit a = false → cnt k (setb m a) + 1 = cnt k m := by decide +kernel
theorem cnt_0 {k m : Nat} : cnt k m = 0 ↔ ∀ a, a < k → m.testBit a = true := by
  unfold cnt
  rw [List.countP_eq_zero]
  constructor
  · intro h a ha
    have := h a (List.mem_range.mpr ha)
    simpa using this
  · intro h a ha
    have := h a (List.mem_range.mp ha)
    simp [this]
theorem cnt_pc : ∀ k, k < 9 → ∀ m, m < 2 ^ k → cnt k m + pc m = k := by decide +kernel
theorem bc_pc : ∀ m, m < 256 → j_bitCount (nI m) = some (nI (pc m)) := by decide +kernel
theorem pow_k : ∀ k, k < 9 → ((1 : Int32) <<< (nI k &&& 31)) = nI (2 ^ k) := by decide +kernel
theorem all_bit : ∀ k, k < 9 → ∀ a, a < 8 → (2 ^ k - 1).testBit a = decide (a < k) := by decide +kernel
theorem lt_bit {k m : Nat} (hm : m < 2 ^ k) {a : Nat} (h : m.testBit a = true) : a < k := by
  rcases Nat.lt_or_ge a k with q | q
  · exact q
  · rw [Nat.testBit_lt_two_pow (Nat.lt_of_lt_of_le hm (Nat.pow_le_pow_right (by omega) q))] at h; cases h
