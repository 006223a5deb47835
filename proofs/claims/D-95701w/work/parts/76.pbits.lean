/-! PURE LAW: sets of askings as numbers below 256 -/
set_option maxRecDepth 100000
def setb (m a : Nat) : Nat := m ||| 2 ^ a
def clrb (m a : Nat) : Nat := m &&& (255 ^^^ 2 ^ a)
theorem or_bit : ∀ m, m < 256 → ∀ a, a < 8 → nI m ||| (1 <<< (nI a &&& 31)) = nI (setb m a) := by decide +kernel
theorem clr_bit : ∀ m, m < 256 → ∀ a, a < 8 → nI m &&& ((1 <<< (nI a &&& 31)) ^^^ (-1)) = nI (clrb m a) := by decide +kernel
theorem and_m1 : ∀ m, m < 256 → nI m &&& (-1) = nI m := by decide +kernel
theorem setb_lt : ∀ m, m < 256 → ∀ a, a < 8 → setb m a < 256 := by decide +kernel
theorem clrb_lt : ∀ m, m < 256 → ∀ a, a < 8 → clrb m a < 256 := by decide +kernel
theorem bit8 {m : Nat} (h : m < 256) {b : Nat} (hb : m.testBit b = true) : b < 8 := by
  rcases Nat.lt_or_ge b 8 with q | q
  · exact q
  · have : m < 2 ^ b := Nat.lt_of_lt_of_le h (Nat.pow_le_pow_right (by omega) q : 2 ^ 8 ≤ 2 ^ b)
    rw [Nat.testBit_lt_two_pow this] at hb; cases hb
theorem setb_bit (m a b : Nat) : (setb m a).testBit b = (m.testBit b || decide (b = a)) := by
  unfold setb
  rw [Nat.testBit_or, Nat.testBit_two_pow]
  congr 1
  by_cases e : a = b
  · subst e; simp
  · have : ¬ b = a := fun z => e z.symm
    simp [e, this]
theorem clrb_bit8 : ∀ m, m < 256 → ∀ a, a < 8 → ∀ b, b < 8 → (clrb m a).testBit b = (m.testBit b && !decide (b = a)) := by decide +kernel
theorem clrb_bit {m a : Nat} (hm : m < 256) (ha : a < 8) (b : Nat) : (clrb m a).testBit b = true ↔ m.testBit b = true ∧ b ≠ a := by
  rcases Nat.lt_or_ge b 8 with q | q
  · rw [clrb_bit8 m hm a ha b q]; simp
  · constructor
    · intro z; have := bit8 (clrb_lt m hm a ha) z; omega
    · intro z; have := bit8 hm z.1; omega
theorem ext8 : ∀ m, m < 256 → (∀ b, b < 8 → m.testBit b = false) → m = 0 := by decide +kernel
theorem ones_eq : ∀ m, m < 256 → m_ones (nI m) = j_bitCount (nI m) := by decide +kernel
theorem has_eq {m a : Nat} (hm : m < 256) (ha : a < 8) : m_has (nI m) (nI a) = some (if m.testBit a then 1 else 0) := by
  unfold m_has
  rw [bitI (by omega) ha]
  by_cases h : m.testBit a = true
  · rw [if_pos h, bit_tb.mpr h, if_pos (by rfl)]
  · rw [if_neg h]
    have : m / 2 ^ a % 2 = 0 := by
      have : m / 2 ^ a % 2 ≠ 1 := fun z => h (bit_tb.mp z)
      omega
    rw [this, if_neg (by decide)]
theorem bit_if {m a : Nat} (hm : m < 256) (ha : a < 8) : ((nI m >>> (nI a &&& 31)) &&& 1 : Int32) = if m.testBit a then 1 else 0 := by
  rw [bitI (by omega) ha]
  by_cases h : m.testBit a = true
  · rw [if_pos h, bit_tb.mpr h]; rfl
  · rw [if_neg h]
    have : m / 2 ^ a % 2 = 0 := by
      have : m / 2 ^ a % 2 ≠ 1 := fun z => h (bit_tb.mp z)
      omega
    rw [this]; rfl
