/-! PURE LAW: the text's words: the class's reader against the model -/
set_option maxRecDepth 100000
/-- n bytes b, as both have them -/
def Tx (n : Nat) (b : Nat → Nat) (text mtext : Nat → Int32) : Prop := n ≤ 300 ∧ ∀ k, k < 300 → b k < 256 ∧ mtext k = nI (b k) ∧ text k = (nI (b k)).toInt8.toInt32
theorem sx_and : ∀ c, c < 256 → ((nI c).toInt8.toInt32 &&& 255 : Int32) = nI c := by decide +kernel
theorem sx_eq : ∀ c, c < 256 → ∀ d, d < 128 → ((nI c).toInt8.toInt32 = nI d ↔ c = d) := by decide +kernel
theorem in_lit {c : Nat} (hc : c < 256) (lo hi : Nat) (h1 : lo < 300) (h2 : hi < 300) : x_in (nI c) (nI lo) (nI hi) = some (if lo ≤ c ∧ c ≤ hi then 1 else 0) := by
  unfold x_in
  by_cases e1 : c < lo
  · rw [if_pos ((nI_ltI (by omega) (by omega)).mpr e1), if_neg (by omega)]
  · rw [if_neg (fun z => e1 ((nI_ltI (by omega) (by omega)).mp z))]
    by_cases e2 : hi < c
    · rw [if_pos ((nI_ltI (by omega) (by omega)).mpr e2), if_neg (by omega)]
    · rw [if_neg (fun z => e2 ((nI_ltI (by omega) (by omega)).mp z)), if_pos (by omega)]
section PTOK
variable {n : Nat} {b : Nat → Nat} {text mtext : Nat → Int32}
theorem here_lt (X : Tx n b text mtext) {i : Nat} (hi : i < n) : r_here text (nI n) (nI i) = some (nI (b i)) := by
  have h3 := X.1
  obtain ⟨h1, h2, h4⟩ := X.2 i (by omega)
  unfold r_here
  rw [if_neg (N_nle hi (by omega)), ck_nI (by omega) (by omega), nI_cl (by omega), h4, sx_and _ h1]
theorem here_ge {i : Nat} (hi : n ≤ i) (h : i < 2 ^ 31) : r_here text (nI n) (nI i) = some (-1) := by
  unfold r_here
  rw [if_pos (N_le hi h)]
theorem m1_ne {c : Nat} (h : c < 2 ^ 31) : ¬ (-1 : Int32) = nI c := by
  intro e
  have := congrArg Int32.toInt e
  rw [nI_toInt h] at this
  have h2 : ((-1 : Int32)).toInt = -1 := rfl
  omega
theorem in_m1 (lo hi : Nat) (h : lo < 300) : x_in (-1) (nI lo) (nI hi) = some 0 := by
  unfold x_in
  rw [if_pos (Int32.lt_iff_toInt_lt.mpr (by rw [nI_toInt (by omega)]; have h2 : ((-1 : Int32)).toInt = -1 := rfl; omega))]
/-- blanks -/
theorem skip_eq (X : Tx n b text mtext) : ∀ (k i fu fu' : Nat), i + k = n → k < fu → k < fu' → ∃ s, i ≤ s ∧ s ≤ n ∧ (s < n → b s ≠ 32) ∧ r_next_L0 text (nI n) fu (nI i) = some (nI s) ∧ m_isEnd_L0 mtext (nI n) fu' (nI i) = some (nI s) := by
  have hn := X.1
  intro k
  induction k with
  | zero =>
    intro i fu fu' hi hf hf'
    obtain ⟨fu, rfl⟩ : ∃ z, fu = z + 1 := ⟨fu - 1, by omega⟩
    obtain ⟨fu', rfl⟩ : ∃ z, fu' = z + 1 := ⟨fu' - 1, by omega⟩
    refine ⟨i, Nat.le_refl _, by omega, fun h => by omega, ?_, ?_⟩
    · rw [r_next_L0_s, here_ge (by omega) (by omega), bnd_s, if_neg (show ¬ (-1 : Int32) = 32 by decide)]
    · rw [m_isEnd_L0_s, if_pos (N_le (by omega) (by omega))]
  | succ k ih =>
    intro i fu fu' hi hf hf'
    obtain ⟨fu, rfl⟩ : ∃ z, fu = z + 1 := ⟨fu - 1, by omega⟩
    obtain ⟨fu', rfl⟩ : ∃ z, fu' = z + 1 := ⟨fu' - 1, by omega⟩
    obtain ⟨h1, h2, h4⟩ := X.2 i (by omega)
    rw [r_next_L0_s, here_lt X (by omega), bnd_s, m_isEnd_L0_s, if_neg (N_nle (by omega) (by omega)), ck_nI (by omega) (by omega), nI_cl (by omega), h2, show (nI i + 1 : Int32) = nI (i + 1) from nI_1 i]
    by_cases e : b i = 32
    · rw [if_pos (L_eq 32 e), if_pos (L_eq 32 e)]
      obtain ⟨s, s1, s2⟩ := ih (i + 1) fu fu' (by omega) (by omega) (by omega)
      exact ⟨s, by omega, s2⟩
    · rw [if_neg (L_ne 32 e (by omega) (by omega)), if_neg (L_ne 32 e (by omega) (by omega))]
      exact ⟨i, Nat.le_refl _, by omega, fun _ => e, rfl, rfl⟩
/-- digits: how far, what they are (at most 100) -/
theorem digits_eq (X : Tx n b text mtext) : ∀ (k i v fu fu' : Nat), i + k = n → k < fu → k < fu' → v ≤ 100 → ∃ e v', i ≤ e ∧ e ≤ n ∧ v' ≤ 100 ∧ (i < e ↔ i < n ∧ 48 ≤ b i ∧ b i ≤ 57) ∧ (e = i → v' = v) ∧ r_next_L150 text (nI n) fu (nI i) (nI v) = some (nI e, nI v') ∧ m_takeNumber_L40 mtext (nI n) fu' (nI v) (nI i) = some (nI v', nI e) := by
  have hn := X.1
  intro k
  induction k with
  | zero =>
    intro i v fu fu' hi hf hf' hv
    obtain ⟨fu, rfl⟩ : ∃ z, fu = z + 1 := ⟨fu - 1, by omega⟩
    obtain ⟨fu', rfl⟩ : ∃ z, fu' = z + 1 := ⟨fu' - 1, by omega⟩
    refine ⟨i, v, Nat.le_refl _, by omega, hv, by omega, fun _ => rfl, ?_, ?_⟩
    · rw [r_next_L150_s, here_ge (by omega) (by omega), bnd_s, show x_in (-1) 48 57 = some 0 from in_m1 48 57 (by omega), bnd_s, if_pos rfl]
    · rw [m_takeNumber_L40_s, if_pos (N_le (by omega) (by omega))]
  | succ k ih =>
    intro i v fu fu' hi hf hf' hv
    obtain ⟨fu, rfl⟩ : ∃ z, fu = z + 1 := ⟨fu - 1, by omega⟩
    obtain ⟨fu', rfl⟩ : ∃ z, fu' = z + 1 := ⟨fu' - 1, by omega⟩
    obtain ⟨h1, h2, h4⟩ := X.2 i (by omega)
    rw [r_next_L150_s, here_lt X (by omega), bnd_s, m_takeNumber_L40_s, if_neg (N_nle (by omega) (by omega)), ck_nI (by omega) (by omega), ck_nI (by omega) (by omega), nI_cl (by omega), h2, show m_in (nI (b i)).toInt64 48 57 = x_in (nI (b i)) 48 57 from m_in_eq _ 48 57, show x_in (nI (b i)) 48 57 = _ from in_lit h1 48 57 (by omega) (by omega), bnd_s, bnd_s, bnd_s, show (nI i + 1 : Int32) = nI (i + 1) from nI_1 i]
    by_cases hd : 48 ≤ b i ∧ b i ≤ 57
    · rw [if_pos hd, if_neg n10, if_neg n10]
      have e1 : (10 * nI v + nI (b i) - 48 : Int32) = nI (10 * v + b i - 48) := by
        rw [show (10 * nI v : Int32) = nI (10 * v) from pk_mul 10 v, nI_add]; exact nI_subN (b := 48) (by omega)
      rw [e1]
      have e2 : (if nI (10 * v + b i - 48) < 100 then nI (10 * v + b i - 48) else 100) = nI (min (10 * v + b i - 48) 100) := by
        by_cases q : 10 * v + b i - 48 < 100
        · rw [if_pos (show nI (10 * v + b i - 48) < 100 from (nI_ltI (b := 100) (by omega) (by omega)).mpr q), Nat.min_eq_left (by omega)]
        · rw [if_neg (show ¬ nI (10 * v + b i - 48) < 100 from fun z => q ((nI_ltI (b := 100) (by omega) (by omega)).mp z)), Nat.min_eq_right (by omega)]; rfl
      have e3 : m_lesser (nI (10 * v + b i - 48)) 100 = some (nI (min (10 * v + b i - 48) 100)) := by
        unfold m_lesser
        by_cases q : 100 ≤ 10 * v + b i - 48
        · rw [if_pos (L_le 100 q (by omega)), Nat.min_eq_right q]; rfl
        · rw [if_neg (L_nle 100 (by omega) (by omega)), Nat.min_eq_left (by omega)]
      rw [e2, e3, bnd_s]
      obtain ⟨e, v', s1, s2, s3, s4, s5, s6, s7⟩ := ih (i + 1) (min (10 * v + b i - 48) 100) fu fu' (by omega) (by omega) (by omega) (Nat.min_le_right _ _)
      exact ⟨e, v', by omega, s2, s3, by omega, fun z => by omega, s6, s7⟩
    · rw [if_neg hd, if_pos rfl, if_pos rfl]
      exact ⟨i, v, Nat.le_refl _, by omega, hv, by omega, fun _ => rfl, rfl, rfl⟩
/-- the number of the first seven letters -/
def enc (b : Nat → Nat) (s : Nat) : Nat → Nat
  | 0 => 0
  | k + 1 => 32 * enc b s k + (b (s + k) - 96)
theorem enc_le {b : Nat → Nat} {s : Nat} : ∀ k, (∀ j, j < k → 97 ≤ b (s + j) ∧ b (s + j) ≤ 122) → enc b s k < 32 ^ k ∧ (1 ≤ k → 32 ^ (k - 1) ≤ enc b s k) := by
  intro k
  induction k with
  | zero => intro _; exact ⟨Nat.zero_lt_one, fun h => by omega⟩
  | succ k ih =>
    intro h
    obtain ⟨i1, i2⟩ := ih (fun j hj => h j (by omega))
    have hk := h k (by omega)
    have e : enc b s (k + 1) = 32 * enc b s k + (b (s + k) - 96) := rfl
    rw [e, Nat.pow_succ]
    refine ⟨by omega, fun _ => ?_⟩
    rw [Nat.add_sub_cancel]
    match k, i2, hk with
    | 0, _, hk => have : (32 : Nat) ^ 0 = 1 := rfl; omega
    | k + 1, i2, _ =>
      have := i2 (by omega)
      rw [Nat.add_sub_cancel] at this
      rw [Nat.pow_succ]; omega
/-- letters: how far, their number -/
theorem letters_eq (X : Tx n b text mtext) (s : Nat) : ∀ (k i fu fu' : Nat), s ≤ i → i + k = n → k < fu → k < fu' → (∀ j, s + j < i → 97 ≤ b (s + j) ∧ b (s + j) ≤ 122) → ∃ e, i ≤ e ∧ e ≤ n ∧ (i < e ↔ i < n ∧ 97 ≤ b i ∧ b i ≤ 122) ∧ (∀ j, s + j < e → 97 ≤ b (s + j) ∧ b (s + j) ≤ 122) ∧ r_next_L63 text (nI n) fu (nI i) = some (nI e) ∧ m_takeLetters_L7 (nI s) mtext (nI n) fu' (lN (enc b s (min (i - s) 7))) (nI i) = some (lN (enc b s (min (e - s) 7)), nI e) := by
  have hn := X.1
  intro k
  induction k with
  | zero =>
    intro i fu fu' hs hi hf hf' hb
    obtain ⟨fu, rfl⟩ : ∃ z, fu = z + 1 := ⟨fu - 1, by omega⟩
    obtain ⟨fu', rfl⟩ : ∃ z, fu' = z + 1 := ⟨fu' - 1, by omega⟩
    refine ⟨i, Nat.le_refl _, by omega, by omega, hb, ?_, ?_⟩
    · rw [r_next_L63_s, here_ge (by omega) (by omega), bnd_s, show x_in (-1) 97 122 = some 0 from in_m1 97 122 (by omega), bnd_s, if_pos rfl]
    · rw [m_takeLetters_L7_s, if_pos (N_le (by omega) (by omega))]
  | succ k ih =>
    intro i fu fu' hs hi hf hf' hb
    obtain ⟨fu, rfl⟩ : ∃ z, fu = z + 1 := ⟨fu - 1, by omega⟩
    obtain ⟨fu', rfl⟩ : ∃ z, fu' = z + 1 := ⟨fu' - 1, by omega⟩
    obtain ⟨h1, h2, h4⟩ := X.2 i (by omega)
    rw [r_next_L63_s, here_lt X (by omega), bnd_s, m_takeLetters_L7_s, if_neg (N_nle (by omega) (by omega)), ck_nI (by omega) (by omega), ck_nI (by omega) (by omega), nI_cl (by omega), h2, show m_in (nI (b i)).toInt64 97 122 = x_in (nI (b i)) 97 122 from m_in_eq _ 97 122, show x_in (nI (b i)) 97 122 = _ from in_lit h1 97 122 (by omega) (by omega), bnd_s, bnd_s, show (nI i + 1 : Int32) = nI (i + 1) from nI_1 i]
    by_cases hd : 97 ≤ b i ∧ b i ≤ 122
    · rw [if_pos hd, if_neg n10, if_neg n10, nI_subN hs, nI_l (by omega)]
      have hb2 : ∀ j, s + j < i + 1 → 97 ≤ b (s + j) ∧ b (s + j) ≤ 122 := fun j hj => by
        by_cases e : s + j = i
        · rw [e]; exact hd
        · exact hb j (by omega)
      have hstep : (if 7 ≤ nI (i - s) then some (lN (enc b s (min (i - s) 7))) else some (32 * lN (enc b s (min (i - s) 7)) + lN (b i) - 96)) = some (lN (enc b s (min (i + 1 - s) 7))) := by
        by_cases q : 7 ≤ i - s
        · rw [if_pos (L_le 7 q (by omega)), Nat.min_eq_right q, Nat.min_eq_right (by omega)]
        · rw [if_neg (L_nle 7 (by omega) (by omega)), Nat.min_eq_left (by omega), Nat.min_eq_left (by omega), show i + 1 - s = (i - s) + 1 by omega]
          show _ = some (lN (32 * enc b s (i - s) + (b (s + (i - s)) - 96)))
          rw [show s + (i - s) = i by omega, show (32 : Int64) = lN 32 from rfl, show (96 : Int64) = lN 96 from rfl, lN_mul, lN_add, lN_sub (by omega), show 32 * enc b s (i - s) + b i - 96 = 32 * enc b s (i - s) + (b i - 96) by omega]
      rw [hstep, bnd_s]
      obtain ⟨e, s1, s2, s3, s4, s5, s6⟩ := ih (i + 1) fu fu' (by omega) (by omega) (by omega) (by omega) hb2
      exact ⟨e, by omega, s2, by omega, s4, s5, s6⟩
    · rw [if_neg hd, if_pos rfl, if_pos rfl]
      exact ⟨i, Nat.le_refl _, by omega, by omega, hb, rfl, rfl⟩
end PTOK
