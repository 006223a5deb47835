/-! PURE LAW: the text's words 3: the next word, on both sides -/
set_option maxRecDepth 100000
section PTOK3
variable {n : Nat} {b : Nat → Nat} {text mtext : Nat → Int32}
/-- the next word behind p: starts at s, ends at e, is of sort so, tells v -/
def TK (n : Nat) (b : Nat → Nat) (text mtext : Nat → Int32) (p s e so v : Nat) : Prop :=
  r_next text (nI n) (nI p) = some (nI e, nI s, nI so, nI v) ∧ p ≤ s ∧ s ≤ n ∧ e ≤ n ∧ so < 7 ∧ m_isEnd mtext (nI n) (nI p) = some (if s = n then 1 else 0, nI s) ∧ (so = 5 ↔ s = n) ∧ (so ≠ 5 → s < e)
  ∧ (s < n → ∃ E e', m_takeLetters mtext (nI n) (nI s) = some (lN E, nI e') ∧ E < 2 ^ 40 ∧ e' ≤ n ∧ (so = 0 ↔ E = 542723566) ∧ (so = 1 ↔ E = 1643) ∧ (so = 2 ↔ E = 8435955) ∧ (so ≤ 2 → e' = e))
  ∧ (s < n → (so = 4 ↔ b s = 59)) ∧ (so = 4 → e = s + 1) ∧ (so = 3 → v ≤ 99)
  ∧ ∀ lo hi x3 : Int32, hi < 100 → ∃ v' e' : Nat, m_takeNumber mtext (nI n) (nI p) (-9) lo hi x3 = some (nI v', nI e', if so = 3 ∧ x_in (nI v) lo hi = some 1 ∧ nI v ≠ x3 then -9 else nI s) ∧ e' ≤ n ∧ (so = 3 → v' = v ∧ e' = e)
theorem lesser_hi {hi : Int32} (h : hi < 100) : m_lesser hi 99 = some hi := by
  unfold m_lesser
  by_cases q : 99 ≤ hi
  · rw [if_pos q]
    have h1 := Int32.lt_iff_toInt_lt.mp h
    have h2 := Int32.le_iff_toInt_le.mp q
    have e1 : ((100 : Int32)).toInt = 100 := rfl
    have e2 : ((99 : Int32)).toInt = 99 := rfl
    exact congrArg some (Int32.toInt.inj (by omega)).symm
  · rw [if_neg q]
theorem in_100 {lo hi : Int32} (h : hi < 100) : x_in (nI 100) lo hi = some 0 := by
  unfold x_in
  split
  · rfl
  · rw [if_pos (show hi < nI 100 from h)]
theorem m9_0 : ¬ (0 : Int32) ≤ -9 := by decide
theorem m9_lt : (-9 : Int32) < 0 := by decide
theorem nI_nlt0 {k : Nat} (h : k < 2 ^ 31) : ¬ nI k < 0 := fun z => absurd ((nI_ltI (b := 0) h (by omega)).mp z) (by omega)
theorem nI_0le {k : Nat} (h : k < 2 ^ 31) : (0 : Int32) ≤ nI k := L_le 0 (by omega) h
/-- a number is taken where no blank stands any more -/
theorem numM (X : Tx n b text mtext) {p s e v : Nat} (hs : s < n) (hE : m_isEnd mtext (nI n) (nI p) = some (0, nI s)) (hse : s ≤ e) (hen : e ≤ n) (hD : m_takeNumber_L40 mtext (nI n) g_fuel 0 (nI s) = some (nI v, nI e)) {lo hi x3 : Int32} (hh : hi < 100) :
    m_takeNumber mtext (nI n) (nI p) (-9) lo hi x3 = some (nI v, nI e, if s < e ∧ (e - s = 1 ∨ b s ≠ 48) ∧ x_in (nI v) lo hi = some 1 ∧ nI v ≠ x3 then -9 else nI s) := by
  have hn := X.1
  obtain ⟨h1, h2, h4⟩ := X.2 s (by omega)
  unfold m_takeNumber
  have hA : (bnd (m_lesser hi 99) fun r_151 => bnd (m_in (nI v).toInt64 lo.toInt64 r_151.toInt64) fun r_155 => if r_155 = 0 then some (0 : Int32) else if nI v = x3 then some 0 else some 1) = some (if x_in (nI v) lo hi = some 1 ∧ nI v ≠ x3 then 1 else 0) := by
    rw [lesser_hi hh, bnd_s, m_in_eq]
    rcases in01 (nI v) lo hi with z | z
    · rw [z, bnd_s, if_pos rfl, if_neg (by simp)]
    · rw [z, bnd_s, if_neg n10]
      by_cases q : nI v = x3
      · rw [if_pos q, if_neg (by simp [q])]
      · rw [if_neg q, if_pos ⟨rfl, q⟩]
  rw [if_neg m9_0, hE, bnd2_s, if_pos rfl, bnd2_s, if_pos m9_lt, hD, bnd2_s, hA]
  by_cases q : s < e
  · rw [if_neg (N_nle q (by omega)), nI_subN hse]
    by_cases q1 : e - s = 1
    · rw [if_pos (L_eq 1 q1), bnd_s]
      by_cases z : x_in (nI v) lo hi = some 1 ∧ nI v ≠ x3
      · rw [if_pos z, if_neg n10, if_pos ⟨q, Or.inl q1, z⟩]
      · rw [if_neg z, if_pos rfl, if_neg (fun y => z y.2.2)]
    · rw [if_neg (L_ne 1 q1 (by omega) (by omega)), ck_nI (by omega) (by omega), nI_cl (by omega), h2]
      by_cases q2 : b s = 48
      · rw [if_pos (L_eq 48 q2), bnd_s, if_pos rfl, if_neg (by omega)]
      · rw [if_neg (L_ne 48 q2 (by omega) (by omega)), bnd_s]
        by_cases z : x_in (nI v) lo hi = some 1 ∧ nI v ≠ x3
        · rw [if_pos z, if_neg n10, if_pos ⟨q, Or.inr q2, z⟩]
        · rw [if_neg z, if_pos rfl, if_neg (fun y => z y.2.2)]
  · rw [if_pos (N_le (by omega) (by omega)), bnd_s, if_pos rfl, if_neg (fun y => q y.1)]
theorem tok (X : Tx n b text mtext) {p : Nat} (hp : p ≤ n) : ∃ s e so v, TK n b text mtext p s e so v := by
  have hn := X.1
  obtain ⟨s, s1, s2, s3, s4, s5⟩ := skip_eq X (n - p) p 1000 1000 (by omega) (by omega) (by omega)
  have hE : m_isEnd mtext (nI n) (nI p) = some (if s = n then 1 else 0, nI s) := by
    unfold m_isEnd
    rw [show m_isEnd_L0 mtext (nI n) g_fuel (nI p) = _ from s5, bnd_s]
    by_cases q : s = n
    · rw [if_pos (by rw [q]), if_pos q]
    · rw [if_neg (N_ne q (by omega) (by omega)), if_neg q]
  have hR : r_next text (nI n) (nI p) = r_next text (nI n) (nI p) := rfl
  conv at hR => rhs; unfold r_next
  rw [show r_next_L0 text (nI n) g_fuel (nI p) = _ from s4, bnd_s] at hR
  by_cases q : s = n
  · rw [here_ge (by omega) (by omega), bnd_s, if_neg (by decide)] at hR
    refine ⟨s, s, 5, 0, hR, s1, s2, s2, by omega, hE, ⟨fun _ => q, fun _ => rfl⟩, fun z => absurd rfl z, fun z => by omega, fun z => by omega, fun z => by omega, fun z => by omega, fun lo hi x3 hh => ⟨0, s, ?_, s2, fun z => by omega⟩⟩
    unfold m_takeNumber
    rw [if_neg m9_0, hE, if_pos q, bnd2_s, if_neg n10, bnd2_s, if_neg (nI_nlt0 (by omega)), if_neg (by omega), q]; rfl
  · have hsn : s < n := by omega
    obtain ⟨h1, h2, h4⟩ := X.2 s (by omega)
    rw [here_lt X hsn, bnd_s, if_pos (nI_0le (by omega)), show x_in (nI (b s)) 97 122 = _ from in_lit h1 97 122 (by omega) (by omega), bnd_s, show x_in (nI (b s)) 48 57 = _ from in_lit h1 48 57 (by omega) (by omega), bnd_s] at hR
    obtain ⟨e, v, d1, d2, d3, d4, d5, d6, d7⟩ := digits_eq X (n - s) s 0 1000 1000 (by omega) (by omega) (by omega) (by omega)
    have hE0 := hE
    rw [if_neg q] at hE0
    have hN := fun (lo hi x3 : Int32) (hh : hi < 100) => numM X (lo := lo) (x3 := x3) hsn hE0 d1 d2 d7 hh
    obtain ⟨e2, l1, l2, l3, l4, l5, l6⟩ := letters_eq X s (n - s) s 1000 1000 (Nat.le_refl _) (by omega) (by omega) (by omega) (fun j hj => by omega)
    rw [show enc b s (min (s - s) 7) = 0 by rw [Nat.sub_self]; rfl] at l6
    have hLt : m_takeLetters mtext (nI n) (nI s) = some (lN (enc b s (min (e2 - s) 7)), nI e2) := by
      unfold m_takeLetters
      rw [show m_takeLetters_L7 (nI s) mtext (nI n) g_fuel 0 (nI s) = _ from l6, bnd2_s]
    have hEl : enc b s (min (e2 - s) 7) < 2 ^ 40 := by
      have := (enc_le (b := b) (s := s) (min (e2 - s) 7) (fun j hj => l4 j (by omega))).1
      have h7 : (32 : Nat) ^ (min (e2 - s) 7) ≤ 32 ^ 7 := Nat.pow_le_pow_right (by omega) (by omega)
      have : (32 : Nat) ^ 7 < 2 ^ 40 := by decide
      omega
    by_cases c1 : 97 ≤ b s ∧ b s ≤ 122
    · have hs2 : s < e2 := by omega
      obtain ⟨so, w1, w2⟩ := word_eq X hs2 l2 l4
      rw [if_pos c1, if_neg n10, show r_next_L63 text (nI n) g_fuel (nI s) = _ from l5, bnd_s, w1, bnd_s] at hR
      have hed : e = s := by omega
      refine ⟨s, e2, so, 0, hR, s1, s2, l2, by omega, hE, by omega, fun _ => hs2, fun _ => ⟨_, e2, hLt, hEl, l2, by omega, by omega, by omega, fun _ => rfl⟩, fun _ => by omega, fun z => by omega, fun z => by omega, fun lo hi x3 hh => ⟨v, e, ?_, d2, fun z => by omega⟩⟩
      rw [hN lo hi x3 hh, if_neg (by omega), if_neg (by omega)]
    · have he2 : e2 = s := by omega
      have hE2 : enc b s (min (e2 - s) 7) = 0 := by rw [he2, Nat.sub_self]; rfl
      rw [if_neg c1, if_pos rfl] at hR
      by_cases c2 : 48 ≤ b s ∧ b s ≤ 57
      · have hse : s < e := by omega
        rw [if_pos c2, if_neg n10, show r_next_L150 text (nI n) g_fuel (nI s) 0 = _ from d6, bnd2_s] at hR
        have hR2 : r_next text (nI n) (nI p) = some (nI e, nI s, nI (if v ≤ 99 ∧ (e - s = 1 ∨ b s ≠ 48) then 3 else 6), nI v) := by
          rw [hR]
          by_cases q1 : v ≤ 99
          · rw [if_neg (show ¬ (99 : Int32) < nI v from fun z => absurd ((nI_ltI (a := 99) (by omega) (by omega)).mp z) (by omega)), nI_subN d1]
            by_cases q2 : b s = 48
            · rw [if_pos (L_eq 48 q2)]
              by_cases q3 : e - s = 1
              · rw [if_pos (show nI (e - s) ≤ 1 from N_le (b := 1) (by omega) (by omega)), if_pos ⟨q1, Or.inl q3⟩]; rfl
              · rw [if_neg (show ¬ nI (e - s) ≤ 1 from N_nle (b := 1) (by omega) (by omega)), if_neg (by omega)]; rfl
            · rw [if_neg (L_ne 48 q2 (by omega) (by omega)), if_pos ⟨q1, Or.inr q2⟩]; rfl
          · rw [if_pos (show (99 : Int32) < nI v from (nI_ltI (a := 99) (by omega) (by omega)).mpr (by omega)), if_neg (by omega)]; rfl
        refine ⟨s, e, _, v, hR2, s1, s2, d2, by split <;> omega, hE, by split <;> omega, fun _ => hse, fun _ => ⟨_, e2, hLt, hEl, l2, by rw [hE2]; split <;> omega, by rw [hE2]; split <;> omega, by rw [hE2]; split <;> omega, fun z => by split at z <;> omega⟩, fun _ => by split <;> omega, fun z => by split at z <;> omega, fun z => by split at z <;> omega, fun lo hi x3 hh => ⟨v, e, ?_, d2, fun _ => ⟨rfl, rfl⟩⟩⟩
        rw [hN lo hi x3 hh]
        by_cases q4 : v ≤ 99 ∧ (e - s = 1 ∨ b s ≠ 48)
        · rw [if_pos q4]
          by_cases q5 : x_in (nI v) lo hi = some 1 ∧ nI v ≠ x3
          · rw [if_pos ⟨hse, q4.2, q5⟩, if_pos ⟨rfl, q5⟩]
          · rw [if_neg (fun y => q5 y.2.2), if_neg (fun y => q5 y.2)]
        · have hx : ¬ (s < e ∧ (e - s = 1 ∨ b s ≠ 48) ∧ x_in (nI v) lo hi = some 1 ∧ nI v ≠ x3) := fun y => by
            have : v = 100 := by omega
            rw [this, in_100 hh] at y
            exact absurd y.2.2.1 (by decide)
          rw [if_neg q4, if_neg hx, if_neg (by omega)]
      · have hed : e = s := by omega
        rw [if_neg c2, if_pos rfl, show (nI s + 1 : Int32) = nI (s + 1) from nI_1 s] at hR
        by_cases c3 : b s = 59
        · rw [if_pos (L_eq 59 c3)] at hR
          refine ⟨s, s + 1, 4, 0, hR, s1, s2, by omega, by omega, hE, by omega, fun _ => by omega, fun _ => ⟨_, e2, hLt, hEl, l2, by omega, by omega, by omega, fun z => by omega⟩, fun _ => by omega, fun z => rfl, fun z => by omega, fun lo hi x3 hh => ⟨v, e, ?_, d2, fun z => by omega⟩⟩
          rw [hN lo hi x3 hh, if_neg (by omega), if_neg (by omega)]
        · rw [if_neg (L_ne 59 c3 (by omega) (by omega))] at hR
          refine ⟨s, s + 1, 6, 0, hR, s1, s2, by omega, by omega, hE, by omega, fun _ => by omega, fun _ => ⟨_, e2, hLt, hEl, l2, by omega, by omega, by omega, fun z => by omega⟩, fun _ => by omega, fun z => by omega, fun z => by omega, fun lo hi x3 hh => ⟨v, e, ?_, d2, fun z => by omega⟩⟩
          rw [hN lo hi x3 hh, if_neg (by omega), if_neg (by omega)]
end PTOK3
