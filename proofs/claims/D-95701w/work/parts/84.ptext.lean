/-! PURE LAW: sort, type, count -/
set_option maxRecDepth 100000
def RS (tenths sortWorth sortDays mt mw md : Nat → Int32) (sorts : Int32) : Prop := mt = tenths ∧ mw = sortWorth ∧ md = sortDays ∧ ∃ t wo dy s, SD tenths sortWorth sortDays t wo dy ∧ sorts = nI s ∧ s < 8 ∧ ∀ j, j < 3 → s.testBit j = decide (dy j ≠ 0)
theorem lo1 {x : Int32} {k : Nat} (hk : k < 1000) (hh : x_in x 1 (nI k) = some 1) : ∃ m, 1 ≤ m ∧ m ≤ k ∧ x = nI m := by
  unfold x_in at hh
  by_cases q1 : x < 1
  · rw [if_pos q1] at hh; cases hh
  · rw [if_neg q1] at hh
    by_cases q2 : nI k < x
    · rw [if_pos q2] at hh; cases hh
    · have e1 : (1 : Int32).toInt = 1 := rfl
      have h1 : ¬ x.toInt < (1 : Int32).toInt := fun z => q1 (Int32.lt_iff_toInt_lt.mpr z)
      obtain ⟨m, hm, rfl⟩ := nI_of (x := x) (fun z => by
        have := Int32.lt_iff_toInt_lt.mp z
        have e0 : (0 : Int32).toInt = 0 := rfl
        omega)
      rw [nI_toInt hm] at h1
      have h2 : ¬ k < m := fun z => q2 ((nI_ltI (by omega) hm).mpr z)
      exact ⟨m, by omega, by omega, rfl⟩
theorem setb8 : ∀ s, s < 8 → ∀ j, j < 3 → setb s j < 8 := by decide
theorem P_sort {tenths sortWorth sortDays mt mw md : Nat → Int32} {sorts : Int32} (R : RS tenths sortWorth sortDays mt mw md sorts) (v a b c : Int32) : ∃ r t' w' d' t2 w2 d2 s', x_sort tenths sortWorth sortDays v a b c = some (r, t', w', d') ∧ m_sort mt mw md sorts v a b c = some (r, t2, w2, d2, s') ∧ RS t' w' d' t2 w2 d2 s' := by
  have R0 := R
  obtain ⟨rfl, rfl, rfl, t, wo, dy, s, h, rfl, hs, hsb⟩ := R
  unfold x_sort m_sort
  rw [show m_in v.toInt64 0 2 = x_in v 0 2 from m_in_eq v 0 2, show m_in a.toInt64 0 10 = x_in a 0 10 from m_in_eq a 0 10, show m_in b.toInt64 1 99 = x_in b 1 99 from m_in_eq b 1 99, show m_in c.toInt64 1 3 = x_in c 1 3 from m_in_eq c 1 3]
  have h2 : x_in v 0 2 = x_in v 0 (nI 2) := rfl
  have h10 : x_in a 0 10 = x_in a 0 (nI 10) := rfl
  rcases x_in0 (v := v) 2 (by omega) with ⟨j, hj, rfl, z⟩ | ⟨-, z⟩
  rotate_left
  · rw [h2, z, bnd_s, bnd_s, if_pos rfl, if_pos rfl, bnd_s, if_pos rfl]; exact ⟨_, _, _, _, _, _, _, _, rfl, rfl, R0⟩
  rw [h2, z, bnd_s, bnd_s, if_neg n10, if_neg n10]
  rcases x_in0 (v := a) 10 (by omega) with ⟨A, hA, rfl, z⟩ | ⟨-, z⟩
  rotate_left
  · rw [h10, z, bnd_s, bnd_s, if_pos rfl, if_pos rfl, bnd_s, if_pos rfl]; exact ⟨_, _, _, _, _, _, _, _, rfl, rfl, R0⟩
  rw [h10, z, bnd_s, bnd_s, if_neg n10, if_neg n10]
  rcases in01 b 1 99 with z | z
  · rw [z, bnd_s, bnd_s, if_pos rfl, if_pos rfl, bnd_s, if_pos rfl]; exact ⟨_, _, _, _, _, _, _, _, rfl, rfl, R0⟩
  obtain ⟨W, w1, w2, rfl⟩ := lo1 (k := 99) (by omega) z
  rw [z, bnd_s, bnd_s, if_neg n10, if_neg n10]
  rcases in01 c 1 3 with z | z
  · rw [z, bnd_s, bnd_s, if_pos rfl, if_pos rfl, bnd_s, if_pos rfl]; exact ⟨_, _, _, _, _, _, _, _, rfl, rfl, R0⟩
  obtain ⟨Dy, d1, d2, rfl⟩ := lo1 (k := 3) (by omega) z
  rw [z, bnd_s, bnd_s, if_neg n10, if_neg n10, bnd_s, if_neg n10, (allT_eq h).1, (allT_eq h).2, bnd_s, bnd_s]
  simp (disch := omega) only [nI_cl, ck_nI]
  have hT := h.2
  have htj : t j ≤ t 0 + t 1 + t 2 := by
    match j, hj with
    | 0, _ => omega
    | 1, _ => omega
    | 2, _ => omega
  rw [(h.1 j (by omega)).1, nI_subN htj, nI_add]
  by_cases hle : t 0 + t 1 + t 2 - t j + A ≤ 10
  rotate_left
  · rw [if_neg (show ¬ nI (t 0 + t 1 + t 2 - t j + A) ≤ 10 from N_nle (a := t 0 + t 1 + t 2 - t j + A) (b := 10) (by omega) (by omega)), if_neg (show ¬ nI (t 0 + t 1 + t 2 - t j + A) ≤ 10 from N_nle (a := t 0 + t 1 + t 2 - t j + A) (b := 10) (by omega) (by omega))]
    exact ⟨_, _, _, _, _, _, _, _, rfl, rfl, R0⟩
  rw [if_pos (show nI (t 0 + t 1 + t 2 - t j + A) ≤ 10 from N_le (b := 10) hle (by omega)), if_pos (show nI (t 0 + t 1 + t 2 - t j + A) ≤ 10 from N_le (b := 10) hle (by omega)), or_bit s (by omega) j (by omega)]
  have hsum : va_up t j A 0 + va_up t j A 1 + va_up t j A 2 ≤ 10 := by
    match j, hj, hle with
    | 0, _, hle => show A + t 1 + t 2 ≤ 10; omega
    | 1, _, hle => show t 0 + A + t 2 ≤ 10; omega
    | 2, _, hle => show t 0 + t 1 + A ≤ 10; omega
  have h' : SD (upd mt j (nI A)) (upd mw j (nI W)) (upd md j (nI Dy)) (va_up t j A) (va_up wo j W) (va_up dy j Dy) := by
    refine ⟨fun i hi => ?_, hsum⟩
    by_cases e : i = j
    · subst e; rw [upd_s, upd_s, upd_s, va_up_self, va_up_self, va_up_self]; exact ⟨rfl, rfl, rfl, w2, d2, fun q => by omega⟩
    · rw [upd_n e, upd_n e, upd_n e, va_up_ne _ _ e, va_up_ne _ _ e, va_up_ne _ _ e]; exact h.1 i hi
  rw [(allT_eq h').1, (allT_eq h').2, bnd_s, bnd_s]
  refine ⟨_, _, _, _, _, _, _, _, rfl, rfl, rfl, rfl, rfl, _, _, _, setb s j, h', rfl, setb8 s hs j (by omega), fun i hi => ?_⟩
  rw [setb_bit]
  by_cases e : i = j
  · subst e; rw [va_up_self]; simp; omega
  · rw [va_up_ne _ _ e, hsb i hi]; simp [e]
/-- the text: bytes with their signs, and without -/
def RTx (text : Nat → Int32) (typed : Int32) (mtext : Nat → Int32) (texted : Int32) : Prop := ∃ (n : Nat) (b : Nat → Nat), typed = nI n ∧ texted = nI n ∧ n ≤ 300 ∧ ∀ k, k < 300 → b k < 256 ∧ mtext k = nI (b k) ∧ text k = (nI (b k)).toInt8.toInt32
theorem l_of (x : Int64) : ∃ n, n < 2 ^ 64 ∧ x = lN n := by
  refine ⟨x.toBitVec.toNat, x.toBitVec.isLt, ?_⟩
  apply Int64.toBitVec_inj.mp
  show x.toBitVec = BitVec.ofNat 64 x.toBitVec.toNat
  simp
theorem l_255 {n : Nat} (hn : n < 2 ^ 64) : lN n &&& lN 255 = lN (n % 256) := by
  apply Int64.toBitVec_inj.mp
  show BitVec.ofNat 64 n &&& BitVec.ofNat 64 255 = BitVec.ofNat 64 (n % 256)
  apply BitVec.eq_of_toNat_eq
  rw [BitVec.toNat_and, BitVec.toNat_ofNat, BitVec.toNat_ofNat, BitVec.toNat_ofNat, Nat.mod_eq_of_lt hn, Nat.mod_eq_of_lt (by decide : 255 < 2 ^ 64), show (255 : Nat) = 2 ^ 8 - 1 from rfl, Nat.and_two_pow_sub_one_eq_mod]
  omega
theorem byte_eq (z : Int64) : ∃ c, c < 256 ∧ (z &&& 255).toInt32 = nI c ∧ vp_nar .byte (z.toInt32.toInt8.toInt32) = (nI c).toInt8.toInt32 := by
  obtain ⟨n, hn, rfl⟩ := l_of z
  refine ⟨n % 256, by omega, ?_, ?_⟩
  · rw [show (255 : Int64) = lN 255 from rfl, l_255 hn, lN_i]
  · rw [lN_i]
    show ((nI n).toInt8.toInt32).toInt8.toInt32 = _
    rw [Int8.toInt8_toInt32]
    congr 1
    show (Int32.ofNat n).toInt8 = (Int32.ofNat (n % 256)).toInt8
    rw [Int32.toInt8_ofNat', Int32.toInt8_ofNat']
    apply Int8.toBitVec_inj.mp
    show BitVec.ofNat 8 n = BitVec.ofNat 8 (n % 256)
    apply BitVec.eq_of_toNat_eq
    rw [BitVec.toNat_ofNat, BitVec.toNat_ofNat]
    omega
theorem P_type {text mtext : Nat → Int32} {typed texted : Int32} (R : RTx text typed mtext texted) (z : Int64) (v : Int32) : ∃ r t' n' t2 n2, x_type text typed z v = some (r, t', n') ∧ m_type mtext texted z v = some (r, t2, n2) ∧ RTx t' n' t2 n2 := by
  have R0 := R
  obtain ⟨n, b, rfl, rfl, hn, hb⟩ := R
  unfold x_type m_type
  rw [show m_in v.toInt64 1 8 = x_in v 1 8 from m_in_eq v 1 8]
  rcases in01 v 1 8 with q | q
  · rw [q, bnd_s, bnd_s, if_pos rfl, if_pos rfl]; exact ⟨_, _, _, _, _, rfl, rfl, R0⟩
  obtain ⟨V, v1, v2, rfl⟩ := lo1 (k := 8) (by omega) q
  rw [q, bnd_s, bnd_s, if_neg n10, if_neg n10, nI_add]
  by_cases hle : n + V ≤ 300
  rotate_left
  · rw [if_neg (show ¬ nI (n + V) ≤ 300 from N_nle (a := n + V) (b := 300) (by omega) (by omega)), if_neg (show ¬ nI (n + V) ≤ 300 from N_nle (a := n + V) (b := 300) (by omega) (by omega))]
    exact ⟨_, _, _, _, _, rfl, rfl, R0⟩
  rw [if_pos (show nI (n + V) ≤ 300 from N_le (b := 300) hle (by omega)), if_pos (show nI (n + V) ≤ 300 from N_le (b := 300) hle (by omega))]
  have key : ∀ (k fu n : Nat) (b : Nat → Nat) (text mtext : Nat → Int32), n + k ≤ 300 → k ≤ 8 → k < fu → (∀ k, k < 300 → b k < 256 ∧ mtext k = nI (b k) ∧ text k = (nI (b k)).toInt8.toInt32) → ∃ t' t2, x_type_L32 z fu (nI k - 1) text (nI n) = some (t', nI (n + k)) ∧ m_type_L34 z fu (nI k - 1) mtext (nI n) = some (t2, nI (n + k)) ∧ RTx t' (nI (n + k)) t2 (nI (n + k)) := by
    intro k
    induction k with
    | zero =>
      intro fu n b text mtext hnk hk hf hb
      obtain ⟨fu, rfl⟩ : ∃ z, fu = z + 1 := ⟨fu - 1, by omega⟩
      exact ⟨text, mtext, by rw [x_type_L32_s, if_pos (by decide)]; rfl, by rw [m_type_L34_s, if_pos (by decide)]; rfl, n, b, rfl, rfl, by omega, hb⟩
    | succ k ih =>
      intro fu n b text mtext hnk hk hf hb
      obtain ⟨fu, rfl⟩ : ∃ z, fu = z + 1 := ⟨fu - 1, by omega⟩
      obtain ⟨c, c1, c2, c3⟩ := byte_eq (z >>> ((8 * nI k).toInt64 &&& 63))
      rw [show (nI (k + 1) - 1 : Int32) = nI k from nI_pred k, x_type_L32_s, m_type_L34_s, if_neg (nI_pos (by omega)), if_neg (nI_pos (by omega)), show (nI k + (-1) : Int32) = nI k - 1 from (Int32.sub_eq_add_neg _ _).symm, show (nI n + 1 : Int32) = nI (n + 1) from nI_1 n]
      simp (disch := omega) only [nI_cl, ck_nI]
      rw [c2, c3]
      obtain ⟨t', t2, i1, i2, i3⟩ := ih fu (n + 1) (va_up b n c) (upd text n (nI c).toInt8.toInt32) (upd mtext n (nI c)) (by omega) (by omega) (by omega) (fun i hi => by
        by_cases e : i = n
        · subst e; rw [upd_s, upd_s, va_up_self]; exact ⟨c1, rfl, rfl⟩
        · rw [upd_n e, upd_n e, va_up_ne _ _ e]; exact hb i hi)
      rw [show n + (k + 1) = n + 1 + k by omega]
      exact ⟨t', t2, i1, i2, i3⟩
  obtain ⟨t', t2, i1, i2, i3⟩ := key V g_fuel n b text mtext hle v2 (by unfold g_fuel; omega) hb
  rw [show x_type_L32 z g_fuel (nI V - 1) text (nI n) = _ from i1, show m_type_L34 z g_fuel (nI V - 1) mtext (nI n) = _ from i2, bnd2_s, bnd2_s]
  exact ⟨_, _, _, _, _, rfl, rfl, i3⟩
