/-! PURE LAW: rate, great, keep, back -/
section PMISC
variable {B : Bk} {c : Core} {h : Hist} {lf : Nat → Nat} {room work price whom bday units worth due under : Nat → Int32} {people askings hangs : Int32} {mpe mak mhg : Int32} {mroom mwork mprice asked hung : Nat → Int32}
variable {many : Nat → Int32} {slip : Nat → Nat → Int32} {became left what which whose place : Nat → Int32} {deeds day won lost : Int32} {w : Nat → Int32}
theorem tr_a (t a b c : Int64) (h : a + b = c + a) : t + a + b = t + c + a := by rw [Int64.add_assoc, Int64.add_assoc, h]
theorem P_rate (hB : B.ok) (RX : RBX B room work price whom bday units worth due under people askings hangs) (RM : RBM B mpe mroom mwork mprice mak asked mhg hung) (T : TI B c h lf) (X : TX c h lf many slip became left what which whose place deeds day won lost) (M : TM c h lf w) (trace : Int64) (v u : Int32) : ∃ r t, x_rate room work people many slip left day trace v u = some (r, t) ∧ m_rate w mpe mroom mwork trace v u = some (r, t) := by
  obtain ⟨rfl, rfl, rfl, RX1, RX2, -⟩ := RX
  obtain ⟨rfl, rfl, rfl, RM1, RM2, -⟩ := RM
  have b1 := hB.1
  unfold x_rate m_rate
  rw [show m_in v.toInt64 0 5 = x_in v 0 5 from m_in_eq v 0 5]
  have h5 : x_in v 0 5 = x_in v 0 (nI 5) := rfl
  rcases x_in0 (v := v) 5 (by omega) with ⟨j, hj, rfl, z⟩ | ⟨hno, z⟩
  rotate_left
  · exact ⟨_, _, by rw [h5, z, bnd_s, if_pos rfl], by rw [h5, z, bnd_s, if_pos rfl]⟩
  rw [h5, z, bnd_s, bnd_s, if_neg n10, if_neg n10]
  rcases isA_cases (v := u) (Nat.le_trans b1 (by decide)) with ⟨p, hp, rfl, -, -, e3, e4⟩ | ⟨-, -, -, e3, e4⟩
  rotate_left
  · exact ⟨_, _, by rw [e3, bnd_s, if_pos rfl], by rw [e4, bnd_s, if_pos rfl]⟩
  rw [e3, e4, bnd_s, bnd_s, if_neg n10, if_neg n10]
  have hp4 : p < 4 := by omega
  obtain ⟨q1, q2, q3⟩ := RX1 p hp
  obtain ⟨q4, q5, q6⟩ := RM1 p hp
  have q7 := (X.1.2.2.2.2 p hp4).1
  have q8 := (M.1.2.2.2.2 p hp4).1
  obtain ⟨l1, l2⟩ := left_eq hB T X M hp4
  have d1 : w (0 : Int32).toNatClampNeg = day := M.1.1.trans X.1.1.symm
  have hR : ∀ t : Int64, x_rate4_0 room many t (nI p) = some (nI (B.rm p) - nI (c.sl p).length, t + 1) := fun t => by
    unfold x_rate4_0
    simp (disch := omega) only [nI_cl, ck_nI]
    rw [q1, q7]
  have h4 : (19 + nI p : Int32) = nI (19 + p) := by simp only [nI_lit, nI_add, pk_mul, nI_cl, nI_leI, nI_ltI, nI_eq, nI_subN]
  rw [h4]
  simp (disch := omega) only [nI_cl, ck_nI]
  rw [q4, q5, q8, l2, d1]
  match j, hj with
  | 0, _ => exact ⟨_, _, by rw [if_pos (L_eq 0 rfl), hR, bnd2_s], rfl⟩
  | 1, _ =>
    refine ⟨nI (B.rm p) - nI (c.sl p).length + nI (B.wk p), trace + 1 + 10, ?_, rfl⟩
    rw [if_neg (by decide), if_pos (L_eq 1 rfl)]
    unfold x_rate5_1
    rw [show x_rate4_1 room many (trace + 10) (nI p) = x_rate4_0 room many (trace + 10) (nI p) from rfl, hR, bnd2_s]
    simp (disch := omega) only [nI_cl, ck_nI]
    rw [bnd2_s, q2, tr_a trace 10 1 1 (by decide)]
  | 2, _ =>
    refine ⟨nI (B.rm p) - nI (c.sl p).length - sumL lf (c.sl p) 0, trace + 1 + 100, ?_, rfl⟩
    rw [if_neg (by decide), if_neg (by decide), if_pos (L_eq 2 rfl)]
    unfold x_rate6_2
    rw [show x_rate4_2 room many (trace + 100) (nI p) = x_rate4_0 room many (trace + 100) (nI p) from rfl, hR, bnd2_s, l1, bnd_s, bnd2_s, tr_a trace 100 1 1 (by decide)]
  | 3, _ =>
    refine ⟨2 * (nI (B.rm p) - nI (c.sl p).length + nI (B.wk p)), trace + 1 + 1010, ?_, rfl⟩
    rw [if_neg (by decide), if_neg (by decide), if_neg (by decide), if_pos (L_eq 3 rfl)]
    unfold x_rate7_3 x_rate5_3
    rw [show x_rate4_3 room many (trace + 1000 + 10) (nI p) = x_rate4_0 room many (trace + 1000 + 10) (nI p) from rfl, hR, bnd2_s]
    simp (disch := omega) only [nI_cl, ck_nI]
    rw [bnd2_s, bnd2_s, q2, Int64.add_assoc trace 1000 10, tr_a trace (1000 + 10) 1 1 (by decide)]
    rfl
  | 4, _ =>
    refine ⟨nI (B.rm p) - nI (c.sl p).length - sumL lf (c.sl p) 0 + nI p, trace + 1 + 10100, ?_, rfl⟩
    rw [if_neg (by decide), if_neg (by decide), if_neg (by decide), if_neg (by decide), if_pos (L_eq 4 rfl)]
    unfold x_rate8_4 x_rate6_4
    rw [show x_rate4_4 room many (trace + 10000 + 100) (nI p) = x_rate4_0 room many (trace + 10000 + 100) (nI p) from rfl, hR, bnd2_s, l1, bnd_s, bnd2_s, bnd2_s, Int64.add_assoc trace 10000 100, tr_a trace (10000 + 100) 1 1 (by decide)]
    rfl
  | 5, _ =>
    refine ⟨nI (B.rm p) - nI (c.sl p).length + day, trace + 1 + 100000, ?_, rfl⟩
    rw [if_neg (by decide), if_neg (by decide), if_neg (by decide), if_neg (by decide), if_neg (by decide), if_pos (L_eq 5 rfl)]
    unfold x_rate9_5
    rw [show x_rate4_5 room many (trace + 100000) (nI p) = x_rate4_0 room many (trace + 100000) (nI p) from rfl, hR, bnd2_s, bnd2_s, tr_a trace 100000 1 1 (by decide)]
theorem P_great (hB : B.ok) (RX : RBX B room work price whom bday units worth due under people askings hangs) (RM : RBM B mpe mroom mwork mprice mak asked mhg hung) (T : TI B c h lf) (X : TX c h lf many slip became left what which whose place deeds day won lost) (M : TM c h lf w) (v u t : Int32) : ∃ r, x_great room work price people many slip left day v u t = some r ∧ m_great w mpe mroom mwork mprice v u t = some r := by
  obtain ⟨rfl, rfl, rfl, RX1, RX2, -⟩ := RX
  obtain ⟨rfl, rfl, rfl, RM1, RM2, -⟩ := RM
  have b1 := hB.1
  have d1 : w (0 : Int32).toNatClampNeg = day := M.1.1.trans X.1.1.symm
  unfold x_great m_great
  rw [show m_in v.toInt64 1 99 = x_in v 1 99 from m_in_eq v 1 99, d1, show m_in u.toInt64 day.toInt64 9 = x_in u day 9 from m_in_eq u day 9, show m_in t.toInt64 0 1 = x_in t 0 1 from m_in_eq t 0 1]
  by_cases hv0 : x_in v 1 99 = some 0
  · exact ⟨_, by rw [hv0, bnd_s, if_pos rfl], by rw [hv0, bnd_s, if_pos rfl]⟩
  have hv1 := (in01 v 1 99).resolve_left hv0
  have hvp : ¬ v < 0 := by
    intro z
    apply hv0
    unfold x_in
    rw [if_pos]
    have := Int32.lt_iff_toInt_lt.mp z
    exact Int32.lt_iff_toInt_lt.mpr (by have e1 : (1 : Int32).toInt = 1 := rfl; have e0 : (0 : Int32).toInt = 0 := rfl; omega)
  rw [hv1, bnd_s, bnd_s, if_neg n10, if_neg n10]
  rcases in01 u day 9 with z | z
  · exact ⟨_, by rw [z, bnd_s, if_pos rfl], by rw [z, bnd_s, if_pos rfl]⟩
  rw [z, bnd_s, bnd_s, if_neg n10, if_neg n10]
  rcases in01 t 0 1 with z | z
  · exact ⟨_, by rw [z, bnd_s, if_pos rfl], by rw [z, bnd_s, if_pos rfl]⟩
  rw [z, bnd_s, bnd_s, if_neg n10, if_neg n10]
  -- the inner loop
  have inner : ∀ (money : Int32) (fu i : Nat) (a b e : Int32), ¬ a < 0 → i ≤ B.pe → B.pe - i < fu → ∃ a' b' e', ¬ a' < 0 ∧ x_great_L59 u money room work price (nI B.pe) many slip left day fu a b e (nI i) = some (a', b', e') ∧ m_great_L64 u money w (nI B.pe) mroom mwork mprice fu a b e (nI i) = some (a', b', e') := by
    intro money fu
    induction fu with
    | zero => intro i a b e _ _ h; omega
    | succ fu ih =>
      intro i a b e ha hi hf
      rw [x_great_L59_s, m_great_L64_s]
      by_cases hc : B.pe ≤ i
      · rw [if_pos (N_le hc (by omega)), if_pos (N_le hc (by omega))]
        exact ⟨a, b, e, ha, rfl, rfl⟩
      · rw [if_neg (N_nle (by omega) (by omega)), if_neg (N_nle (by omega) (by omega)), d1]
        have hi4 : i < 4 := by omega
        obtain ⟨q1, q2, q3⟩ := RX1 i (by omega)
        obtain ⟨q4, q5, q6⟩ := RM1 i (by omega)
        have q7 := (X.1.2.2.2.2 i hi4).1
        have q8 := (M.1.2.2.2.2 i hi4).1
        obtain ⟨l1, l2⟩ := left_eq hB T X M hi4
        have hlen := T.1.2.2.2.1 i (by omega)
        obtain ⟨r1, r2, -, -, -⟩ := hB.2.2.1 i (by omega)
        have hRx : x_hasRoom room many (nI i) = some (if (c.sl i).length < B.rm i then 1 else 0) := by
          unfold x_hasRoom
          simp (disch := omega) only [nI_cl, ck_nI]
          rw [q1, q7]
          by_cases z : (c.sl i).length < B.rm i
          · rw [if_neg (N_nle z (by omega)), if_pos z]
          · rw [if_pos (N_le (by omega) (by omega)), if_neg z]
        rw [hRx, l1, l2]
        simp only [bnd_s]
        have h4 : (19 + nI i : Int32) = nI (19 + i) := by simp only [nI_lit, nI_add, pk_mul, nI_cl, nI_leI, nI_ltI, nI_eq, nI_subN]
        have h5 : (nI i + 1 : Int32) = nI (i + 1) := nI_1 i
        rw [h4, h5]
        simp (disch := omega) only [nI_cl, ck_nI]
        rw [q2, q3, q4, q5, q6, q8]
        have a00 : ∀ x : Int32, (if a < 0 then a else 0) = 0 := fun _ => if_neg ha
        have zero : ∀ (f : Int32 → Int32 → Int32 → Option (Int32 × Int32 × Int32)), f (a - 0) (b + 0 * money) (e ||| 0) = f a b e := fun f => by
          rw [Int32.sub_zero, Int32.zero_mul, Int32.add_zero, Int32.or_zero]
        by_cases room1 : (c.sl i).length < B.rm i
        rotate_left
        · rw [if_neg room1, if_pos rfl, bnd_s, a00 0, if_pos (by decide), zero (fun x y z => x_great_L59 u money room work price (nI B.pe) many slip left day fu x y z (nI (i + 1)))]
          have : (if nI (B.pr i) = money then if nI (B.rm i) ≤ nI (c.sl i).length then m_great_L64 u money w (nI B.pe) mroom mwork mprice fu a b e (nI (i + 1)) else
              if nI (B.wk i) * (u - day + 1) - sumL lf (c.sl i) 0 ≤ 0 then m_great_L64 u money w (nI B.pe) mroom mwork mprice fu a b e (nI (i + 1)) else
              if a ≤ 0 then m_great_L64 u money w (nI B.pe) mroom mwork mprice fu a b e (nI (i + 1)) else
              bnd (m_lesser a (nI (B.wk i) * (u - day + 1) - sumL lf (c.sl i) 0)) fun r_146 => m_great_L64 u money w (nI B.pe) mroom mwork mprice fu (a - r_146) (b + r_146 * money) (e ||| 1 <<< (nI i &&& 31)) (nI (i + 1)) else m_great_L64 u money w (nI B.pe) mroom mwork mprice fu a b e (nI (i + 1))) = m_great_L64 u money w (nI B.pe) mroom mwork mprice fu a b e (nI (i + 1)) := by
            split
            · rw [if_pos (N_le (by omega) (by omega))]
            · rfl
          rw [this]
          exact ih (i + 1) a b e ha (by omega) (by omega)
        rw [if_pos room1, if_neg n10]
        by_cases hm : nI (B.pr i) = money
        rotate_left
        · rw [if_neg hm, if_neg hm, bnd_s, a00 0, if_pos (by decide), zero (fun x y z => x_great_L59 u money room work price (nI B.pe) many slip left day fu x y z (nI (i + 1)))]
          exact ih (i + 1) a b e ha (by omega) (by omega)
        rw [if_pos hm, if_pos hm, bnd_s, if_neg (N_nle room1 (by omega))]
        generalize nI (B.wk i) * (u - day + 1) - sumL lf (c.sl i) 0 = V
        by_cases hV : 0 < V
        rotate_left
        · rw [if_neg hV, if_pos (show V ≤ 0 from Int32.not_lt.mp hV), a00 0, if_pos (by decide), zero (fun x y z => x_great_L59 u money room work price (nI B.pe) many slip left day fu x y z (nI (i + 1)))]
          exact ih (i + 1) a b e ha (by omega) (by omega)
        rw [if_pos hV, if_neg (show ¬ V ≤ 0 from Int32.not_le.mpr hV)]
        have hVi := Int32.lt_iff_toInt_lt.mp hV
        have e0 : (0 : Int32).toInt = 0 := rfl
        have hai : 0 ≤ a.toInt := by
          rcases Int.lt_or_le a.toInt 0 with q | q
          · exact absurd (Int32.lt_iff_toInt_lt.mpr (by rw [e0]; exact q)) ha
          · exact q
        by_cases ha0 : a ≤ 0
        · have hav : a < V := Int32.lt_iff_toInt_lt.mpr (by have := Int32.le_iff_toInt_le.mp ha0; omega)
          have ha00 : a = 0 := Int32.toInt_inj.mp (by have := Int32.le_iff_toInt_le.mp ha0; omega)
          rw [if_pos ha0, if_pos hav, if_pos ha0]
          have := zero (fun x y z => x_great_L59 u money room work price (nI B.pe) many slip left day fu x y z (nI (i + 1)))
          rw [ha00] at this ⊢
          rw [this]
          exact ih (i + 1) 0 b e (by decide) (by omega) (by omega)
        · rw [if_neg ha0]
          have hlt : m_lesser a V = some (if a < V then a else V) := by
            unfold m_lesser
            by_cases q : a < V
            · rw [if_pos q, if_neg (Int32.not_le.mpr q)]
            · rw [if_neg q, if_pos (Int32.not_lt.mp q)]
          rw [hlt, bnd_s]
          have hle : (if a < V then a else V).toInt ≤ a.toInt ∧ 0 < (if a < V then a else V).toInt := by
            by_cases q : a < V
            · rw [if_pos q]
              have : ¬ a.toInt ≤ 0 := fun y => ha0 (Int32.le_iff_toInt_le.mpr (by rw [e0]; exact y))
              omega
            · rw [if_neg q]
              have := Int32.le_iff_toInt_le.mp (Int32.not_lt.mp q)
              omega
          generalize (if a < V then a else V) = K at hle
          rw [if_neg (fun y => by have := Int32.le_iff_toInt_le.mp y; omega)]
          refine ih (i + 1) _ _ _ (fun y => ?_) (by omega) (by omega)
          have hs : (a - K).toInt = a.toInt - K.toInt := by
            rw [Int32.toInt_sub]
            have h1 := Int32.toInt_lt a
            have h2 := Int32.le_toInt K
            apply Int.bmod_eq_of_le <;> omega
          have := Int32.lt_iff_toInt_lt.mp y
          rw [hs, e0] at this
          omega
  have outer : ∀ (n i : Nat) (a b e : Int32), ¬ a < 0 → i + n = 10 → ∀ fu, n < fu → ∃ a' b' e', x_great_L49 u room work price (nI B.pe) many slip left day fu a b e (nI i) = some (a', b', e') ∧ m_great_L54 u w (nI B.pe) mroom mwork mprice fu a b e (nI i) = some (a', b', e') := by
    intro n
    induction n with
    | zero =>
      intro i a b e _ hi fu hf
      obtain ⟨fu, rfl⟩ : ∃ z, fu = z + 1 := ⟨fu - 1, by omega⟩
      rw [x_great_L49_s, m_great_L54_s, if_pos (show (9 : Int32) < nI i from (nI_ltI (a := 9) (by omega) (by omega)).mpr (by omega)), if_pos (L_le 10 (by omega) (by omega))]
      exact ⟨_, _, _, rfl, rfl⟩
    | succ n ih =>
      intro i a b e ha hi fu hf
      obtain ⟨fu, rfl⟩ : ∃ z, fu = z + 1 := ⟨fu - 1, by omega⟩
      rw [x_great_L49_s, m_great_L54_s, if_neg (show ¬ (9 : Int32) < nI i from fun z => absurd ((nI_ltI (a := 9) (by omega) (by omega)).mp z) (by omega)), if_neg (L_nle 10 (by omega) (by omega))]
      obtain ⟨a', b', e', h1, h2, h3⟩ := inner (nI i) g_fuel 0 a b e ha (by omega) (by unfold g_fuel; omega)
      have h2' : x_great_L59 u (nI i) room work price (nI B.pe) many slip left day g_fuel a b e 0 = some (a', b', e') := h2
      have h3' : m_great_L64 u (nI i) w (nI B.pe) mroom mwork mprice g_fuel a b e 0 = some (a', b', e') := h3
      rw [h2', h3', bnd3_s, bnd3_s, show (nI i + 1 : Int32) = nI (i + 1) from nI_1 i]
      exact ih (i + 1) a' b' e' h1 (by omega) fu (by omega)
  obtain ⟨a', b', e', h1, h2⟩ := outer 10 0 v 0 0 hvp (by omega) g_fuel (by unfold g_fuel; omega)
  have h1' : x_great_L49 u room work price (nI B.pe) many slip left day g_fuel v 0 0 0 = some (a', b', e') := h1
  have h2' : m_great_L54 u w (nI B.pe) mroom mwork mprice g_fuel v 0 0 0 = some (a', b', e') := h2
  rw [h1', h2', bnd3_s]
  split
  · split
    · exact ⟨_, rfl, rfl⟩
    · exact ⟨_, rfl, rfl⟩
  · exact ⟨_, rfl, rfl⟩
end PMISC
