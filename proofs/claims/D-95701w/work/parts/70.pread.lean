/-! PURE LAW: person, asking, slip, now, rate, great -/
theorem n10 : ¬ (1 : Int32) = 0 := by decide
theorem x_in0 {v : Int32} (n : Nat) (hn : n < 2 ^ 30) : (∃ a, a ≤ n ∧ v = nI a ∧ x_in v 0 (nI n) = some 1) ∨ ((∀ a, a ≤ n → v ≠ nI a) ∧ x_in v 0 (nI n) = some 0) := by
  unfold x_in
  by_cases h0 : v < 0
  · refine Or.inr ⟨fun a ha e => ?_, if_pos h0⟩
    rw [e] at h0; exact nI_pos (by omega) h0
  · rw [if_neg h0]
    obtain ⟨j, hj, rfl⟩ := nI_of h0
    by_cases h1 : j ≤ n
    · exact Or.inl ⟨j, h1, rfl, if_neg (fun z => absurd ((nI_ltI (by omega) hj).mp z) (by omega))⟩
    · refine Or.inr ⟨fun a ha e => h1 ?_, if_pos ((nI_ltI (by omega) hj).mpr (by omega))⟩
      rw [(nI_eq hj (by omega)).mp e]; exact ha
section PREAD
variable {B : Bk} {c : Core} {h : Hist} {lf : Nat → Nat} {room work price whom bday units worth due under : Nat → Int32} {people askings hangs : Int32} {mpe mak mhg : Int32} {mroom mwork mprice asked hung : Nat → Int32}
variable {many : Nat → Int32} {slip : Nat → Nat → Int32} {became left what which whose place : Nat → Int32} {deeds day won lost : Int32} {w : Nat → Int32}
theorem P_person (hB : B.ok) (RX : RBX B room work price whom bday units worth due under people askings hangs) (RM : RBM B mpe mroom mwork mprice mak asked mhg hung) (XT : XTown c many slip became day won lost) (MT : MTown c w) (v u : Int32) : ∃ r, x_person room work price people many v u = some r ∧ m_person w mpe mroom mwork mprice v u = some r := by
  obtain ⟨rfl, rfl, rfl, RX1, RX2, -⟩ := RX
  obtain ⟨rfl, rfl, rfl, RM1, RM2, -⟩ := RM
  have b1 := hB.1
  unfold x_person m_person
  rcases isA_cases (v := v) (Nat.le_trans b1 (by decide)) with ⟨p, hp, rfl, -, -, e3, e4⟩ | ⟨-, -, -, e3, e4⟩
  rotate_left
  · exact ⟨-1, by rw [e3, bnd_s, if_pos rfl], by rw [e4, bnd_s, if_pos rfl]⟩
  rw [e3, e4, bnd_s, bnd_s, if_neg n10, if_neg n10, show m_in u.toInt64 0 3 = x_in u 0 3 from m_in_eq u 0 3]
  rcases in01 u 0 3 with z | z
  · exact ⟨-1, by rw [z, bnd_s, if_pos rfl], by rw [z, bnd_s, if_pos rfl]⟩
  rw [z, bnd_s, bnd_s, if_neg n10, if_neg n10]
  simp (disch := omega) only [nI_lit, nI_add, pk_mul, nI_cl, nI_leI, nI_ltI, nI_eq, nI_subN, ck_nI]
  obtain ⟨q1, q2, q3⟩ := RX1 p hp
  obtain ⟨q4, q5, q6⟩ := RM1 p hp
  have q7 := (XT.2.2.2.2 p (by omega)).1
  have q8 := (MT.2.2.2.2 p (by omega)).1
  rw [q1, q2, q3, q4, q5, q6, q7, q8]
  split
  · exact ⟨_, rfl, rfl⟩
  · split
    · exact ⟨_, rfl, rfl⟩
    · split
      · exact ⟨_, rfl, rfl⟩
      · exact ⟨_, rfl, rfl⟩
theorem P_slip (hB : B.ok) (ho : c.ok B) (XT : XTown c many slip became day won lost) (MT : MTown c w) (v u : Int32) : ∃ r, x_slip (nI B.pe) many slip v u = some r ∧ m_slip w (nI B.pe) v u = some r := by
  have b1 := hB.1
  unfold x_slip m_slip
  rcases isA_cases (v := v) (Nat.le_trans b1 (by decide)) with ⟨p, hp, rfl, -, -, e3, e4⟩ | ⟨-, -, -, e3, e4⟩
  rotate_left
  · exact ⟨-1, by rw [e3, bnd_s, if_pos rfl], by rw [e4, bnd_s, if_pos rfl]⟩
  rw [e3, e4, bnd_s, bnd_s, if_neg n10, if_neg n10]
  by_cases hu : 0 ≤ u
  rotate_left
  · rw [if_neg hu, if_neg hu]; exact ⟨_, rfl, rfl⟩
  rw [if_pos hu, if_pos hu]
  obtain ⟨i, hi, rfl⟩ := nI_of (x := u) (fun z => by
    have := Int32.lt_iff_toInt_lt.mp z
    have := Int32.le_iff_toInt_le.mp hu
    omega)
  simp (disch := omega) only [nI_lit, nI_add, pk_mul, nI_cl, ck_nI]
  obtain ⟨q1, q2, q3, q4⟩ := XT.2.2.2.2 p (by omega)
  obtain ⟨q5, q6, q7, q8⟩ := MT.2.2.2.2 p (by omega)
  rw [q1, q5]
  by_cases hc : (c.sl p).length ≤ i
  · rw [if_pos (N_le hc hi), if_pos (N_le hc hi)]; exact ⟨_, rfl, rfl⟩
  · rw [if_neg (N_nle (by omega) (by omega)), if_neg (N_nle (by omega) (by omega))]
    simp (disch := omega) only [nI_lit, nI_add, pk_mul, nI_cl, ck_nI]
    have := q7 i (by omega)
    dsimp only at this
    rw [q3 i (by omega), this]; exact ⟨_, rfl, rfl⟩
theorem P_asking (hB : B.ok) (RX : RBX B room work price whom bday units worth due under people askings hangs) (RM : RBM B mpe mroom mwork mprice mak asked mhg hung) (T : TI B c h lf) (X : TX c h lf many slip became left what which whose place deeds day won lost) (M : TM c h lf w) (v u : Int32) : ∃ r, x_asking whom bday units worth due askings many slip became left v u = some r ∧ m_asking w mpe mak asked v u = some r := by
  obtain ⟨rfl, rfl, rfl, RX1, RX2, -⟩ := RX
  obtain ⟨rfl, rfl, rfl, RM1, RM2, -⟩ := RM
  have b1 := hB.1
  have b2 := hB.2.1
  unfold x_asking m_asking
  rcases isA_cases (v := v) b2 with ⟨a, ha, rfl, e1, e2, -, -⟩ | ⟨-, e1, e2, -, -⟩
  rotate_left
  · exact ⟨-1, by rw [e1, bnd_s, if_pos rfl], by rw [e2, bnd_s, if_pos rfl]⟩
  have ha8 : a < 8 := by omega
  rw [e1, e2, bnd_s, bnd_s, if_neg n10, if_neg n10, show m_in u.toInt64 0 7 = x_in u 0 7 from m_in_eq u 0 7]
  have h7 : x_in u 0 7 = x_in u 0 (nI 7) := rfl
  rcases x_in0 (v := u) 7 (by omega) with ⟨j, hj, rfl, z⟩ | ⟨hno, z⟩
  rotate_left
  · refine ⟨-1, ?_, by rw [h7, z, bnd_s, if_pos rfl]⟩
    rw [if_neg (show ¬ u = (0 : Int32) from hno 0 (by omega)), if_neg (show ¬ u = (1 : Int32) from hno 1 (by omega)), if_neg (show ¬ u = (2 : Int32) from hno 2 (by omega)), if_neg (show ¬ u = (3 : Int32) from hno 3 (by omega)), if_neg (show ¬ u = (4 : Int32) from hno 4 (by omega)), if_neg (show ¬ u = (5 : Int32) from hno 5 (by omega)), if_neg (show ¬ u = (6 : Int32) from hno 6 (by omega)), if_neg (show ¬ u = (7 : Int32) from hno 7 (by omega))]
  rw [h7, z, bnd_s, if_neg n10]
  simp (disch := omega) only [nI_lit, nI_add, pk_mul, nI_cl, ck_nI]
  obtain ⟨XT, XH, XL⟩ := X
  obtain ⟨MT, MH, ML⟩ := M
  obtain ⟨w1, w2, w3, w4, w5⟩ := RX2 a ha
  obtain ⟨y1, y2, y3, y4, y5⟩ := RM2 a ha
  have hf3 := T.1.2.1 a
  have hu : ∀ p q, a ∈ c.sl p → a ∈ c.sl q → p = q := fun p q h1 h2 => T.1.2.2.2.2.2.2.2 p q a h1 h2
  rw [XT.2.2.2.1 a ha8, MT.2.2.2.1 a ha8]
  unfold ltv
  match j, hj with
  | 0, _ => exact ⟨_, rfl, by dsimp only; rw [if_neg (show ¬ nI 5 ≤ nI 0 by decide), ck_nI (by omega) (by omega)]; exact congrArg some (y1.trans w1.symm)⟩
  | 1, _ => exact ⟨_, rfl, by dsimp only; rw [if_neg (show ¬ nI 5 ≤ nI 1 by decide), ck_nI (by omega) (by omega)]; exact congrArg some (y2.trans w2.symm)⟩
  | 2, _ => exact ⟨_, rfl, by dsimp only; rw [if_neg (show ¬ nI 5 ≤ nI 2 by decide), ck_nI (by omega) (by omega)]; exact congrArg some (y3.trans w3.symm)⟩
  | 3, _ => exact ⟨_, rfl, by dsimp only; rw [if_neg (show ¬ nI 5 ≤ nI 3 by decide), ck_nI (by omega) (by omega)]; exact congrArg some (y4.trans w4.symm)⟩
  | 4, _ => exact ⟨_, rfl, by dsimp only; rw [if_neg (show ¬ nI 5 ≤ nI 4 by decide), ck_nI (by omega) (by omega)]; exact congrArg some (y5.trans w5.symm)⟩
  | 5, _ => exact ⟨_, rfl, rfl⟩
  | 6, _ =>
    by_cases f1 : c.fate a = 1
    · have hr : Rel c h a := Or.inl f1
      have := ML a ha8 hr
      dsimp only at this
      rw [f1, XL a ha8 hr, this]
      exact ⟨_, rfl, rfl⟩
    · refine ⟨0, ?_, ?_⟩
      · rw [if_neg (N_ne f1 (by omega) (by omega))]; rfl
      · rw [if_neg (N_ne f1 (by omega) (by omega))]; rfl
  | 7, _ =>
    have A := x_sleeveOf_eq XT.2.2.2.2 T.1.2.2.1 ha8 hu
    have A2 := m_sleeveOf_eq b1 MT.2.2.2.2 ha8 hu
    by_cases hex : ∃ p, a ∈ c.sl p
    · obtain ⟨p, hp⟩ := hex
      have hpp := ok_p T.1 hp
      refine ⟨nI p, ?_, ?_⟩
      · rw [A.1 p (by omega) hp]; rfl
      · rw [A2.1 p hpp hp]; rfl
    · refine ⟨-9, ?_, ?_⟩
      · rw [A.2 (fun p _ z => hex ⟨p, z⟩)]; rfl
      · rw [A2.2 (fun p _ z => hex ⟨p, z⟩)]; rfl
def sumM (l : Nat → List Nat) : Nat → Int32 → Nat → Int32
  | 0, s, _ => s
  | n + 1, s, i => sumM l n (s + nI (l i).length) (i + 1)
theorem P_now (hB : B.ok) (ho : c.ok B) (XT : XTown c many slip became day won lost) (XH : XHist h what which whose place deeds) (MT : MTown c w) (MH : MHist h w) (v : Int32) : ∃ r, x_now many deeds day won lost v = some r ∧ m_now w (nI B.pe) v = some r := by
  have b1 := hB.1
  have kx : ∀ (n i : Nat) (s : Int32), i + n = 4 → ∀ fu, n < fu → x_now_L17 many fu s (nI i) = some (sumM c.sl n s i) := by
    intro n
    induction n with
    | zero =>
      intro i s hi fu hf
      obtain ⟨fu, rfl⟩ : ∃ z, fu = z + 1 := ⟨fu - 1, by omega⟩
      rw [x_now_L17_s, if_pos (L_le 4 (by omega) (by omega))]; rfl
    | succ n ih =>
      intro i s hi fu hf
      obtain ⟨fu, rfl⟩ : ∃ z, fu = z + 1 := ⟨fu - 1, by omega⟩
      rw [x_now_L17_s, if_neg (L_nle 4 (by omega) (by omega))]
      simp (disch := omega) only [nI_lit, nI_add, pk_mul, nI_cl, nI_leI, nI_ltI, nI_eq, nI_subN, ck_nI]
      rw [(XT.2.2.2.2 i (by omega)).1, ih (i + 1) _ (by omega) fu (by omega)]; rfl
  have kz : ∀ (n i : Nat) (s : Int32), B.pe ≤ i → sumM c.sl n s i = s := by
    intro n
    induction n with
    | zero => intro i s _; rfl
    | succ n ih =>
      intro i s hi
      show sumM c.sl n (s + nI (c.sl i).length) (i + 1) = s
      rw [ho.2.2.2.2.1 i hi, ih (i + 1) _ (by omega)]
      exact Int32.add_zero s
  have km : ∀ (n i : Nat) (s : Int32), i + n = 4 → i ≤ B.pe → ∀ fu, n < fu → m_slips_L4 w (nI B.pe) fu s (nI i) = some (sumM c.sl n s i) := by
    intro n
    induction n with
    | zero =>
      intro i s hi hp fu hf
      obtain ⟨fu, rfl⟩ : ∃ z, fu = z + 1 := ⟨fu - 1, by omega⟩
      rw [m_slips_L4_s, if_pos (N_le (by omega) (by omega))]; rfl
    | succ n ih =>
      intro i s hi hp fu hf
      obtain ⟨fu, rfl⟩ : ∃ z, fu = z + 1 := ⟨fu - 1, by omega⟩
      rw [m_slips_L4_s]
      by_cases hc : B.pe ≤ i
      · rw [if_pos (N_le hc (by omega)), kz _ _ _ hc]
      · rw [if_neg (N_nle (by omega) (by omega))]
        simp (disch := omega) only [nI_lit, nI_add, pk_mul, nI_cl, nI_leI, nI_ltI, nI_eq, nI_subN, ck_nI]
        rw [(MT.2.2.2.2 i (by omega)).1, ih (i + 1) _ (by omega) (by omega) fu (by omega)]; rfl
  unfold x_now m_now
  have hm : m_slips w (nI B.pe) = some (sumM c.sl 4 0 0) := by
    unfold m_slips
    rw [show (0 : Int32) = nI 0 from rfl, km 4 0 _ (by omega) (by omega) g_fuel (by unfold g_fuel; omega), bnd_s]
  rw [hm, bnd_s, show x_now_L17 many g_fuel 0 0 = some (sumM c.sl 4 0 0) from kx 4 0 0 (by omega) g_fuel (by unfold g_fuel; omega), bnd_s]
  rw [show w (0 : Int32).toNatClampNeg = day from MT.1.trans XT.1.symm, show w (1 : Int32).toNatClampNeg = won from MT.2.1.trans XT.2.1.symm, show w (2 : Int32).toNatClampNeg = lost from MT.2.2.1.trans XT.2.2.1.symm, show w (43 : Int32).toNatClampNeg = deeds from MH.1.trans XH.1.symm]
  split
  · exact ⟨_, rfl, rfl⟩
  · split
    · exact ⟨_, rfl, rfl⟩
    · split
      · exact ⟨_, rfl, rfl⟩
      · split
        · exact ⟨_, rfl, rfl⟩
        · split
          · exact ⟨_, rfl, rfl⟩
          · exact ⟨_, rfl, rfl⟩
def sumL (lf : Nat → Nat) : List Nat → Int32 → Int32
  | [], s => s
  | a :: l, s => sumL lf l (s + nI (lf a))
theorem left_eq (hB : B.ok) (T : TI B c h lf) (X : TX c h lf many slip became left what which whose place deeds day won lost) (M : TM c h lf w) {p : Nat} (hp : p < 4) : x_leftOn many slip left (nI p) = some (sumL lf (c.sl p) 0) ∧ m_leftTo w (nI p) = some (sumL lf (c.sl p) 0) := by
  have b2 := hB.2.1
  obtain ⟨XT, XH, XL⟩ := X
  obtain ⟨MT, MH, ML⟩ := M
  obtain ⟨q1, q2, q3, q4⟩ := XT.2.2.2.2 p hp
  obtain ⟨q5, q6, q7, q8⟩ := MT.2.2.2.2 p hp
  have hrel : ∀ a ∈ c.sl p, Rel c h a := fun a ha => Or.inl (T.1.2.2.2.2.2.1 p a ha).2
  have kx : ∀ (fu i : Nat) (s : Int32), i ≤ (c.sl p).length → (c.sl p).length - i < fu → x_leftOn_L4 (nI p) many slip left fu s (nI i) = some (sumL lf ((c.sl p).drop i) s) ∧ m_leftTo_L4 (nI p) w fu s (nI i) = some (sumL lf ((c.sl p).drop i) s) := by
    intro fu
    induction fu with
    | zero => intro i s _ h; omega
    | succ fu ih =>
      intro i s hi hf
      rw [x_leftOn_L4_s, m_leftTo_L4_s]
      simp (disch := omega) only [nI_lit, nI_add, pk_mul, nI_cl, ck_nI]
      rw [q1, q5]
      by_cases hc : (c.sl p).length ≤ i
      · rw [if_pos (N_le hc (by omega)), if_pos (N_le hc (by omega)), List.drop_eq_nil_of_le hc]; exact ⟨rfl, rfl⟩
      · have hil : i < (c.sl p).length := by omega
        rw [if_neg (N_nle hil (by omega)), if_neg (N_nle hil (by omega))]
        have hmem := List.getElem_mem hil
        have h8 := q4 _ hmem
        simp (disch := omega) only [nI_lit, nI_add, pk_mul, nI_cl, ck_nI]
        have := q7 i hil
        dsimp only at this
        rw [q3 i hil, this]
        simp (disch := omega) only [nI_lit, nI_add, pk_mul, nI_cl, ck_nI]
        have z1 := XL _ h8 (hrel _ hmem)
        have z2 := ML _ h8 (hrel _ hmem)
        dsimp only at z2
        rw [z1, z2, List.drop_eq_getElem_cons hil]
        exact ih (i + 1) _ (by omega) (by omega)
  obtain ⟨k1, k2⟩ := kx g_fuel 0 0 (by omega) (by unfold g_fuel; omega)
  unfold x_leftOn m_leftTo
  refine ⟨?_, ?_⟩
  · rw [show x_leftOn_L4 (nI p) many slip left g_fuel 0 0 = _ from k1, bnd_s]; rfl
  · rw [show m_leftTo_L4 (nI p) w g_fuel 0 0 = _ from k2, bnd_s]; rfl
end PREAD
