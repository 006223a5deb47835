/-! PURE LAW: day, first what may be worked on -/
theorem bitI {u b : Nat} (hu : u < 2 ^ 31) (hb : b < 8) : (nI u >>> (nI b &&& 31)) &&& 1 = nI (u / 2 ^ b % 2) := by
  have h1 : nI u >>> (nI b &&& 31) = nI (u / 2 ^ b) := by
    match b, hb with
    | 0, _ => exact pk_shrN hu _ 0 rfl
    | 1, _ => exact pk_shrN hu _ 1 rfl
    | 2, _ => exact pk_shrN hu _ 2 rfl
    | 3, _ => exact pk_shrN hu _ 3 rfl
    | 4, _ => exact pk_shrN hu _ 4 rfl
    | 5, _ => exact pk_shrN hu _ 5 rfl
    | 6, _ => exact pk_shrN hu _ 6 rfl
    | 7, _ => exact pk_shrN hu _ 7 rfl
  have h2 : u / 2 ^ b < 2 ^ 32 := by
    have := Nat.div_le_self u (2 ^ b)
    omega
  rw [h1, pk_andN h2 1 rfl]
theorem bit_tb {u b : Nat} : (u / 2 ^ b % 2 = 1 ↔ u.testBit b = true) := by
  rw [Nat.testBit_eq_decide_div_mod_eq]; simp
def Fr (B : Bk) (c : Core) (a : Nat) : Prop := ∀ b, (a, b) ∈ B.hg → c.fate b = 2
section PDAY1
variable {B : Bk} {c : Core} {work worth under : Nat → Int32} {asked hung : Nat → Int32}
variable {many : Nat → Int32} {slip : Nat → Nat → Int32} {became left : Nat → Int32} {day won lost : Int32} {w : Nat → Int32}
theorem x_may (hB : B.ok) (hU : ∀ a, a < B.ak → ∃ u : Nat, under a = nI u ∧ u < 256 ∧ ∀ b, u.testBit b = decide ((a, b) ∈ B.hg)) (ho : c.ok B) (hb : ∀ a, a < 8 → became a = nI (c.fate a)) {a : Nat} (ha : a < B.ak) : (Fr B c a → x_mayWork under (nI B.ak) became (nI a) = some 1) ∧ (¬ Fr B c a → x_mayWork under (nI B.ak) became (nI a) = some 0) := by
  have b2 := hB.2.1
  obtain ⟨u, u1, u2, u3⟩ := hU a ha
  have k0 : ∀ (fu i : Nat), i ≤ B.ak → B.ak - i < fu → x_mayWork_L4 (nI a) under (nI B.ak) became fu 0 (nI i) = some 0 := by
    intro fu
    induction fu with
    | zero => intro i _ h; omega
    | succ fu ih =>
      intro i hi hf
      rw [x_mayWork_L4_s]
      by_cases hc : B.ak ≤ i
      · rw [if_pos (N_le hc (by omega))]
      · rw [if_neg (N_nle (by omega) (by omega)), if_pos rfl, show (nI i + 1 : Int32) = nI (i + 1) from nI_1 i]
        exact ih (i + 1) (by omega) (by omega)
  have key : ∀ (fu i : Nat), i ≤ B.ak → B.ak - i < fu → ((∀ b, i ≤ b → b < B.ak → (a, b) ∈ B.hg → c.fate b = 2) → x_mayWork_L4 (nI a) under (nI B.ak) became fu 1 (nI i) = some 1) ∧ ((¬ ∀ b, i ≤ b → b < B.ak → (a, b) ∈ B.hg → c.fate b = 2) → x_mayWork_L4 (nI a) under (nI B.ak) became fu 1 (nI i) = some 0) := by
    intro fu
    induction fu with
    | zero => intro i _ h; omega
    | succ fu ih =>
      intro i hi hf
      rw [x_mayWork_L4_s]
      by_cases hc : B.ak ≤ i
      · rw [if_pos (N_le hc (by omega))]
        exact ⟨fun _ => rfl, fun q => absurd (fun b h1 h2 => by omega) q⟩
      · rw [if_neg (N_nle (by omega) (by omega)), if_neg n10, show (nI i + 1 : Int32) = nI (i + 1) from nI_1 i]
        simp (disch := omega) only [nI_cl, ck_nI]
        rw [u1, bitI (by omega) (by omega)]
        obtain ⟨I1, I2⟩ := ih (i + 1) (by omega) (by omega)
        have hf3 := ho.2.1 i
        by_cases hbit : u / 2 ^ i % 2 = 1
        · have hin : (a, i) ∈ B.hg := by
            have := u3 i
            rw [bit_tb.mp hbit] at this
            exact of_decide_eq_true this.symm
          rw [if_neg (by rw [hbit]; decide), hb i (by omega)]
          by_cases hf2 : c.fate i = 2
          · rw [if_pos (L_eq 2 hf2)]
            refine ⟨fun q => I1 (fun b h1 h2 => q b (by omega) h2), fun q => I2 (fun q2 => q (fun b h1 h2 h3 => ?_))⟩
            by_cases e : b = i
            · rw [e]; exact hf2
            · exact q2 b (by omega) h2 h3
          · rw [if_neg (L_ne 2 hf2 (by omega) (by omega))]
            exact ⟨fun q => absurd (q i (Nat.le_refl _) (by omega) hin) hf2, fun _ => k0 fu (i + 1) (by omega) (by omega)⟩
        · have hb0 : u / 2 ^ i % 2 = 0 := by omega
          have hnin : (a, i) ∉ B.hg := by
            intro z
            have := u3 i
            rw [decide_eq_true z] at this
            exact hbit (bit_tb.mpr this)
          rw [if_pos (by rw [hb0]; rfl)]
          refine ⟨fun q => I1 (fun b h1 h2 => q b (by omega) h2), fun q => I2 (fun q2 => q (fun b h1 h2 h3 => ?_))⟩
          by_cases e : b = i
          · rw [e] at h3; exact absurd h3 hnin
          · exact q2 b (by omega) h2 h3
  obtain ⟨K1, K2⟩ := key g_fuel 0 (by omega) (by unfold g_fuel; omega)
  have heq : (∀ b, 0 ≤ b → b < B.ak → (a, b) ∈ B.hg → c.fate b = 2) ↔ Fr B c a := ⟨fun q b h => q b (by omega) (hB.2.2.2.2.2 _ h).2.1 h, fun q b _ _ h => q b h⟩
  unfold x_mayWork
  refine ⟨fun q => ?_, fun q => ?_⟩
  · have := K1 (heq.mpr q)
    rw [show x_mayWork_L4 (nI a) under (nI B.ak) became g_fuel 1 0 = some 1 from this, bnd_s, ckz_in (Or.inr rfl)]
  · have := K2 (fun z => q (heq.mp z))
    rw [show x_mayWork_L4 (nI a) under (nI B.ak) became g_fuel 1 0 = some 0 from this, bnd_s, ckz_in (Or.inl rfl)]
theorem m_may (hB : B.ok) (hH : ∀ k, (h : k < B.hg.length) → hung (2 * k) = nI B.hg[k].1 ∧ hung (2 * k + 1) = nI B.hg[k].2) (ho : c.ok B) (hb : ∀ a, a < 8 → w (3 + a) = nI (c.fate a)) {a : Nat} (ha : a < B.ak) : (Fr B c a → m_isFree w (nI B.hg.length) hung (nI a) = some 1) ∧ (¬ Fr B c a → m_isFree w (nI B.hg.length) hung (nI a) = some 0) := by
  have b2 := hB.2.1
  have b5 := hB.2.2.2.2.1
  have k0 : ∀ (fu i : Nat), i ≤ B.hg.length → B.hg.length - i < fu → m_isFree_L4 (nI a) w (nI B.hg.length) hung fu 0 (nI i) = some 0 := by
    intro fu
    induction fu with
    | zero => intro i _ h; omega
    | succ fu ih =>
      intro i hi hf
      rw [m_isFree_L4_s]
      by_cases hc : B.hg.length ≤ i
      · rw [if_pos (N_le hc (by omega))]
      · rw [if_neg (N_nle (by omega) (by omega)), if_pos rfl, show (nI i + 1 : Int32) = nI (i + 1) from nI_1 i]
        exact ih (i + 1) (by omega) (by omega)
  have key : ∀ (fu i : Nat), i ≤ B.hg.length → B.hg.length - i < fu → ((∀ k, (h : k < B.hg.length) → i ≤ k → B.hg[k].1 = a → c.fate B.hg[k].2 = 2) → m_isFree_L4 (nI a) w (nI B.hg.length) hung fu 1 (nI i) = some 1) ∧ ((¬ ∀ k, (h : k < B.hg.length) → i ≤ k → B.hg[k].1 = a → c.fate B.hg[k].2 = 2) → m_isFree_L4 (nI a) w (nI B.hg.length) hung fu 1 (nI i) = some 0) := by
    intro fu
    induction fu with
    | zero => intro i _ h; omega
    | succ fu ih =>
      intro i hi hf
      rw [m_isFree_L4_s]
      by_cases hc : B.hg.length ≤ i
      · rw [if_pos (N_le hc (by omega))]
        exact ⟨fun _ => rfl, fun q => absurd (fun k h1 h2 => by omega) q⟩
      · have hil : i < B.hg.length := by omega
        obtain ⟨q1, q2, -⟩ := hB.2.2.2.2.2 _ (List.getElem_mem hil)
        obtain ⟨v1, v2⟩ := hH i hil
        have hf3 := ho.2.1 B.hg[i].2
        rw [if_neg (N_nle (by omega) (by omega)), if_neg n10, show (nI i + 1 : Int32) = nI (i + 1) from nI_1 i]
        have e1 : (2 * nI i : Int32) = nI (2 * i) := pk_mul 2 i
        have e2 : (nI (2 * i) + 1 : Int32) = nI (2 * i + 1) := nI_1 _
        rw [e1, e2]
        simp (disch := omega) only [nI_cl, ck_nI]
        rw [v1, v2]
        have e3 : (3 + nI B.hg[i].2 : Int32) = nI (3 + B.hg[i].2) := nI_add 3 _
        rw [e3]
        simp (disch := omega) only [nI_cl, ck_nI]
        rw [hb _ (by omega)]
        obtain ⟨I1, I2⟩ := ih (i + 1) (by omega) (by omega)
        by_cases hea : B.hg[i].1 = a
        · rw [if_pos (by rw [hea])]
          by_cases hf2 : c.fate B.hg[i].2 = 2
          · rw [if_pos (L_eq 2 hf2)]
            refine ⟨fun q => I1 (fun k h1 h2 => q k h1 (by omega)), fun q => I2 (fun q2 => q (fun k h1 h2 h3 => ?_))⟩
            by_cases e : k = i
            · subst e; exact hf2
            · exact q2 k h1 (by omega) h3
          · rw [if_neg (L_ne 2 hf2 (by omega) (by omega))]
            exact ⟨fun q => absurd (q i hil (Nat.le_refl _) hea) hf2, fun _ => k0 fu (i + 1) (by omega) (by omega)⟩
        · rw [if_neg (N_ne hea (by omega) (by omega))]
          refine ⟨fun q => I1 (fun k h1 h2 => q k h1 (by omega)), fun q => I2 (fun q2 => q (fun k h1 h2 h3 => ?_))⟩
          by_cases e : k = i
          · subst e; exact absurd h3 hea
          · exact q2 k h1 (by omega) h3
  obtain ⟨K1, K2⟩ := key g_fuel 0 (by omega) (by unfold g_fuel; omega)
  have heq : (∀ k, (h : k < B.hg.length) → 0 ≤ k → B.hg[k].1 = a → c.fate B.hg[k].2 = 2) ↔ Fr B c a := by
    refine ⟨fun q b h => ?_, fun q k h _ e => ?_⟩
    · obtain ⟨k, hk, e⟩ := List.getElem_of_mem h
      have := q k hk (by omega) (by rw [e])
      rw [e] at this; exact this
    · apply q
      rw [← e]; exact List.getElem_mem h
  unfold m_isFree
  refine ⟨fun q => ?_, fun q => ?_⟩
  · have := K1 (heq.mpr q)
    rw [show m_isFree_L4 (nI a) w (nI B.hg.length) hung g_fuel 1 0 = some 1 from this, bnd_s, ckz_in (Or.inr rfl)]
  · have := K2 (fun z => q (heq.mp z))
    rw [show m_isFree_L4 (nI a) w (nI B.hg.length) hung g_fuel 1 0 = some 0 from this, bnd_s, ckz_in (Or.inl rfl)]
theorem first_eq (hB : B.ok) (hU : ∀ a, a < B.ak → ∃ u : Nat, under a = nI u ∧ u < 256 ∧ ∀ b, u.testBit b = decide ((a, b) ∈ B.hg)) (hH : ∀ k, (h : k < B.hg.length) → hung (2 * k) = nI B.hg[k].1 ∧ hung (2 * k + 1) = nI B.hg[k].2) (ho : c.ok B) (XT : XTown c many slip became day won lost) (MT : MTown c w) {p : Nat} (hp : p < 4) : ((∀ a ∈ c.sl p, ¬ Fr B c a) ∧ x_firstOf under (nI B.ak) many slip became p = some (-9) ∧ m_firstFree w (nI B.hg.length) hung (nI p) = some (-9)) ∨ (∃ i, ∃ h : i < (c.sl p).length, x_firstOf under (nI B.ak) many slip became p = some (nI i) ∧ m_firstFree w (nI B.hg.length) hung (nI p) = some (nI (c.sl p)[i])) := by
  obtain ⟨q1, q2, q3, q4⟩ := XT.2.2.2.2 p hp
  obtain ⟨q5, q6, q7, q8⟩ := MT.2.2.2.2 p hp
  have key : ∀ (fu i : Nat), i ≤ (c.sl p).length → (c.sl p).length - i < fu → ((∀ a ∈ (c.sl p).drop i, ¬ Fr B c a) ∧ x_firstOf_L2 under (nI B.ak) many slip became p fu (nI i) = some (.inr ()) ∧ m_firstFree_L2 (nI p) w (nI B.hg.length) hung fu (nI i) = some (.inr ())) ∨ (∃ j, ∃ h : j < (c.sl p).length, x_firstOf_L2 under (nI B.ak) many slip became p fu (nI i) = some (.inl (nI j)) ∧ m_firstFree_L2 (nI p) w (nI B.hg.length) hung fu (nI i) = some (.inl (nI (c.sl p)[j]))) := by
    intro fu
    induction fu with
    | zero => intro i _ h; omega
    | succ fu ih =>
      intro i hi hf
      rw [x_firstOf_L2_s, m_firstFree_L2_s]
      have e1 : (19 + nI p : Int32) = nI (19 + p) := nI_add 19 p
      have e2 : (23 + 5 * nI p + nI i : Int32) = nI (23 + 5 * p + i) := by
        simp only [nI_lit, nI_add, pk_mul]
      rw [e1, e2, show (nI i + 1 : Int32) = nI (i + 1) from nI_1 i]
      simp (disch := omega) only [nI_cl, ck_nI]
      rw [q1, q5]
      by_cases hc : (c.sl p).length ≤ i
      · rw [if_pos (N_le hc (by omega)), if_pos (N_le hc (by omega)), List.drop_eq_nil_of_le hc]
        exact Or.inl ⟨(fun a h => by cases h), rfl, rfl⟩
      · have hil : i < (c.sl p).length := by omega
        rw [if_neg (N_nle hil (by omega)), if_neg (N_nle hil (by omega))]
        simp (disch := omega) only [nI_cl, ck_nI]
        have h7 := q7 i hil
        dsimp only at h7
        rw [q3 i hil, h7]
        have hmem := List.getElem_mem hil
        have hak := (ho.2.2.2.2.2.1 p _ hmem).1
        obtain ⟨A1, A2⟩ := x_may hB hU ho XT.2.2.2.1 hak
        obtain ⟨A3, A4⟩ := m_may (w := w) hB hH ho MT.2.2.2.1 hak
        by_cases hfr : Fr B c (c.sl p)[i]
        · rw [A1 hfr, A3 hfr, bnd_s, bnd_s, if_neg n10, if_neg n10]
          exact Or.inr ⟨i, hil, rfl, rfl⟩
        · rw [A2 hfr, A4 hfr, bnd_s, bnd_s, if_pos rfl, if_pos rfl]
          rcases ih (i + 1) (by omega) (by omega) with ⟨z1, z2, z3⟩ | z
          · refine Or.inl ⟨fun a h => ?_, z2, z3⟩
            rw [List.drop_eq_getElem_cons hil] at h
            rcases List.mem_cons.mp h with e | e
            · rw [e]; exact hfr
            · exact z1 a e
          · exact Or.inr z
  unfold x_firstOf m_firstFree
  rcases key g_fuel 0 (by omega) (by unfold g_fuel; omega) with ⟨z1, z2, z3⟩ | ⟨j, hj, z2, z3⟩
  · rw [List.drop_zero] at z1
    exact Or.inl ⟨z1, by rw [show x_firstOf_L2 under (nI B.ak) many slip became p g_fuel 0 = _ from z2]; rfl, by rw [show m_firstFree_L2 (nI p) w (nI B.hg.length) hung g_fuel 0 = _ from z3]; rfl⟩
  · exact Or.inr ⟨j, hj, by rw [show x_firstOf_L2 under (nI B.ak) many slip became p g_fuel 0 = _ from z2]; rfl, by rw [show m_firstFree_L2 (nI p) w (nI B.hg.length) hung g_fuel 0 = _ from z3]; rfl⟩
end PDAY1
