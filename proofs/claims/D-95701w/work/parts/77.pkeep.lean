/-! PURE LAW: what can be kept: by units against by batches -/
set_option maxRecDepth 100000
/-- of the set m the one that is due first (of those the first) -/
def Low (B : Bk) (m a : Nat) : Prop := a < B.ak ∧ m.testBit a = true ∧ ∀ b, b < B.ak → m.testBit b = true → B.du a < B.du b ∨ (B.du a = B.du b ∧ a ≤ b)
theorem Low.uniq {B : Bk} {m a b : Nat} (h1 : Low B m a) (h2 : Low B m b) : a = b := by
  have q1 := h1.2.2 b h2.1 h2.2.1
  have q2 := h2.2.2 a h1.1 h1.2.1
  omega
/-- n units, each on the one that is due first -/
def Un (B : Bk) : Nat → Nat → (Nat → Nat) → Nat → (Nat → Nat) → Prop
  | 0, m, R, m', R' => m' = m ∧ R' = R
  | n + 1, m, R, m', R' => (m = 0 ∧ m' = m ∧ R' = R) ∨ (∃ a, Low B m a ∧ Un B n (if R a = 1 then clrb m a else m) (va_up R a (R a - 1)) m' R')
theorem Un.zero {B : Bk} : ∀ {n : Nat} {R : Nat → Nat}, Un B n 0 R 0 R
  | 0, _ => ⟨rfl, rfl⟩
  | _ + 1, _ => Or.inl ⟨rfl, rfl, rfl⟩
theorem not_low0 {B : Bk} {a : Nat} (h : Low B 0 a) : False := by
  have := h.2.1
  rw [Nat.zero_testBit] at this; cases this
theorem Un.det {B : Bk} : ∀ {n m : Nat} {R : Nat → Nat} {m1 m2 : Nat} {R1 R2 : Nat → Nat}, Un B n m R m1 R1 → Un B n m R m2 R2 → m1 = m2 ∧ R1 = R2
  | 0, _, _, _, _, _, _, h1, h2 => ⟨h1.1.trans h2.1.symm, h1.2.trans h2.2.symm⟩
  | n + 1, _, _, _, _, _, _, h1, h2 => by
    rcases h1 with ⟨e, a1, a2⟩ | ⟨a, ha, h1⟩ <;> rcases h2 with ⟨e', b1, b2⟩ | ⟨b, hb, h2⟩
    · exact ⟨a1.trans b1.symm, a2.trans b2.symm⟩
    · subst e; exact (not_low0 hb).elim
    · subst e'; exact (not_low0 ha).elim
    · have := ha.uniq hb
      subst this
      exact Un.det h1 h2
/-- a batch on the one that is due first is so many units -/
theorem Un.many {B : Bk} {i : Nat} : ∀ (r l m : Nat) (R : Nat → Nat) {m' : Nat} {R' : Nat → Nat}, Low B m i → r ≤ R i → r ≤ l → 1 ≤ R i → Un B (l - r) (if r = R i then clrb m i else m) (va_up R i (R i - r)) m' R' → Un B l m R m' R'
  | 0, l, m, R, m', R', hl, h1, h2, h3, h => by
    rw [if_neg (by omega), Nat.sub_zero, Nat.sub_zero, vaup_id] at h
    exact h
  | r + 1, l, m, R, m', R', hl, h1, h2, h3, h => by
    obtain ⟨l, rfl⟩ : ∃ z, l = z + 1 := ⟨l - 1, by omega⟩
    refine Or.inr ⟨i, hl, ?_⟩
    by_cases e : R i = 1
    · rw [if_pos e]
      have er : r = 0 := by omega
      subst er
      rw [if_pos (by omega), show l + 1 - (0 + 1) = l by omega] at h
      rw [e] at h ⊢
      exact h
    · rw [if_neg e]
      refine Un.many r l m (va_up R i (R i - 1)) hl (by rw [va_up_self]; omega) (by omega) (by rw [va_up_self]; omega) ?_
      rw [va_up_self]
      have e2 : va_up (va_up R i (R i - 1)) i (R i - 1 - r) = va_up R i (R i - (r + 1)) := by
        funext j; unfold va_up; split
        · omega
        · rfl
      rw [e2, show l - r = l + 1 - (r + 1) by omega]
      by_cases q : r = R i - 1
      · rw [if_pos q]; rw [if_pos (by omega)] at h; exact h
      · rw [if_neg q]; rw [if_neg (by omega)] at h; exact h
/-- what is held on day d -/
def HK (B : Bk) (d m : Nat) (R : Nat → Nat) (rx : Nat → Int32) : Prop := m < 256 ∧ ∀ a, m.testBit a = true → a < B.ak ∧ d ≤ B.du a ∧ 1 ≤ R a ∧ R a ≤ 9 ∧ rx a = nI (R a)
section PKEEP
variable {B : Bk} {whom bday units worth due : Nat → Int32} {asked : Nat → Int32}
theorem nextDue_eq (hB : B.ok) (hdu : ∀ a, a < B.ak → due a = nI (B.du a)) {m : Nat} (hm : m < 256) (hmk : ∀ a, m.testBit a = true → a < B.ak) : (∃ a, Low B m a ∧ x_nextDue due (nI B.ak) (nI m) = some (nI a)) ∨ (m = 0 ∧ x_nextDue due (nI B.ak) (nI m) = some (-9)) := by
  have b2 := hB.2.1
  have key : ∀ (fu i : Nat), i ≤ B.ak → B.ak - i < fu →
      ((∀ b, b < i → m.testBit b = false) → (∃ a, Low B m a ∧ x_nextDue_L5 (nI m) due (nI B.ak) fu (-9) (nI i) = some (nI a)) ∨ ((∀ b, b < B.ak → m.testBit b = false) ∧ x_nextDue_L5 (nI m) due (nI B.ak) fu (-9) (nI i) = some (-9))) ∧
      (∀ g, g < i → m.testBit g = true → (∀ b, b < i → m.testBit b = true → B.du g < B.du b ∨ (B.du g = B.du b ∧ g ≤ b)) → ∃ a, Low B m a ∧ x_nextDue_L5 (nI m) due (nI B.ak) fu (nI g) (nI i) = some (nI a)) := by
    intro fu
    induction fu with
    | zero => intro i _ h; omega
    | succ fu ih =>
      intro i hi hf
      by_cases hc : B.ak ≤ i
      · refine ⟨fun q => Or.inr ⟨fun b hb => q b (by omega), ?_⟩, fun g hg h1 h2 => ⟨g, ⟨by omega, h1, fun b hb hb2 => h2 b (by omega) hb2⟩, ?_⟩⟩
        · rw [x_nextDue_L5_s, if_pos (N_le hc (by omega))]
        · rw [x_nextDue_L5_s, if_pos (N_le hc (by omega))]
      · have hi8 : i < 8 := by omega
        obtain ⟨I1, I2⟩ := ih (i + 1) (by omega) (by omega)
        have hst : ∀ f, x_nextDue_L5 (nI m) due (nI B.ak) (fu + 1) f (nI i) = if m.testBit i then (if f = -9 then x_nextDue_L5 (nI m) due (nI B.ak) fu (nI i) (nI (i + 1)) else ck f 8 (if due f.toNatClampNeg ≤ nI (B.du i) then x_nextDue_L5 (nI m) due (nI B.ak) fu f (nI (i + 1)) else x_nextDue_L5 (nI m) due (nI B.ak) fu (nI i) (nI (i + 1)))) else x_nextDue_L5 (nI m) due (nI B.ak) fu f (nI (i + 1)) := by
          intro f
          rw [x_nextDue_L5_s, if_neg (N_nle (by omega) (by omega)), bit_if hm hi8, show (nI i + 1 : Int32) = nI (i + 1) from nI_1 i]
          unfold ltv
          by_cases hb : m.testBit i = true
          · rw [if_pos hb, if_pos hb]
            dsimp only
            rw [if_pos (rfl : (1 : Int32) = 1), if_neg n10]
            simp (disch := omega) only [nI_cl, ck_nI]
            rw [hdu i (by omega)]
          · rw [if_neg hb, if_neg hb]
            dsimp only
            rw [if_neg (show ¬ (0 : Int32) = 1 by decide), if_pos rfl]
        have hd9 := (hB.2.2.2.1 i (by omega)).2.2.1
        refine ⟨fun q => ?_, fun g hg h1 h2 => ?_⟩
        · rw [hst]
          by_cases hb : m.testBit i = true
          · rw [if_pos hb, if_pos rfl]
            refine Or.inl (I2 i (by omega) hb (fun b hb1 hb2 => ?_))
            by_cases e : b = i
            · subst e; exact Or.inr ⟨rfl, Nat.le_refl _⟩
            · rw [q b (by omega)] at hb2; cases hb2
          · rw [if_neg hb]
            refine I1 (fun b hb1 => ?_)
            by_cases e : b = i
            · subst e; simpa using hb
            · exact q b (by omega)
        · have hd9g := (hB.2.2.2.1 g (by omega)).2.2.1
          rw [hst]
          by_cases hb : m.testBit i = true
          · rw [if_pos hb, if_neg (nI_m9 (by omega)), ck_nI (by omega) (by omega), nI_cl (by omega), hdu g (by omega)]
            by_cases e : B.du g ≤ B.du i
            · rw [if_pos (N_le e (by omega))]
              refine I2 g (by omega) h1 (fun b hb1 hb2 => ?_)
              by_cases e2 : b = i
              · subst e2; omega
              · exact h2 b (by omega) hb2
            · rw [if_neg (N_nle (by omega) (by omega))]
              refine I2 i (by omega) hb (fun b hb1 hb2 => ?_)
              by_cases e2 : b = i
              · subst e2; omega
              · have := h2 b (by omega) hb2; omega
          · rw [if_neg hb]
            refine I2 g (by omega) h1 (fun b hb1 hb2 => ?_)
            by_cases e2 : b = i
            · subst e2; exact absurd hb2 hb
            · exact h2 b (by omega) hb2
  unfold x_nextDue
  rcases (key g_fuel 0 (by omega) (by unfold g_fuel; omega)).1 (fun b hb => by omega) with ⟨a, h1, h2⟩ | ⟨h1, h2⟩
  · exact Or.inl ⟨a, h1, by rw [show x_nextDue_L5 (nI m) due (nI B.ak) g_fuel (-9) 0 = _ from h2, bnd_s]⟩
  · refine Or.inr ⟨ext8 m hm (fun b hb => ?_), by rw [show x_nextDue_L5 (nI m) due (nI B.ak) g_fuel (-9) 0 = _ from h2, bnd_s]⟩
    by_cases q : m.testBit b = true
    · rw [h1 b (hmk b q)] at q; cases q
    · simpa using q
/-- the class: unit by unit -/
theorem x_units_eq (hB : B.ok) (hdu : ∀ a, a < B.ak → due a = nI (B.du a)) (d wk : Nat) (hwk : wk < 200) : ∀ (n u fu m : Nat) (R : Nat → Nat) (rx : Nat → Int32), u + n = wk → n < fu → HK B d m R rx → ∃ m' R' rx', x_canKeep_L105 (nI wk) due (nI B.ak) fu (nI m) (nI u) rx = some (nI m', rx') ∧ Un B n m R m' R' ∧ HK B d m' R' rx' := by
  have b2 := hB.2.1
  intro n
  induction n with
  | zero =>
    intro u fu m R rx hu hf H
    obtain ⟨fu, rfl⟩ : ∃ z, fu = z + 1 := ⟨fu - 1, by omega⟩
    exact ⟨m, R, rx, by rw [x_canKeep_L105_s, if_pos (N_le (by omega) (by omega))], ⟨rfl, rfl⟩, H⟩
  | succ n ih =>
    intro u fu m R rx hu hf H
    obtain ⟨fu, rfl⟩ : ∃ z, fu = z + 1 := ⟨fu - 1, by omega⟩
    obtain ⟨hm, hH⟩ := id H
    rw [x_canKeep_L105_s, if_neg (N_nle (by omega) (by omega))]
    by_cases hz : m = 0
    · subst hz
      exact ⟨0, R, rx, by rw [if_pos (L_eq 0 rfl)], Or.inl ⟨rfl, rfl, rfl⟩, H⟩
    · rw [if_neg (L_ne 0 hz (by omega) (by omega))]
      rcases nextDue_eq hB hdu hm (fun a h => (hH a h).1) with ⟨a, hlow, hE⟩ | ⟨h0, -⟩
      rotate_left
      · exact absurd h0 hz
      obtain ⟨q1, q2, q3, q4, q5⟩ := hH a hlow.2.1
      have ha8 : a < 8 := by omega
      rw [hE, bnd_s, show (nI u + 1 : Int32) = nI (u + 1) from nI_1 u]
      simp (disch := omega) only [nI_cl, ck_nI]
      rw [upd_s, q5, show (nI (R a) - 1 : Int32) = nI (R a - 1) from nI_subN (b := 1) q3, clr_bit m hm a ha8, and_m1 m hm]
      by_cases e : R a = 1
      · rw [if_pos (L_eq 0 (by omega))]
        obtain ⟨m', R', rx', I1, I2, I3⟩ := ih (u + 1) fu (clrb m a) (va_up R a (R a - 1)) (upd rx a (nI (R a - 1))) (by omega) (by omega) ⟨clrb_lt m hm a ha8, fun b hb => by
          obtain ⟨z1, z2⟩ := (clrb_bit hm ha8 b).mp hb
          rw [va_up_ne _ _ z2, upd_n z2]; exact hH b z1⟩
        exact ⟨m', R', rx', I1, Or.inr ⟨a, hlow, by rw [if_pos e]; exact I2⟩, I3⟩
      · rw [if_neg (L_ne 0 (by omega) (by omega) (by omega))]
        obtain ⟨m', R', rx', I1, I2, I3⟩ := ih (u + 1) fu m (va_up R a (R a - 1)) (upd rx a (nI (R a - 1))) (by omega) (by omega) ⟨hm, fun b hb => by
          by_cases z2 : b = a
          · subst z2; rw [va_up_self, upd_s]; exact ⟨q1, q2, by omega, by omega, rfl⟩
          · rw [va_up_ne _ _ z2, upd_n z2]; exact hH b hb⟩
        exact ⟨m', R', rx', I1, Or.inr ⟨a, hlow, by rw [if_neg e]; exact I2⟩, I3⟩
/-- the model: by what is due, each as far as it goes -/
theorem m_batch_eq (hB : B.ok) (hmd : ∀ a, a < B.ak → asked (5 * a + 4) = nI (B.du a)) (d D : Nat) (hD : D < 10) : ∀ (n i fu m l : Nat) (R : Nat → Nat) (rm : Nat → Int32), i + n = B.ak → n < fu → l < 200 → HK B d m R rm → (l = 0 ∨ ∀ a, m.testBit a = true → D < B.du a ∨ (D = B.du a ∧ i ≤ a)) → ∃ m' l' R' rm', m_canKeep_L116 (nI D) (nI B.ak) asked fu (nI m) (nI l) (nI i) rm = some (nI m', nI l', rm') ∧ l' < 200 ∧ (∀ m2 R2, Un B l' m' R' m2 R2 → Un B l m R m2 R2) ∧ HK B d m' R' rm' ∧ (l' = 0 ∨ ∀ a, m'.testBit a = true → D < B.du a) := by
  have b2 := hB.2.1
  intro n
  induction n with
  | zero =>
    intro i fu m l R rm hi hf hl H hor
    obtain ⟨fu, rfl⟩ : ∃ z, fu = z + 1 := ⟨fu - 1, by omega⟩
    refine ⟨m, l, R, rm, by rw [m_canKeep_L116_s, if_pos (N_le (by omega) (by omega))], hl, fun _ _ h => h, H, ?_⟩
    rcases hor with q | q
    · exact Or.inl q
    · refine Or.inr (fun a ha => ?_)
      have := q a ha
      have := (H.2 a ha).1
      omega
  | succ n ih =>
    intro i fu m l R rm hi hf hl H hor
    obtain ⟨fu, rfl⟩ : ∃ z, fu = z + 1 := ⟨fu - 1, by omega⟩
    obtain ⟨hm, hH⟩ := id H
    have hi8 : i < 8 := by omega
    have hd9 := (hB.2.2.2.1 i (by omega)).2.2.1
    rw [m_canKeep_L116_s, if_neg (N_nle (by omega) (by omega)), has_eq hm hi8, bnd_s, show (nI i + 1 : Int32) = nI (i + 1) from nI_1 i, show (5 * nI i + 4 : Int32) = nI (5 * i + 4) by simp only [nI_lit, nI_add, pk_mul, nI_cl, nI_leI, nI_ltI, nI_eq, nI_subN]]
    have skip : (m.testBit i = true → B.du i ≠ D) → (l = 0 ∨ ∀ a, m.testBit a = true → D < B.du a ∨ (D = B.du a ∧ i + 1 ≤ a)) := by
      intro hne
      rcases hor with q | q
      · exact Or.inl q
      · refine Or.inr (fun a ha => ?_)
        by_cases e : a = i
        · subst e; have := q a ha; have := hne ha; omega
        · have := q a ha; omega
    by_cases hb : m.testBit i = true
    rotate_left
    · rw [if_neg hb, if_pos rfl]
      exact ih (i + 1) fu m l R rm (by omega) (by omega) hl H (skip (fun z => absurd z hb))
    rw [if_pos hb, if_neg n10]
    simp (disch := omega) only [nI_cl, ck_nI]
    rw [hmd i (by omega)]
    by_cases hdD : B.du i = D
    rotate_left
    · rw [if_neg (N_ne hdD (by omega) (by omega))]
      exact ih (i + 1) fu m l R rm (by omega) (by omega) hl H (skip (fun _ => hdD))
    rw [if_pos (by rw [hdD])]
    obtain ⟨q1, q2, q3, q4, q5⟩ := hH i hb
    have hles : m_lesser (nI l) (nI (R i)) = some (nI (min l (R i))) := by
      unfold m_lesser
      by_cases e : R i ≤ l
      · rw [if_pos (N_le e (by omega)), Nat.min_eq_right e]
      · rw [if_neg (N_nle (by omega) (by omega)), Nat.min_eq_left (by omega)]
    rw [q5, hles, bnd_s, upd_s, nI_subN (Nat.min_le_right _ _), nI_subN (Nat.min_le_left _ _), clr_bit m hm i hi8, and_m1 m hm]
    have hlow : l ≠ 0 → Low B m i := fun hl0 => ⟨q1, hb, fun b hb1 hb2 => by
      rcases hor with q | q
      · exact absurd q hl0
      · have := q b hb2; omega⟩
    by_cases e : R i ≤ l
    · rw [Nat.min_eq_right e, Nat.sub_self, if_pos (L_eq 0 rfl)]
      have H2 : HK B d (clrb m i) (va_up R i (R i - R i)) (upd rm i (nI 0)) := ⟨clrb_lt m hm i hi8, fun b hb' => by
        obtain ⟨z1, z2⟩ := (clrb_bit hm hi8 b).mp hb'
        rw [va_up_ne _ _ z2, upd_n z2]; exact hH b z1⟩
      obtain ⟨m', l', R', rm', I1, I2, I3, I4, I5⟩ := ih (i + 1) fu (clrb m i) (l - R i) _ _ (by omega) (by omega) (by omega) H2 (by
        rcases hor with q | q
        · exact Or.inl (by omega)
        · refine Or.inr (fun b hb' => ?_)
          obtain ⟨z1, z2⟩ := (clrb_bit hm hi8 b).mp hb'
          have := q b z1; omega)
      refine ⟨m', l', R', rm', I1, I2, fun m2 R2 h => ?_, I4, I5⟩
      have h9 := I3 m2 R2 h
      exact Un.many (R i) l m R (hlow (by omega)) (Nat.le_refl _) e q3 (by rw [if_pos rfl]; exact h9)
    · rw [Nat.min_eq_left (by omega), if_neg (L_ne 0 (by omega) (by omega) (by omega))]
      have H2 : HK B d m (va_up R i (R i - l)) (upd rm i (nI (R i - l))) := ⟨hm, fun b hb' => by
        by_cases z2 : b = i
        · subst z2; rw [va_up_self, upd_s]; exact ⟨q1, q2, by omega, by omega, rfl⟩
        · rw [va_up_ne _ _ z2, upd_n z2]; exact hH b hb'⟩
      obtain ⟨m', l', R', rm', I1, I2, I3, I4, I5⟩ := ih (i + 1) fu m (l - l) _ _ (by omega) (by omega) (by omega) H2 (Or.inl (by omega))
      refine ⟨m', l', R', rm', I1, I2, fun m2 R2 h => ?_, I4, I5⟩
      have h9 := I3 m2 R2 h
      by_cases hl0 : l = 0
      · subst hl0
        rw [Nat.sub_zero, Nat.sub_zero, vaup_id] at h9; exact h9
      · exact Un.many l l m R (hlow hl0) (by omega) (Nat.le_refl _) q3 (by rw [if_neg (by omega)]; exact h9)
theorem m_units_eq (hB : B.ok) (hmd : ∀ a, a < B.ak → asked (5 * a + 4) = nI (B.du a)) (d : Nat) : ∀ (n D fu m l : Nat) (R : Nat → Nat) (rm : Nat → Int32), D + n = 10 → n < fu → l < 200 → HK B d m R rm → (l = 0 ∨ ∀ a, m.testBit a = true → D ≤ B.du a) → ∃ m' R' rm', m_canKeep_L106 (nI B.ak) asked fu (nI m) (nI l) (nI D) rm = some (nI m', rm') ∧ Un B l m R m' R' ∧ HK B d m' R' rm' := by
  have b2 := hB.2.1
  intro n
  induction n with
  | zero =>
    intro D fu m l R rm hD hf hl H hor
    obtain ⟨fu, rfl⟩ : ∃ z, fu = z + 1 := ⟨fu - 1, by omega⟩
    refine ⟨m, R, rm, by rw [m_canKeep_L106_s, if_pos (L_le 10 (by omega) (by omega))], ?_, H⟩
    by_cases hl0 : l = 0
    · subst hl0; exact ⟨rfl, rfl⟩
    · have hm0 : m = 0 := ext8 m H.1 (fun b hb => by
        by_cases q : m.testBit b = true
        · have := (hor.resolve_left hl0) b q
          have h1 := (H.2 b q).1
          have := (hB.2.2.2.1 b h1).2.2.1
          omega
        · simpa using q)
      subst hm0; exact Un.zero
  | succ n ih =>
    intro D fu m l R rm hD hf hl H hor
    obtain ⟨fu, rfl⟩ : ∃ z, fu = z + 1 := ⟨fu - 1, by omega⟩
    rw [m_canKeep_L106_s, if_neg (L_nle 10 (by omega) (by omega)), show (nI D + 1 : Int32) = nI (D + 1) from nI_1 D]
    obtain ⟨m1, l1, R1, rm1, I1, I2, I3, I4, I5⟩ := m_batch_eq hB hmd d D (by omega) B.ak 0 g_fuel m l R rm (by omega) (by unfold g_fuel; omega) hl H (hor.elim Or.inl (fun q => Or.inr (fun a ha => by have := q a ha; omega)))
    rw [show m_canKeep_L116 (nI D) (nI B.ak) asked g_fuel (nI m) (nI l) 0 rm = _ from I1, bnd3_s]
    obtain ⟨m', R', rm', J1, J2, J3⟩ := ih (D + 1) fu m1 l1 R1 rm1 (by omega) (by omega) I2 I4 (I5.elim Or.inl (fun q => Or.inr (fun a ha => by have := q a ha; omega)))
    exact ⟨m', R', rm', J1, I3 _ _ J2, J3⟩
end PKEEP
