/-! PURE LAW: canKeep, take, bound -/
set_option maxRecDepth 100000
section PKEEP2
variable {B : Bk} {room work whom bday units worth due : Nat → Int32} {mroom mwork asked : Nat → Int32} {w : Nat → Int32}
theorem arrive_eq (hB : B.ok) (hX : ∀ a, a < B.ak → bday a = nI (B.bd a) ∧ units a = nI (B.un a)) (hM : ∀ a, a < B.ak → asked (5 * a + 1) = nI (B.bd a) ∧ asked (5 * a + 2) = nI (B.un a)) {S d : Nat} (hS : S < 256) (hd : d ≤ 10) : ∀ (n i fu fu' m : Nat) (R : Nat → Nat) (rx rm : Nat → Int32), i + n = B.ak → n < fu → n < fu' → HK B d m R rx → HK B d m R rm → ∃ m' R' rx' rm', x_canKeep_L22 (nI S) (nI d) bday units (nI B.ak) fu (nI m) (nI i) rx = some (nI m', rx') ∧ m_canKeep_L21 (nI S) (nI d) (nI B.ak) asked fu' (nI m) (nI i) rm = some (nI m', rm') ∧ HK B d m' R' rx' ∧ HK B d m' R' rm' := by
  have b2 := hB.2.1
  intro n
  induction n with
  | zero =>
    intro i fu fu' m R rx rm hi hf hf' H1 H2
    obtain ⟨fu, rfl⟩ : ∃ z, fu = z + 1 := ⟨fu - 1, by omega⟩
    obtain ⟨fu', rfl⟩ : ∃ z, fu' = z + 1 := ⟨fu' - 1, by omega⟩
    exact ⟨m, R, rx, rm, by rw [x_canKeep_L22_s, if_pos (N_le (by omega) (by omega))], by rw [m_canKeep_L21_s, if_pos (N_le (by omega) (by omega))], H1, H2⟩
  | succ n ih =>
    intro i fu fu' m R rx rm hi hf hf' H1 H2
    obtain ⟨fu, rfl⟩ : ∃ z, fu = z + 1 := ⟨fu - 1, by omega⟩
    obtain ⟨fu', rfl⟩ : ∃ z, fu' = z + 1 := ⟨fu' - 1, by omega⟩
    have hi8 : i < 8 := by omega
    obtain ⟨x1, x2⟩ := hX i (by omega)
    obtain ⟨y1, y2⟩ := hM i (by omega)
    obtain ⟨-, c2, c3, c4, c5, -, -⟩ := hB.2.2.2.1 i (by omega)
    rw [x_canKeep_L22_s, m_canKeep_L21_s, if_neg (N_nle (by omega) (by omega)), if_neg (N_nle (by omega) (by omega)), has_eq hS hi8, bit_if hS hi8, bnd_s, show (nI i + 1 : Int32) = nI (i + 1) from nI_1 i, show (5 * nI i + 1 : Int32) = nI (5 * i + 1) by simp only [nI_lit, nI_add, pk_mul, nI_cl, nI_leI, nI_ltI, nI_eq, nI_subN], show (5 * nI i + 2 : Int32) = nI (5 * i + 2) by simp only [nI_lit, nI_add, pk_mul, nI_cl, nI_leI, nI_ltI, nI_eq, nI_subN]]
    by_cases hb : S.testBit i = true
    rotate_left
    · rw [if_neg hb, if_neg (show ¬ (0 : Int32) = 1 by decide), if_pos rfl]
      exact ih (i + 1) fu fu' m R rx rm (by omega) (by omega) (by omega) H1 H2
    rw [if_pos hb, if_pos rfl, if_neg n10]
    simp (disch := omega) only [nI_cl, ck_nI]
    rw [x1, y1, x2, y2]
    by_cases hbd : B.bd i = d
    rotate_left
    · rw [if_neg (N_ne hbd (by omega) (by omega)), if_neg (N_ne hbd (by omega) (by omega))]
      exact ih (i + 1) fu fu' m R rx rm (by omega) (by omega) (by omega) H1 H2
    rw [if_pos (by rw [hbd]), if_pos (by rw [hbd]), or_bit m H1.1 i hi8]
    have st : ∀ r, HK B d m R r → HK B d (setb m i) (va_up R i (B.un i)) (upd r i (nI (B.un i))) := fun r H => ⟨setb_lt m H.1 i hi8, fun b hb' => by
      by_cases e : b = i
      · subst e; rw [va_up_self, upd_s]; exact ⟨by omega, by omega, c4, c5, rfl⟩
      · rw [setb_bit] at hb'
        have : m.testBit b = true := by simpa [e] using hb'
        rw [va_up_ne _ _ e, upd_n e]; exact H.2 b this⟩
    exact ih (i + 1) fu fu' (setb m i) _ _ _ (by omega) (by omega) (by omega) (st rx H1) (st rm H2)
theorem late_eq (hB : B.ok) (hM : ∀ a, a < B.ak → asked (5 * a + 4) = nI (B.du a)) {m d : Nat} (hm : m < 256) (hd : d ≤ 10) (rest : Nat → Int32) : ∀ (n i fu : Nat), i + n = B.ak → n < fu → ((∃ a, i ≤ a ∧ a < B.ak ∧ m.testBit a = true ∧ B.du a = d) → m_canKeep_L224 (nI m) (nI d) (nI B.ak) asked rest fu (nI i) = some (.inl (0, rest))) ∧ ((¬ ∃ a, i ≤ a ∧ a < B.ak ∧ m.testBit a = true ∧ B.du a = d) → m_canKeep_L224 (nI m) (nI d) (nI B.ak) asked rest fu (nI i) = some (.inr ())) := by
  have b2 := hB.2.1
  intro n
  induction n with
  | zero =>
    intro i fu hi hf
    obtain ⟨fu, rfl⟩ : ∃ z, fu = z + 1 := ⟨fu - 1, by omega⟩
    rw [m_canKeep_L224_s, if_pos (N_le (by omega) (by omega))]
    exact ⟨fun ⟨a, h1, h2, _⟩ => by omega, fun _ => rfl⟩
  | succ n ih =>
    intro i fu hi hf
    obtain ⟨fu, rfl⟩ : ∃ z, fu = z + 1 := ⟨fu - 1, by omega⟩
    have hi8 : i < 8 := by omega
    have hd9 := (hB.2.2.2.1 i (by omega)).2.2.1
    obtain ⟨I1, I2⟩ := ih (i + 1) fu (by omega) (by omega)
    rw [m_canKeep_L224_s, if_neg (N_nle (by omega) (by omega)), has_eq hm hi8, bnd_s, show (nI i + 1 : Int32) = nI (i + 1) from nI_1 i, show (5 * nI i + 4 : Int32) = nI (5 * i + 4) by simp only [nI_lit, nI_add, pk_mul, nI_cl, nI_leI, nI_ltI, nI_eq, nI_subN]]
    have mv : ¬ (m.testBit i = true ∧ B.du i = d) → ((∃ a, i ≤ a ∧ a < B.ak ∧ m.testBit a = true ∧ B.du a = d) ↔ ∃ a, i + 1 ≤ a ∧ a < B.ak ∧ m.testBit a = true ∧ B.du a = d) := by
      intro hn
      constructor
      · rintro ⟨a, h1, h2, h3, h4⟩
        refine ⟨a, ?_, h2, h3, h4⟩
        by_cases e : a = i
        · subst e; exact absurd ⟨h3, h4⟩ hn
        · omega
      · rintro ⟨a, h1, h2, h3, h4⟩
        exact ⟨a, by omega, h2, h3, h4⟩
    by_cases hb : m.testBit i = true
    rotate_left
    · rw [if_neg hb, if_pos rfl, mv (fun z => hb z.1)]; exact ⟨I1, I2⟩
    rw [if_pos hb, if_neg n10]
    simp (disch := omega) only [nI_cl, ck_nI]
    rw [hM i (by omega)]
    by_cases hdd : B.du i = d
    · rw [if_pos (by rw [hdd])]
      exact ⟨fun _ => rfl, fun q => absurd ⟨i, Nat.le_refl _, by omega, hb, hdd⟩ q⟩
    · rw [if_neg (N_ne hdd (by omega) (by omega)), mv (fun z => hdd z.2)]; exact ⟨I1, I2⟩
theorem HK.next {d m : Nat} {R : Nat → Nat} {r : Nat → Int32} (H : HK B d m R r) (h : ∀ a, m.testBit a = true → B.du a ≠ d) : HK B (d + 1) m R r :=
  ⟨H.1, fun a ha => by have := H.2 a ha; have := h a ha; exact ⟨by omega, by omega, by omega, by omega, (H.2 a ha).2.2.2.2⟩⟩
theorem can_loop (hB : B.ok) (hX : ∀ a, a < B.ak → bday a = nI (B.bd a) ∧ units a = nI (B.un a)) (hdu : ∀ a, a < B.ak → due a = nI (B.du a)) (hM : ∀ a, a < B.ak → asked (5 * a + 1) = nI (B.bd a) ∧ asked (5 * a + 2) = nI (B.un a)) (hmd : ∀ a, a < B.ak → asked (5 * a + 4) = nI (B.du a)) {S wk : Nat} (hS : S < 256) (hwk : wk < 200) (rr : Int32) : ∀ (n d fu fu' m : Nat) (R : Nat → Nat) (rx rm : Nat → Int32), d + n = 10 → n < fu → n < fu' → HK B d m R rx → HK B d m R rm → (∃ rx' rm', x_canKeep_L12 (nI S) rr (nI wk) bday units due (nI B.ak) fu (nI m) (nI d) rx = some (.inl (0, rx')) ∧ m_canKeep_L11 (nI S) rr (nI wk) (nI B.ak) asked fu' (nI m) (nI d) rm = some (.inl (0, rm'))) ∨ (∃ rx' rm', x_canKeep_L12 (nI S) rr (nI wk) bday units due (nI B.ak) fu (nI m) (nI d) rx = some (.inr (nI 0, rx')) ∧ m_canKeep_L11 (nI S) rr (nI wk) (nI B.ak) asked fu' (nI m) (nI d) rm = some (.inr rm')) := by
  have b2 := hB.2.1
  intro n
  induction n with
  | zero =>
    intro d fu fu' m R rx rm hd hf hf' H1 H2
    obtain ⟨fu, rfl⟩ : ∃ z, fu = z + 1 := ⟨fu - 1, by omega⟩
    obtain ⟨fu', rfl⟩ : ∃ z, fu' = z + 1 := ⟨fu' - 1, by omega⟩
    have hm0 : m = 0 := ext8 m H1.1 (fun b hb => by
      by_cases q : m.testBit b = true
      · have := H1.2 b q
        have := (hB.2.2.2.1 b this.1).2.2.1
        omega
      · simpa using q)
    subst hm0
    exact Or.inr ⟨rx, rm, by rw [x_canKeep_L12_s, if_pos (show (9 : Int32) < nI d from (nI_ltI (a := 9) (by omega) (by omega)).mpr (by omega))], by rw [m_canKeep_L11_s, if_pos (L_le 10 (by omega) (by omega))]⟩
  | succ n ih =>
    intro d fu fu' m R rx rm hd hf hf' H1 H2
    obtain ⟨fu, rfl⟩ : ∃ z, fu = z + 1 := ⟨fu - 1, by omega⟩
    obtain ⟨fu', rfl⟩ : ∃ z, fu' = z + 1 := ⟨fu' - 1, by omega⟩
    rw [x_canKeep_L12_s, m_canKeep_L11_s, if_neg (show ¬ (9 : Int32) < nI d from fun z => absurd ((nI_ltI (a := 9) (by omega) (by omega)).mp z) (by omega)), if_neg (L_nle 10 (by omega) (by omega)), show (nI d + 1 : Int32) = nI (d + 1) from nI_1 d]
    obtain ⟨m1, R1, rx1, rm1, A1, A2, A3, A4⟩ := arrive_eq hB hX hM hS (d := d) (by omega) B.ak 0 g_fuel g_fuel m R rx rm (by omega) (by unfold g_fuel; omega) (by unfold g_fuel; omega) H1 H2
    rw [show x_canKeep_L22 (nI S) (nI d) bday units (nI B.ak) g_fuel (nI m) 0 rx = _ from A1, bnd2_s, show m_canKeep_L21 (nI S) (nI d) (nI B.ak) asked g_fuel (nI m) 0 rm = _ from A2, bnd2_s, ones_eq m1 A3.1]
    obtain ⟨r, hr⟩ : ∃ r, j_bitCount (nI m1) = some r := ⟨_, rfl⟩
    rw [hr, bnd_s, bnd_s]
    by_cases hro : r ≤ rr
    rotate_left
    · rw [if_neg hro, if_neg hro]
      exact Or.inl ⟨rx1, rm1, rfl, rfl⟩
    rw [if_pos hro, if_pos hro]
    obtain ⟨m2, R2, rx2, U1, U2, U3⟩ := x_units_eq hB hdu d wk hwk wk 0 g_fuel m1 R1 rx1 (by omega) (by unfold g_fuel; omega) A3
    obtain ⟨m3, R3, rm3, V1, V2, V3⟩ := m_units_eq hB hmd d n.succ d g_fuel m1 wk R1 rm1 (by omega) (by unfold g_fuel; omega) hwk A4 (Or.inr (fun a ha => (A4.2 a ha).2.1))
    obtain ⟨e1, e2⟩ := Un.det U2 V2
    subst e1; subst e2
    rw [show x_canKeep_L105 (nI wk) due (nI B.ak) g_fuel (nI m1) 0 rx1 = _ from U1, bnd2_s, V1, bnd2_s]
    obtain ⟨L1, L2⟩ := late_eq hB hmd U3.1 (d := d) (by omega) rm3 B.ak 0 g_fuel (by omega) (by unfold g_fuel; omega)
    rcases nextDue_eq hB hdu U3.1 (fun a h => (U3.2 a h).1) with ⟨a, hlow, hE⟩ | ⟨h0, hE⟩
    · obtain ⟨q1, q2, q3, q4, q5⟩ := U3.2 a hlow.2.1
      have hd9 := (hB.2.2.2.1 a q1).2.2.1
      rw [hE, bnd_s, if_neg (nI_m9 (by omega))]
      simp (disch := omega) only [nI_cl, ck_nI]
      rw [hdu a q1]
      by_cases hdd : B.du a = d
      · rw [if_neg (fun z => absurd ((nI_ltI (by omega) (by omega)).mp z) (by omega)), show m_canKeep_L224 (nI m2) (nI d) (nI B.ak) asked rm3 g_fuel 0 = _ from L1 ⟨a, by omega, q1, hlow.2.1, hdd⟩]
        exact Or.inl ⟨rx2, rm3, rfl, rfl⟩
      · have hno : ∀ b, m2.testBit b = true → B.du b ≠ d := fun b hb z => by
          have := hlow.2.2 b (U3.2 b hb).1 hb; omega
        rw [if_pos ((nI_ltI (by omega) (by omega)).mpr (by omega)), show m_canKeep_L224 (nI m2) (nI d) (nI B.ak) asked rm3 g_fuel 0 = _ from L2 (fun ⟨b, _, _, h3, h4⟩ => hno b h3 h4)]
        exact ih (d + 1) fu fu' m2 R2 rx2 rm3 (by omega) (by omega) (by omega) (U3.next hno) (V3.next hno)
    · have hno : ∀ b, m2.testBit b = true → B.du b ≠ d := fun b hb => by
        rw [h0, Nat.zero_testBit] at hb; cases hb
      rw [hE, bnd_s, if_pos rfl, show m_canKeep_L224 (nI m2) (nI d) (nI B.ak) asked rm3 g_fuel 0 = _ from L2 (fun ⟨b, _, _, h3, h4⟩ => hno b h3 h4)]
      exact ih (d + 1) fu fu' m2 R2 rx2 rm3 (by omega) (by omega) (by omega) (U3.next hno) (V3.next hno)
theorem can_eq (hB : B.ok) (hX : ∀ a, a < B.ak → bday a = nI (B.bd a) ∧ units a = nI (B.un a)) (hdu : ∀ a, a < B.ak → due a = nI (B.du a)) (hM : ∀ a, a < B.ak → asked (5 * a + 1) = nI (B.bd a) ∧ asked (5 * a + 2) = nI (B.un a)) (hmd : ∀ a, a < B.ak → asked (5 * a + 4) = nI (B.du a)) {S wk dd : Nat} (hS : S < 256) (hwk : wk < 200) (hdd : dd ≤ 10) (hw0 : w 0 = nI dd) (rr : Int32) (rx rm : Nat → Int32) : ∃ b rx' rm', x_canKeep bday units due (nI B.ak) (nI dd) rx (nI S) rr (nI wk) = some (b, rx') ∧ m_canKeep w (nI B.ak) asked rm (nI S) rr (nI wk) = some (b, rm') := by
  have H0 : ∀ r, HK B dd 0 (fun _ => 0) r := fun r => ⟨by decide, fun a ha => by rw [Nat.zero_testBit] at ha; cases ha⟩
  unfold x_canKeep m_canKeep
  rw [show w (0 : Int32).toNatClampNeg = nI dd from hw0]
  rcases can_loop hB hX hdu hM hmd hS hwk rr (10 - dd) dd g_fuel g_fuel 0 _ rx rm (by omega) (by unfold g_fuel; omega) (by unfold g_fuel; omega) (H0 rx) (H0 rm) with ⟨rx', rm', h1, h2⟩ | ⟨rx', rm', h1, h2⟩
  · exact ⟨0, rx', rm', by rw [show x_canKeep_L12 (nI S) rr (nI wk) bday units due (nI B.ak) g_fuel 0 (nI dd) rx = _ from h1]; rfl, by rw [show m_canKeep_L11 (nI S) rr (nI wk) (nI B.ak) asked g_fuel 0 (nI dd) rm = _ from h2]; rfl⟩
  · exact ⟨1, rx', rm', by rw [show x_canKeep_L12 (nI S) rr (nI wk) bday units due (nI B.ak) g_fuel 0 (nI dd) rx = _ from h1]; rfl, by rw [show m_canKeep_L11 (nI S) rr (nI wk) (nI B.ak) asked g_fuel 0 (nI dd) rm = _ from h2]; rfl⟩
/-- nothing can always be kept -/
theorem can_zero (hB : B.ok) {r wk dd : Nat} (hr : r < 200) (hwk : wk < 200) (hw1 : 1 ≤ wk) (hdd : dd ≤ 10) (rx : Nat → Int32) : x_canKeep bday units due (nI B.ak) (nI dd) rx (nI 0) (nI r) (nI wk) = some (1, rx) := by
  have b2 := hB.2.1
  have a0 : ∀ (n i fu : Nat) (d : Int32), i + n = B.ak → n < fu → x_canKeep_L22 (nI 0) d bday units (nI B.ak) fu (nI 0) (nI i) rx = some (nI 0, rx) := by
    intro n
    induction n with
    | zero =>
      intro i fu d hi hf
      obtain ⟨fu, rfl⟩ : ∃ z, fu = z + 1 := ⟨fu - 1, by omega⟩
      rw [x_canKeep_L22_s, if_pos (N_le (by omega) (by omega))]
    | succ n ih =>
      intro i fu d hi hf
      obtain ⟨fu, rfl⟩ : ∃ z, fu = z + 1 := ⟨fu - 1, by omega⟩
      rw [x_canKeep_L22_s, if_neg (N_nle (by omega) (by omega)), bit_if (by decide) (by omega), Nat.zero_testBit, if_neg (by decide), show (nI i + 1 : Int32) = nI (i + 1) from nI_1 i]
      exact ih (i + 1) fu d (by omega) (by omega)
  have n0 : x_nextDue due (nI B.ak) (nI 0) = some (-9) := by
    have : ∀ (n i fu : Nat), i + n = B.ak → n < fu → x_nextDue_L5 (nI 0) due (nI B.ak) fu (-9) (nI i) = some (-9) := by
      intro n
      induction n with
      | zero =>
        intro i fu hi hf
        obtain ⟨fu, rfl⟩ : ∃ z, fu = z + 1 := ⟨fu - 1, by omega⟩
        rw [x_nextDue_L5_s, if_pos (N_le (by omega) (by omega))]
      | succ n ih =>
        intro i fu hi hf
        obtain ⟨fu, rfl⟩ : ∃ z, fu = z + 1 := ⟨fu - 1, by omega⟩
        rw [x_nextDue_L5_s, if_neg (N_nle (by omega) (by omega)), bit_if (by decide) (by omega), Nat.zero_testBit, show (nI i + 1 : Int32) = nI (i + 1) from nI_1 i]
        exact ih (i + 1) fu (by omega) (by omega)
    unfold x_nextDue
    rw [show x_nextDue_L5 (nI 0) due (nI B.ak) g_fuel (-9) 0 = _ from this B.ak 0 g_fuel (by omega) (by unfold g_fuel; omega), bnd_s]
  have lp : ∀ (n d fu : Nat), d + n = 10 → n < fu → x_canKeep_L12 (nI 0) (nI r) (nI wk) bday units due (nI B.ak) fu (nI 0) (nI d) rx = some (.inr (nI 0, rx)) := by
    intro n
    induction n with
    | zero =>
      intro d fu hd hf
      obtain ⟨fu, rfl⟩ : ∃ z, fu = z + 1 := ⟨fu - 1, by omega⟩
      rw [x_canKeep_L12_s, if_pos (show (9 : Int32) < nI d from (nI_ltI (a := 9) (by omega) (by omega)).mpr (by omega))]
    | succ n ih =>
      intro d fu hd hf
      obtain ⟨fu, rfl⟩ : ∃ z, fu = z + 1 := ⟨fu - 1, by omega⟩
      rw [x_canKeep_L12_s, if_neg (show ¬ (9 : Int32) < nI d from fun z => absurd ((nI_ltI (a := 9) (by omega) (by omega)).mp z) (by omega)), show x_canKeep_L22 (nI 0) (nI d) bday units (nI B.ak) g_fuel (nI 0) 0 rx = _ from a0 B.ak 0 g_fuel (nI d) (by omega) (by unfold g_fuel; omega), bnd2_s, show j_bitCount (nI 0) = some (nI 0) by decide +kernel, bnd_s, if_pos (N_le (by omega) (by omega))]
      have hu : x_canKeep_L105 (nI wk) due (nI B.ak) g_fuel (nI 0) 0 rx = some (nI 0, rx) := by
        show x_canKeep_L105 (nI wk) due (nI B.ak) (999 + 1) (nI 0) (nI 0) rx = _
        rw [x_canKeep_L105_s, if_neg (N_nle (by omega) (by omega)), if_pos (L_eq 0 rfl)]
      rw [hu, bnd2_s, n0, bnd_s, if_pos rfl, show (nI d + 1 : Int32) = nI (d + 1) from nI_1 d]
      exact ih (d + 1) fu (by omega) (by omega)
  unfold x_canKeep
  rw [show x_canKeep_L12 (nI 0) (nI r) (nI wk) bday units due (nI B.ak) g_fuel 0 (nI dd) rx = _ from lp (10 - dd) dd g_fuel (by omega) (by unfold g_fuel; omega)]
  rfl
theorem worth_eq (hB : B.ok) (hX : ∀ a, a < B.ak → worth a = nI (B.wo a)) (hM : ∀ a, a < B.ak → asked (5 * a + 3) = nI (B.wo a)) {S : Nat} (hS : S < 256) : ∃ v, x_bestFor_L90 (nI S) worth (nI B.ak) g_fuel 0 0 = some v ∧ m_worthOf (nI B.ak) asked (nI S) = some v ∧ (S = 0 → v = 0) := by
  have b2 := hB.2.1
  have key : ∀ (n i fu fu' : Nat) (s : Int32), i + n = B.ak → n < fu → n < fu' → ∃ v, x_bestFor_L90 (nI S) worth (nI B.ak) fu s (nI i) = some v ∧ m_worthOf_L4 (nI S) (nI B.ak) asked fu' s (nI i) = some v ∧ (S = 0 → v = s) := by
    intro n
    induction n with
    | zero =>
      intro i fu fu' s hi hf hf'
      obtain ⟨fu, rfl⟩ : ∃ z, fu = z + 1 := ⟨fu - 1, by omega⟩
      obtain ⟨fu', rfl⟩ : ∃ z, fu' = z + 1 := ⟨fu' - 1, by omega⟩
      exact ⟨s, by rw [x_bestFor_L90_s, if_pos (N_le (by omega) (by omega))], by rw [m_worthOf_L4_s, if_pos (N_le (by omega) (by omega))], fun _ => rfl⟩
    | succ n ih =>
      intro i fu fu' s hi hf hf'
      obtain ⟨fu, rfl⟩ : ∃ z, fu = z + 1 := ⟨fu - 1, by omega⟩
      obtain ⟨fu', rfl⟩ : ∃ z, fu' = z + 1 := ⟨fu' - 1, by omega⟩
      have hi8 : i < 8 := by omega
      rw [x_bestFor_L90_s, m_worthOf_L4_s, if_neg (N_nle (by omega) (by omega)), if_neg (N_nle (by omega) (by omega)), has_eq hS hi8, bit_if hS hi8, bnd_s, show (nI i + 1 : Int32) = nI (i + 1) from nI_1 i, show (5 * nI i + 3 : Int32) = nI (5 * i + 3) by simp only [nI_lit, nI_add, pk_mul, nI_cl, nI_leI, nI_ltI, nI_eq, nI_subN]]
      simp (disch := omega) only [nI_cl, ck_nI]
      rw [hX i (by omega), hM i (by omega)]
      by_cases hb : S.testBit i = true
      · rw [if_pos hb, if_neg n10, Int32.one_mul]
        obtain ⟨v, h1, h2, h3⟩ := ih (i + 1) fu fu' (s + nI (B.wo i)) (by omega) (by omega) (by omega)
        exact ⟨v, h1, h2, fun z => by rw [z, Nat.zero_testBit] at hb; cases hb⟩
      · rw [if_neg hb, if_pos rfl, Int32.zero_mul, Int32.add_zero]
        exact ih (i + 1) fu fu' s (by omega) (by omega) (by omega)
  obtain ⟨v, h1, h2, h3⟩ := key B.ak 0 g_fuel g_fuel 0 (by omega) (by unfold g_fuel; omega) (by unfold g_fuel; omega)
  exact ⟨v, h1, by unfold m_worthOf; rw [show m_worthOf_L4 (nI S) (nI B.ak) asked g_fuel 0 0 = _ from h2, bnd_s], h3⟩
theorem his_eq (hB : B.ok) (hX : ∀ a, a < B.ak → whom a = nI (B.wh a) ∧ bday a = nI (B.bd a)) (hM : ∀ a, a < B.ak → asked (5 * a) = nI (B.wh a) ∧ asked (5 * a + 1) = nI (B.bd a)) {dd : Nat} (hw0 : w 0 = nI dd) (p : Int32) : ∃ H, H < 256 ∧ x_bestFor_L6 p whom bday (nI B.ak) (nI dd) g_fuel 0 0 = some (nI H) ∧ m_bestOf_L6 p w (nI B.ak) asked g_fuel 0 0 = some (nI H) := by
  have b2 := hB.2.1
  have key : ∀ (n i fu fu' m : Nat), m < 256 → i + n = B.ak → n < fu → n < fu' → ∃ H, H < 256 ∧ x_bestFor_L6 p whom bday (nI B.ak) (nI dd) fu (nI m) (nI i) = some (nI H) ∧ m_bestOf_L6 p w (nI B.ak) asked fu' (nI m) (nI i) = some (nI H) := by
    intro n
    induction n with
    | zero =>
      intro i fu fu' m hm hi hf hf'
      obtain ⟨fu, rfl⟩ : ∃ z, fu = z + 1 := ⟨fu - 1, by omega⟩
      obtain ⟨fu', rfl⟩ : ∃ z, fu' = z + 1 := ⟨fu' - 1, by omega⟩
      exact ⟨m, hm, by rw [x_bestFor_L6_s, if_pos (N_le (by omega) (by omega))], by rw [m_bestOf_L6_s, if_pos (N_le (by omega) (by omega))]⟩
    | succ n ih =>
      intro i fu fu' m hm hi hf hf'
      obtain ⟨fu, rfl⟩ : ∃ z, fu = z + 1 := ⟨fu - 1, by omega⟩
      obtain ⟨fu', rfl⟩ : ∃ z, fu' = z + 1 := ⟨fu' - 1, by omega⟩
      have hi8 : i < 8 := by omega
      obtain ⟨x1, x2⟩ := hX i (by omega)
      obtain ⟨y1, y2⟩ := hM i (by omega)
      rw [x_bestFor_L6_s, m_bestOf_L6_s, if_neg (N_nle (by omega) (by omega)), if_neg (N_nle (by omega) (by omega)), show (nI i + 1 : Int32) = nI (i + 1) from nI_1 i, show (5 * nI i + 1 : Int32) = nI (5 * i + 1) by simp only [nI_lit, nI_add, pk_mul, nI_cl, nI_leI, nI_ltI, nI_eq, nI_subN], show (5 * nI i : Int32) = nI (5 * i) from pk_mul 5 i]
      simp (disch := omega) only [nI_cl, ck_nI]
      rw [x1, x2, y1, y2, show w (0 : Int32).toNatClampNeg = nI dd from hw0, Int32.or_zero, or_bit m hm i hi8]
      split
      · split
        · exact ih (i + 1) fu fu' m hm (by omega) (by omega) (by omega)
        · exact ih (i + 1) fu fu' (setb m i) (setb_lt m hm i hi8) (by omega) (by omega) (by omega)
      · exact ih (i + 1) fu fu' m hm (by omega) (by omega) (by omega)
  exact key B.ak 0 g_fuel g_fuel 0 (by decide) (by omega) (by unfold g_fuel; omega) (by unfold g_fuel; omega)
theorem best_eq (hB : B.ok) (RX2 : ∀ a, a < B.ak → whom a = nI (B.wh a) ∧ bday a = nI (B.bd a) ∧ units a = nI (B.un a) ∧ worth a = nI (B.wo a) ∧ due a = nI (B.du a)) (RM2 : ∀ a, a < B.ak → asked (5 * a) = nI (B.wh a) ∧ asked (5 * a + 1) = nI (B.bd a) ∧ asked (5 * a + 2) = nI (B.un a) ∧ asked (5 * a + 3) = nI (B.wo a) ∧ asked (5 * a + 4) = nI (B.du a)) {r wk dd : Nat} (hr : r < 200) (hwk : wk < 200) (hw1 : 1 ≤ wk) (hdd : dd ≤ 10) (hw0 : w 0 = nI dd) (p : Int32) (rx rm : Nat → Int32) (bs : Int32) : ∃ v b rx' rm', x_bestFor whom bday units worth due (nI B.ak) (nI dd) rx bs p (nI r) (nI wk) = some (v, rx', b) ∧ m_bestOf w (nI B.ak) asked rm p (nI r) (nI wk) = some (b, rm') ∧ m_worthOf (nI B.ak) asked b = some v := by
  have hw : ∀ {S : Nat}, S < 256 → ∃ v, x_bestFor_L90 (nI S) worth (nI B.ak) g_fuel 0 0 = some v ∧ m_worthOf (nI B.ak) asked (nI S) = some v ∧ (S = 0 → v = 0) := fun hS => worth_eq hB (fun a ha => (RX2 a ha).2.2.2.1) (fun a ha => (RM2 a ha).2.2.2.1) hS
  have hcan : ∀ {S : Nat}, S < 256 → ∀ rx rm, ∃ b rx' rm', x_canKeep bday units due (nI B.ak) (nI dd) rx (nI S) (nI r) (nI wk) = some (b, rx') ∧ m_canKeep w (nI B.ak) asked rm (nI S) (nI r) (nI wk) = some (b, rm') := fun hS rx rm => can_eq hB (fun a ha => ⟨(RX2 a ha).2.1, (RX2 a ha).2.2.1⟩) (fun a ha => (RX2 a ha).2.2.2.2) (fun a ha => ⟨(RM2 a ha).2.1, (RM2 a ha).2.2.1⟩) (fun a ha => (RM2 a ha).2.2.2.2) hS hwk hdd hw0 (nI r) rx rm
  obtain ⟨H, hH, h1, h2⟩ := his_eq (w := w) hB (fun a ha => ⟨(RX2 a ha).1, (RX2 a ha).2.1⟩) (fun a ha => ⟨(RM2 a ha).1, (RM2 a ha).2.1⟩) hw0 p
  have lp : ∀ (n s fu fu' b : Nat) (v : Int32) (rx rm : Nat → Int32), b < 256 → m_worthOf (nI B.ak) asked (nI b) = some v → s + n = H + 1 → n < fu → n < fu' → ∃ v' b' rx' rm', x_bestFor_L77 (nI r) (nI wk) (nI H) bday units worth due (nI B.ak) (nI dd) fu v (nI s) rx (nI b) = some (v', rx', b') ∧ m_bestOf_L73 (nI r) (nI wk) (nI H) w (nI B.ak) asked fu' (nI b) (nI s) rm = some (b', rm') ∧ m_worthOf (nI B.ak) asked b' = some v' := by
    intro n
    induction n with
    | zero =>
      intro s fu fu' b v rx rm hb hv hs hf hf'
      obtain ⟨fu, rfl⟩ : ∃ z, fu = z + 1 := ⟨fu - 1, by omega⟩
      obtain ⟨fu', rfl⟩ : ∃ z, fu' = z + 1 := ⟨fu' - 1, by omega⟩
      rw [x_bestFor_L77_s, m_bestOf_L73_s, if_pos ((nI_ltI (by omega) (by omega)).mpr (by omega)), if_pos ((nI_ltI (by omega) (by omega)).mpr (by omega))]
      exact ⟨v, nI b, rx, rm, rfl, rfl, hv⟩
    | succ n ih =>
      intro s fu fu' b v rx rm hb hv hs hf hf'
      obtain ⟨fu, rfl⟩ : ∃ z, fu = z + 1 := ⟨fu - 1, by omega⟩
      obtain ⟨fu', rfl⟩ : ∃ z, fu' = z + 1 := ⟨fu' - 1, by omega⟩
      obtain ⟨vs, g1, g2, -⟩ := hw (S := s) (by omega)
      rw [x_bestFor_L77_s, m_bestOf_L73_s, if_neg (fun z => absurd ((nI_ltI (by omega) (by omega)).mp z) (by omega)), if_neg (fun z => absurd ((nI_ltI (by omega) (by omega)).mp z) (by omega)), g1, bnd_s, g2, bnd_s, hv, bnd_s, show (nI s + 1 : Int32) = nI (s + 1) from nI_1 s]
      by_cases hin : nI s &&& (nI H ^^^ -1) = 0
      rotate_left
      · rw [if_neg hin, if_neg hin]
        exact ih (s + 1) fu fu' b v rx rm hb hv (by omega) (by omega) (by omega)
      rw [if_pos hin, if_pos hin]
      by_cases hle : vs ≤ v
      · rw [if_pos hle, if_pos hle]
        exact ih (s + 1) fu fu' b v rx rm hb hv (by omega) (by omega) (by omega)
      rw [if_neg hle, if_neg hle]
      obtain ⟨k, rx', rm', k1, k2⟩ := hcan (S := s) (by omega) rx rm
      rw [k1, k2, bnd2_s, bnd2_s]
      by_cases hk : k = 0
      · rw [if_pos hk, if_pos hk]
        exact ih (s + 1) fu fu' b v rx' rm' hb hv (by omega) (by omega) (by omega)
      · rw [if_neg hk, if_neg hk]
        exact ih (s + 1) fu fu' s vs rx' rm' (by omega) g2 (by omega) (by omega) (by omega)
  unfold x_bestFor m_bestOf
  rw [h1, h2, bnd_s, bnd_s]
  obtain ⟨v0, g1, g2, g3⟩ := hw (S := 0) (by decide)
  have g3 := g3 rfl
  subst g3
  have hfirst : x_bestFor_L77 (nI r) (nI wk) (nI H) bday units worth due (nI B.ak) (nI dd) g_fuel (-1) 0 rx bs = x_bestFor_L77 (nI r) (nI wk) (nI H) bday units worth due (nI B.ak) (nI dd) 999 0 (nI 1) rx (nI 0) := by
    show x_bestFor_L77 (nI r) (nI wk) (nI H) bday units worth due (nI B.ak) (nI dd) (999 + 1) (-1) (nI 0) rx bs = _
    rw [x_bestFor_L77_s, if_neg (fun z => absurd ((nI_ltI (by omega) (by omega)).mp z) (by omega)), g1, bnd_s, if_pos (show nI 0 &&& (nI H ^^^ -1) = 0 from Int32.zero_and), if_neg (by decide), can_zero hB hr hwk hw1 hdd rx, bnd2_s, if_neg n10]
    rfl
  obtain ⟨v', b', rx', rm', l1, l2, l3⟩ := lp H 1 999 g_fuel 0 0 rx rm (by decide) g2 (by omega) (by omega) (by unfold g_fuel; omega)
  refine ⟨v', b', rx', rm', ?_, ?_, l3⟩
  · rw [hfirst, l1, bnd3_s]
  · rw [show m_bestOf_L73 (nI r) (nI wk) (nI H) w (nI B.ak) asked g_fuel 0 1 rm = _ from l2, bnd2_s]
theorem P_take (hB : B.ok) {price under : Nat → Int32} {people askings hangs mpe mak mhg : Int32} {mprice hung : Nat → Int32} (RX : RBX B room work price whom bday units worth due under people askings hangs) (RM : RBM B mpe mroom mwork mprice mak asked mhg hung) {day : Int32} {dd : Nat} (hdd : dd ≤ 10) (hday : day = nI dd) (hw0 : w 0 = nI dd) (rx rm : Nat → Int32) (bs v u : Int32) : ∃ r rx' b' rm', x_take room work whom bday units worth due people askings day rx bs v u = some (r, rx', b') ∧ m_take w mpe mroom mwork mak asked rm v u = some (r, rm') := by
  obtain ⟨rfl, rfl, rfl, RX1, RX2, -⟩ := RX
  obtain ⟨rfl, rfl, rfl, RM1, RM2, -⟩ := RM
  subst hday
  have b1 := hB.1
  unfold x_take m_take
  rcases isA_cases (v := v) (Nat.le_trans b1 (by decide)) with ⟨p, hp, rfl, -, -, e3, e4⟩ | ⟨-, -, -, e3, e4⟩
  rotate_left
  · exact ⟨-1, _, _, _, by rw [e3, bnd_s, if_pos rfl], by rw [e4, bnd_s, if_pos rfl]⟩
  rw [e3, e4, bnd_s, bnd_s, if_neg n10, if_neg n10, show m_in u.toInt64 0 1 = x_in u 0 1 from m_in_eq u 0 1]
  rcases in01 u 0 1 with z | z
  · exact ⟨-1, _, _, _, by rw [z, bnd_s, if_pos rfl], by rw [z, bnd_s, if_pos rfl]⟩
  rw [z, bnd_s, bnd_s, if_neg n10, if_neg n10]
  simp (disch := omega) only [nI_cl, ck_nI]
  obtain ⟨q1, q2, -⟩ := RX1 p hp
  obtain ⟨q4, q5, -⟩ := RM1 p hp
  obtain ⟨c1, c2, c3, c4, -⟩ := hB.2.2.1 p hp
  rw [q1, q2, q4, q5]
  obtain ⟨v', b', rx', rm', l1, l2, l3⟩ := best_eq (w := w) hB RX2 RM2 (r := B.rm p) (wk := B.wk p) (by omega) (by omega) c3 hdd hw0 (nI p) rx rm bs
  rw [l1, l2, bnd3_s, bnd2_s, l3, bnd_s]
  split
  · exact ⟨_, _, _, _, rfl, rfl⟩
  · exact ⟨_, _, _, _, rfl, rfl⟩
theorem P_bound (hB : B.ok) {price under : Nat → Int32} {people askings hangs mpe mak mhg : Int32} {mprice hung : Nat → Int32} (RX : RBX B room work price whom bday units worth due under people askings hangs) (RM : RBM B mpe mroom mwork mprice mak asked mhg hung) {day : Int32} {dd : Nat} (hdd : dd ≤ 10) (hday : day = nI dd) (hw0 : w 0 = nI dd) (rx rm : Nat → Int32) (bs v u : Int32) : ∃ r rx' b' rm', x_bound room work whom bday units worth due people askings day rx bs v u = some (r, rx', b') ∧ m_bound w mpe mroom mwork mak asked rm v u = some (r, rm') := by
  obtain ⟨rfl, rfl, rfl, RX1, RX2, -⟩ := RX
  obtain ⟨rfl, rfl, rfl, RM1, RM2, -⟩ := RM
  subst hday
  have b1 := hB.1
  unfold x_bound m_bound
  rcases isA_cases (v := v) (Nat.le_trans b1 (by decide)) with ⟨p, hp, rfl, -, -, e3, e4⟩ | ⟨-, -, -, e3, e4⟩
  rotate_left
  · exact ⟨-1, _, _, _, by rw [e3, bnd_s, if_pos rfl], by rw [e4, bnd_s, if_pos rfl]⟩
  rw [e3, e4, bnd_s, bnd_s, if_neg n10, if_neg n10, show m_in u.toInt64 0 1 = x_in u 0 1 from m_in_eq u 0 1]
  rcases in01 u 0 1 with z | z
  · exact ⟨-1, _, _, _, by rw [z, bnd_s, if_pos rfl], by rw [z, bnd_s, if_pos rfl]⟩
  rw [z, bnd_s, bnd_s, if_neg n10, if_neg n10]
  simp (disch := omega) only [nI_cl, ck_nI]
  obtain ⟨q1, q2, -⟩ := RX1 p hp
  obtain ⟨q4, q5, -⟩ := RM1 p hp
  obtain ⟨c1, c2, c3, c4, -⟩ := hB.2.2.1 p hp
  rw [q1, q2, q4, q5]
  by_cases hu : u = 0
  · rw [if_pos hu, if_pos hu]
    obtain ⟨v', b', rx', rm', l1, l2, l3⟩ := best_eq (w := w) hB RX2 RM2 (r := 8) (wk := B.wk p) (by omega) (by omega) c3 hdd hw0 (nI p) rx rm bs
    have l1' : x_bestFor whom bday units worth due (nI B.ak) (nI dd) rx bs (nI p) 8 (nI (B.wk p)) = _ := l1
    have l2' : m_bestOf w (nI B.ak) asked rm (nI p) 8 (nI (B.wk p)) = _ := l2
    rw [l1', l2', bnd3_s, bnd2_s, bnd2_s, l3, bnd_s]
    exact ⟨_, _, _, _, rfl, rfl⟩
  · rw [if_neg hu, if_neg hu]
    obtain ⟨v', b', rx', rm', l1, l2, l3⟩ := best_eq (w := w) hB RX2 RM2 (r := B.rm p) (wk := 99) (by omega) (by omega) (by omega) hdd hw0 (nI p) rx rm bs
    have l1' : x_bestFor whom bday units worth due (nI B.ak) (nI dd) rx bs (nI p) (nI (B.rm p)) 99 = _ := l1
    have l2' : m_bestOf w (nI B.ak) asked rm (nI p) (nI (B.rm p)) 99 = _ := l2
    rw [l1', l2', bnd3_s, bnd2_s, bnd2_s, l3, bnd_s]
    exact ⟨_, _, _, _, rfl, rfl⟩
end PKEEP2
