/-! PURE LAW: ring, order, fewest -/
set_option maxRecDepth 100000
theorem pw_le : ∀ k, k < 9 → 2 ^ k ≤ 256 := by decide
section PRNG2
variable {B : Bk} {under : Nat → Int32} {hung : Nat → Int32}
/-- the two for one set S: the class's number in order, the model's those left -/
theorem set_eq (hB : B.ok) (hU : ∀ a, a < B.ak → ∃ u : Nat, under a = nI u ∧ u < 256 ∧ ∀ b, u.testBit b = decide ((a, b) ∈ B.hg)) (hH : ∀ k, (h : k < B.hg.length) → hung (2 * k) = nI B.hg[k].1 ∧ hung (2 * k + 1) = nI B.hg[k].2) {S : Nat} (hS : S < 2 ^ B.ak) (row : Nat → Int32) : ∃ l C row' G, x_inOrder under (nI B.ak) row (nI S) = some (nI l.length, row') ∧ Rch B S l C ∧ (∀ j, (h : j < l.length) → row' j = nI l[j]) ∧ l.length ≤ B.ak ∧ G < 256 ∧ m_leftOf (nI B.hg.length) hung (nI ((2 ^ B.ak - 1) &&& (255 ^^^ S))) = some (nI G) ∧ (G = 0 ↔ cnt B.ak C = 0) ∧ (cnt B.ak C = 0 ↔ l.length = B.ak - pc S) ∧ pc S ≤ B.ak := by
  have b2 := hB.2.1
  have h256 := pw_le B.ak (by omega)
  obtain ⟨l, C, row', h1, h2, h3, h4, h5⟩ := inOrder_eq hB hU (S := S) (by omega) row
  obtain ⟨G, g1, g2, g3, g4⟩ := leftOf_eq hB hH (M := (2 ^ B.ak - 1) &&& (255 ^^^ S)) (andn_lt (by omega))
  have hpc := cnt_pc B.ak (by omega) S hS
  refine ⟨l, C, row', G, h1, h2, h5, by omega, g1, g2, good_eq hB hS h2 h3 g1 g3 g4, by omega, by omega⟩
theorem allA (hB : B.ok) : m_allAskings (nI B.ak) = some (nI (2 ^ B.ak - 1)) := by
  unfold m_allAskings
  rw [pow_k B.ak (by have := hB.2.1; omega), show (1 : Int32) = nI 1 from rfl, nI_subN (Nat.two_pow_pos _)]
theorem ring_val (hB : B.ok) (hU : ∀ a, a < B.ak → ∃ u : Nat, under a = nI u ∧ u < 256 ∧ ∀ b, u.testBit b = decide ((a, b) ∈ B.hg)) (hH : ∀ k, (h : k < B.hg.length) → hung (2 * k) = nI B.hg[k].1 ∧ hung (2 * k + 1) = nI B.hg[k].2) (row : Nat → Int32) : ∃ l C row', x_inOrder under (nI B.ak) row 0 = some (nI l.length, row') ∧ Rch B 0 l C ∧ (∀ j, (h : j < l.length) → row' j = nI l[j]) ∧ l.length ≤ B.ak ∧ m_ring (nI B.ak) (nI B.hg.length) hung = some (if l.length = B.ak then 0 else 1) := by
  have b2 := hB.2.1
  have h256 := pw_le B.ak (by omega)
  obtain ⟨l, C, row', G, h1, h2, h3, h4, h5, h6, h7, h8, h9⟩ := set_eq hB hU hH (S := 0) (Nat.two_pow_pos _) row
  refine ⟨l, C, row', h1, h2, h3, h4, ?_⟩
  unfold m_ring
  have e0 : (2 ^ B.ak - 1) &&& (255 ^^^ 0) = 2 ^ B.ak - 1 := by
    apply Nat.eq_of_testBit_eq
    intro i
    by_cases q : (2 ^ B.ak - 1).testBit i = true
    · rw [q]; exact (andn_bit (by omega)).mpr ⟨q, Nat.zero_testBit i⟩
    · have : ¬ ((2 ^ B.ak - 1) &&& (255 ^^^ 0)).testBit i = true := fun z => q ((andn_bit (by omega)).mp z).1
      simp only [Bool.not_eq_true] at this q
      rw [this, q]
  rw [e0] at h6
  rw [allA hB, bnd_s, h6, bnd_s]
  have hp0 : pc 0 = 0 := by decide
  by_cases e : l.length = B.ak
  · rw [if_pos e, if_pos (L_eq 0 (h7.mpr (h8.mpr (by omega))))]
  · rw [if_neg e, if_neg (L_ne 0 (fun z => e (by have := h8.mp (h7.mp z); omega)) (by omega) (by omega))]
theorem P_ring (hB : B.ok) (hU : ∀ a, a < B.ak → ∃ u : Nat, under a = nI u ∧ u < 256 ∧ ∀ b, u.testBit b = decide ((a, b) ∈ B.hg)) (hH : ∀ k, (h : k < B.hg.length) → hung (2 * k) = nI B.hg[k].1 ∧ hung (2 * k + 1) = nI B.hg[k].2) (row : Nat → Int32) : ∃ r row', x_ring under (nI B.ak) row = some (r, row') ∧ m_ring (nI B.ak) (nI B.hg.length) hung = some r := by
  have b2 := hB.2.1
  obtain ⟨l, C, row', h1, -, -, h4, h5⟩ := ring_val hB hU hH row
  refine ⟨_, row', ?_, h5⟩
  unfold x_ring
  rw [h1, bnd2_s]
  by_cases e : l.length = B.ak
  · rw [if_pos (by rw [e]), if_pos e]
  · rw [if_neg (N_ne e (by omega) (by omega)), if_neg e]
/-- the model's tied of order: those that hang on one that is left -/
theorem tied2_eq (hB : B.ok) (hH : ∀ k, (h : k < B.hg.length) → hung (2 * k) = nI B.hg[k].1 ∧ hung (2 * k + 1) = nI B.hg[k].2) {M : Nat} (hM : M < 256) : ∃ T, T < 256 ∧ m_order_L50 (nI M) (nI B.hg.length) hung g_fuel 0 0 = some (nI T) ∧ ∀ a, T.testBit a = true ↔ (∃ b, (a, b) ∈ B.hg ∧ M.testBit b = true) := by
  have b2 := hB.2.1
  have b5 := hB.2.2.2.2.1
  have key : ∀ (n i fu t : Nat), t < 256 → i + n = B.hg.length → n < fu → ∃ T, T < 256 ∧ m_order_L50 (nI M) (nI B.hg.length) hung fu (nI t) (nI i) = some (nI T) ∧ ∀ a, T.testBit a = true ↔ (t.testBit a = true ∨ ∃ k, ∃ h : k < B.hg.length, i ≤ k ∧ B.hg[k].1 = a ∧ M.testBit B.hg[k].2 = true) := by
    intro n
    induction n with
    | zero =>
      intro i fu t ht hi hf
      obtain ⟨fu, rfl⟩ : ∃ z, fu = z + 1 := ⟨fu - 1, by omega⟩
      refine ⟨t, ht, by rw [m_order_L50_s, if_pos (N_le (by omega) (by omega))], fun a => ⟨Or.inl, fun z => z.elim id (fun ⟨k, h, h1, _⟩ => by omega)⟩⟩
    | succ n ih =>
      intro i fu t ht hi hf
      obtain ⟨fu, rfl⟩ : ∃ z, fu = z + 1 := ⟨fu - 1, by omega⟩
      have hil : i < B.hg.length := by omega
      obtain ⟨q1, q2, -⟩ := hB.2.2.2.2.2 _ (List.getElem_mem hil)
      obtain ⟨v1, v2⟩ := hH i hil
      rw [m_order_L50_s, if_neg (N_nle (by omega) (by omega)), show (nI i + 1 : Int32) = nI (i + 1) from nI_1 i, show (2 * nI i : Int32) = nI (2 * i) from pk_mul 2 i, show (nI (2 * i) + 1 : Int32) = nI (2 * i + 1) from nI_1 _]
      simp (disch := omega) only [nI_cl, ck_nI]
      rw [v1, v2, has_eq hM (by omega), bnd_s, Int32.or_zero, or_bit t ht _ (by omega)]
      by_cases h2 : M.testBit B.hg[i].2 = true
      rotate_left
      · rw [if_neg h2, if_pos rfl]
        obtain ⟨T, t1, t2, t3⟩ := ih (i + 1) fu t ht (by omega) (by omega)
        refine ⟨T, t1, t2, fun a => (t3 a).trans ?_⟩
        constructor
        · rintro (z | ⟨k, h, y1, y2⟩)
          · exact Or.inl z
          · exact Or.inr ⟨k, h, by omega, y2⟩
        · rintro (z | ⟨k, h, y1, y2, y3⟩)
          · exact Or.inl z
          · by_cases e : k = i
            · subst e; exact absurd y3 h2
            · exact Or.inr ⟨k, h, by omega, y2, y3⟩
      rw [if_pos h2, if_neg n10]
      obtain ⟨T, t1, t2, t3⟩ := ih (i + 1) fu (setb t B.hg[i].1) (setb_lt t ht _ (by omega)) (by omega) (by omega)
      refine ⟨T, t1, t2, fun a => (t3 a).trans ?_⟩
      rw [setb_bit]
      constructor
      · rintro (z | ⟨k, h, y1, y2⟩)
        · rcases Bool.or_eq_true _ _ |>.mp z with z | z
          · exact Or.inl z
          · exact Or.inr ⟨i, hil, Nat.le_refl _, (of_decide_eq_true z).symm, h2⟩
        · exact Or.inr ⟨k, h, by omega, y2⟩
      · rintro (z | ⟨k, h, y1, y2, y3⟩)
        · exact Or.inl (by rw [z]; rfl)
        · by_cases e : k = i
          · subst e; exact Or.inl (by rw [y2]; simp)
          · exact Or.inr ⟨k, h, by omega, y2, y3⟩
  obtain ⟨T, t1, t2, t3⟩ := key B.hg.length 0 g_fuel 0 (by decide) (by omega) (by unfold g_fuel; omega)
  refine ⟨T, t1, t2, fun a => (t3 a).trans ?_⟩
  constructor
  · rintro (z | ⟨k, h, -, h2, h4⟩)
    · rw [Nat.zero_testBit] at z; cases z
    · exact ⟨B.hg[k].2, by rw [← h2]; exact List.getElem_mem h, h4⟩
  · rintro ⟨b, h1, h3⟩
    obtain ⟨k, hk, e⟩ := List.getElem_of_mem h1
    exact Or.inr ⟨k, hk, by omega, by rw [e], by rw [e]; exact h3⟩
theorem lowest_eq {L T a : Nat} (hL : L < 256) (hT : T < 256) (ha : (L &&& (255 ^^^ T)).testBit a = true) (hlow : ∀ b, b < a → (L &&& (255 ^^^ T)).testBit b = false) : m_order_L105 (nI L) (nI T) g_fuel 0 = some (nI a) := by
  have ha8 := bit8 (andn_lt hL) ha
  have key : ∀ (n i fu : Nat), i + n = a → n < fu → m_order_L105 (nI L) (nI T) fu (nI i) = some (nI a) := by
    intro n
    induction n with
    | zero =>
      intro i fu hi hf
      obtain ⟨fu, rfl⟩ : ∃ z, fu = z + 1 := ⟨fu - 1, by omega⟩
      have : i = a := by omega
      subst this
      rw [m_order_L105_s, andn L hL T hT, has_eq (andn_lt hL) ha8, bnd_s, if_pos ha, if_neg n10]
    | succ n ih =>
      intro i fu hi hf
      obtain ⟨fu, rfl⟩ : ∃ z, fu = z + 1 := ⟨fu - 1, by omega⟩
      rw [m_order_L105_s, andn L hL T hT, has_eq (andn_lt hL) (by omega), bnd_s, hlow i (by omega), if_pos (by decide), show (nI i + 1 : Int32) = nI (i + 1) from nI_1 i]
      exact ih (i + 1) fu (by omega) (by omega)
  exact key a 0 g_fuel (by omega) (by unfold g_fuel; omega)
theorem walk_eq (hB : B.ok) (hH : ∀ k, (h : k < B.hg.length) → hung (2 * k) = nI B.hg[k].1 ∧ hung (2 * k + 1) = nI B.hg[k].2) {i : Nat} (hi : i < 8) : ∀ (l : List Nat) (dn C L n fu : Nat) (pv : Int32), Rch B dn l C → L < 256 → (∀ a, L.testBit a = true ↔ a < B.ak ∧ dn.testBit a = false) → n ≤ i → (h : i - n < l.length) → i - n + 1 < fu → m_order_L38 (nI i) (nI B.hg.length) hung fu (nI L) pv (nI n) = some (nI l[i - n]) := by
  have b2 := hB.2.1
  intro l
  induction l with
  | nil => intro dn C L n fu pv _ _ _ _ h; cases h
  | cons a l ih =>
    intro dn C L n fu pv hR hL hLd hn h hf
    obtain ⟨fu, rfl⟩ : ∃ z, fu = z + 1 := ⟨fu - 1, by omega⟩
    obtain ⟨⟨had, hlow⟩, hR2⟩ := hR
    obtain ⟨T, t1, t2, t3⟩ := tied2_eq hB hH hL
    have ha8 : a < 8 := by have := had.1; omega
    have hbit : ∀ b, (L &&& (255 ^^^ T)).testBit b = true ↔ Ad B dn b := by
      intro b
      rw [andn_bit hL, hLd]
      constructor
      · rintro ⟨⟨h1, h2⟩, h3⟩
        refine ⟨h1, h2, fun y hy => ?_⟩
        by_cases q : dn.testBit y = true
        · exact q
        · have := (t3 b).mpr ⟨y, hy, (hLd y).mpr ⟨(hB.2.2.2.2.2 _ hy).2.1, by simpa using q⟩⟩
          rw [h3] at this; cases this
      · rintro ⟨h1, h2, h3⟩
        refine ⟨⟨h1, h2⟩, ?_⟩
        by_cases q : T.testBit b = true
        · obtain ⟨y, y1, y2⟩ := (t3 b).mp q
          have := ((hLd y).mp y2).2
          rw [h3 y y1] at this; cases this
        · simpa using q
    have hlo := lowest_eq hL t1 ((hbit a).mpr had) (fun b hb => by
      by_cases q : (L &&& (255 ^^^ T)).testBit b = true
      · exact absurd ((hbit b).mp q) (hlow b hb)
      · simpa using q)
    rw [m_order_L38_s, if_neg (fun z => absurd ((nI_ltI (by omega) (by omega)).mp z) (by omega)), t2, bnd_s, hlo, bnd_s, clr_bit L hL a ha8, show (nI n + 1 : Int32) = nI (n + 1) from nI_1 n]
    by_cases e : n = i
    · subst e
      obtain ⟨fu, rfl⟩ : ∃ z, fu = z + 1 := ⟨fu - 1, by omega⟩
      rw [m_order_L38_s, if_pos ((nI_ltI (by omega) (by omega)).mpr (by omega))]
      simp
    · have hlen : i - (n + 1) < l.length := by rw [List.length_cons] at h; omega
      have := ih (setb dn a) C (clrb L a) (n + 1) fu (nI a) hR2 (clrb_lt L hL a ha8) (fun b => by
        rw [clrb_bit hL ha8, hLd, setb_bit]
        constructor
        · rintro ⟨⟨h1, h2⟩, h3⟩
          exact ⟨h1, by rw [h2]; simp [h3]⟩
        · rintro ⟨h1, h2⟩
          have h2 := Bool.or_eq_false_iff.mp h2
          exact ⟨⟨h1, h2.1⟩, of_decide_eq_false h2.2⟩) (by omega) hlen (by omega)
      rw [this]
      have e2 : i - n = i - (n + 1) + 1 := by omega
      congr 2
      simp only [e2, List.getElem_cons_succ]
theorem P_order (hB : B.ok) (hU : ∀ a, a < B.ak → ∃ u : Nat, under a = nI u ∧ u < 256 ∧ ∀ b, u.testBit b = decide ((a, b) ∈ B.hg)) (hH : ∀ k, (h : k < B.hg.length) → hung (2 * k) = nI B.hg[k].1 ∧ hung (2 * k + 1) = nI B.hg[k].2) (row : Nat → Int32) (v : Int32) : ∃ r row', x_order under (nI B.ak) row v = some (r, row') ∧ m_order (nI B.ak) (nI B.hg.length) hung v = some r := by
  have b2 := hB.2.1
  have h256 := pw_le B.ak (by omega)
  unfold x_order m_order
  by_cases hv : 0 ≤ v
  rotate_left
  · rw [if_neg hv, if_neg hv]; exact ⟨_, _, rfl, rfl⟩
  obtain ⟨l, C, row', h1, h2, h3, h4, h5⟩ := ring_val hB hU hH row
  rw [if_pos hv, if_pos hv, h1, bnd2_s, h5, bnd_s]
  obtain ⟨i, hi, rfl⟩ := nI_of (x := v) (fun z => by
    have := Int32.lt_iff_toInt_lt.mp z
    have := Int32.le_iff_toInt_le.mp hv
    omega)
  by_cases e : l.length = B.ak
  rotate_left
  · rw [if_neg e, if_pos rfl, if_neg (N_nle (by omega) (by omega))]; exact ⟨_, _, rfl, rfl⟩
  rw [if_pos e, if_neg (show ¬ (0 : Int32) = 1 by decide), if_pos (N_le (by omega) (by omega)), e]
  by_cases hia : B.ak ≤ i
  · rw [if_pos (N_le hia hi), if_neg (fun z => absurd ((nI_ltI hi (by omega)).mp z) (by omega))]; exact ⟨_, _, rfl, rfl⟩
  · rw [if_neg (N_nle (by omega) (by omega)), if_pos ((nI_ltI hi (by omega)).mpr (by omega)), allA hB, bnd_s]
    simp (disch := omega) only [nI_cl, ck_nI]
    have hw := walk_eq hB hH (i := i) (by omega) l 0 C (2 ^ B.ak - 1) 0 g_fuel 0 h2 (by omega) (fun a => by
      constructor
      · intro z
        exact ⟨lt_bit (by have := Nat.two_pow_pos B.ak; omega : 2 ^ B.ak - 1 < 2 ^ B.ak) z, Nat.zero_testBit a⟩
      · rintro ⟨z, -⟩
        rw [all_bit B.ak (by omega) a (by omega)]; exact decide_eq_true z) (by omega) (by omega) (by unfold g_fuel; omega)
    rw [show m_order_L38 (nI i) (nI B.hg.length) hung g_fuel (nI (2 ^ B.ak - 1)) 0 0 = _ from hw, bnd_s, h3 i (by omega)]
    exact ⟨_, _, rfl, rfl⟩
/-- better: fewer, and of as many the lower -/
def Bt (F S : Nat) : Prop := pc F < pc S ∨ (pc F = pc S ∧ F ≤ S)
theorem P_fewest (hB : B.ok) (hU : ∀ a, a < B.ak → ∃ u : Nat, under a = nI u ∧ u < 256 ∧ ∀ b, u.testBit b = decide ((a, b) ∈ B.hg)) (hH : ∀ k, (h : k < B.hg.length) → hung (2 * k) = nI B.hg[k].1 ∧ hung (2 * k + 1) = nI B.hg[k].2) (row : Nat → Int32) (v : Int32) : ∃ r row', x_fewest under (nI B.ak) row v = some (r, row') ∧ m_fewest (nI B.ak) (nI B.hg.length) hung v = some r := by
  have b2 := hB.2.1
  have h256 := pw_le B.ak (by omega)
  have hpos := Nat.two_pow_pos B.ak
  unfold x_fewest m_fewest
  rw [show m_in v.toInt64 0 1 = x_in v 0 1 from m_in_eq v 0 1]
  rcases in01 v 0 1 with z | z
  · rw [z, bnd_s, bnd_s, if_pos rfl, if_pos rfl]; exact ⟨_, _, rfl, rfl⟩
  rw [z, bnd_s, bnd_s, if_neg n10, if_neg n10, allA hB, bnd_s, bnd_s, pow_k B.ak (by omega), show (nI (2 ^ B.ak) - 1 : Int32) = nI (2 ^ B.ak - 1) from nI_subN (b := 1) hpos]
  -- what is good, by the class and by the model
  let Gd : Nat → Prop := fun S => ∃ G, m_leftOf (nI B.hg.length) hung (nI ((2 ^ B.ak - 1) &&& (255 ^^^ S))) = some (nI G) ∧ G = 0
  have hx : ∀ S, S < 2 ^ B.ak → ∀ row, ∃ n row', x_inOrder under (nI B.ak) row (nI S) = some (nI n, row') ∧ n ≤ B.ak ∧ pc S ≤ B.ak ∧ (n = B.ak - pc S ↔ Gd S) := by
    intro S hS row
    obtain ⟨l, C, row', G, h1, h2, h3, h4, h5, h6, h7, h8, h9⟩ := set_eq hB hU hH hS row
    refine ⟨l.length, row', h1, h4, h9, ?_⟩
    rw [← h8, ← h7]
    constructor
    · intro e; exact ⟨G, h6, e⟩
    · rintro ⟨G', e1, e2⟩
      rw [h6] at e1
      have hG' : G' < 2 ^ 31 := by omega
      have := (nI_eq (by omega) hG').mp (Option.some.inj e1)
      omega
  have hm : ∀ S, S < 2 ^ B.ak → ∃ G, G < 256 ∧ m_leftOf (nI B.hg.length) hung (nI ((2 ^ B.ak - 1) &&& (255 ^^^ S))) = some (nI G) ∧ (G = 0 ↔ Gd S) := by
    intro S hS
    obtain ⟨l, C, row', G, h1, h2, h3, h4, h5, h6, h7, h8, h9⟩ := set_eq hB hU hH hS row
    refine ⟨G, h5, h6, fun e => ⟨G, h6, e⟩, ?_⟩
    rintro ⟨G', e1, e2⟩
    rw [h6] at e1
    have hG' : G' < 2 ^ 31 := by omega
    have := (nI_eq (by omega) hG').mp (Option.some.inj e1)
    omega
  have hpcA : pc (2 ^ B.ak - 1) = B.ak := by
    have : ∀ k, k < 9 → pc (2 ^ k - 1) = k := by decide +kernel
    exact this B.ak (by omega)
  have hpcU : ∀ S, S < 2 ^ B.ak → pc S = B.ak → S = 2 ^ B.ak - 1 := by
    intro S hS h
    have h1 := cnt_pc B.ak (by omega) S hS
    have h2 := cnt_0.mp (show cnt B.ak S = 0 by omega)
    have h3 := sub_le (t := 2 ^ B.ak - 1) (l := S) (fun a ha => h2 a (lt_bit (by omega : 2 ^ B.ak - 1 < 2 ^ B.ak) ha))
    omega
  have hgA : Gd (2 ^ B.ak - 1) := by
    obtain ⟨n, row', h1, h2, h3, h4⟩ := hx (2 ^ B.ak - 1) (by omega) row
    obtain ⟨G, g1, g2, g3⟩ := hm (2 ^ B.ak - 1) (by omega)
    refine g3.mp ?_
    obtain ⟨G', e1, e2, e3, e4⟩ := leftOf_eq hB hH (M := (2 ^ B.ak - 1) &&& (255 ^^^ (2 ^ B.ak - 1))) (andn_lt (by omega))
    rw [e2] at g2
    have := (nI_eq (by omega) (by omega)).mp (Option.some.inj g2)
    rw [← this]
    refine ext8 G' e1 (fun b _ => ?_)
    by_cases q : G'.testBit b = true
    · have := (andn_bit (by omega)).mp (e3 b q).1
      rw [this.1] at this; cases this.2
    · simpa using q
  -- the class goes up
  have up : ∀ (n s fu F : Nat) (row : Nat → Int32), s + n = 2 ^ B.ak → n < fu → F < 2 ^ B.ak → Gd F → (F < s ∨ F = 2 ^ B.ak - 1) → (∀ S, S < s → Gd S → Bt F S) → ∃ F' row', x_fewest_L25 under (nI B.ak) fu (nI F) (nI s) row = some (nI F', row') ∧ F' < 2 ^ B.ak ∧ Gd F' ∧ ∀ S, S < 2 ^ B.ak → Gd S → Bt F' S := by
    intro n
    induction n with
    | zero =>
      intro s fu F row hs hf hF hg hor hb
      obtain ⟨fu, rfl⟩ : ∃ z, fu = z + 1 := ⟨fu - 1, by omega⟩
      exact ⟨F, row, by rw [x_fewest_L25_s, pow_k B.ak (by omega), if_pos (N_le (by omega) (by omega))], hF, hg, fun S hS => hb S (by omega)⟩
    | succ n ih =>
      intro s fu F row hs hf hF hg hor hb
      obtain ⟨fu, rfl⟩ : ∃ z, fu = z + 1 := ⟨fu - 1, by omega⟩
      have hpF := cnt_pc B.ak (by omega) F hF
      have hps := cnt_pc B.ak (by omega) s (by omega)
      rw [x_fewest_L25_s, pow_k B.ak (by omega), if_neg (N_nle (by omega) (by omega)), bc_pc s (by omega), bc_pc F (by omega), bnd_s, bnd_s, show (nI s + 1 : Int32) = nI (s + 1) from nI_1 s]
      by_cases hle : pc F ≤ pc s
      · rw [if_pos (N_le hle (by omega))]
        refine ih (s + 1) fu F row (by omega) (by omega) hF hg (hor.elim (fun q => Or.inl (by omega)) Or.inr) (fun S hS hgS => ?_)
        by_cases e : S = s
        · subst e
          rcases Nat.lt_or_eq_of_le hle with q | q
          · exact Or.inl q
          · refine Or.inr ⟨q, ?_⟩
            rcases hor with q2 | q2
            · omega
            · have := hpcU S (by omega) (by rw [← q, q2]; exact hpcA); omega
        · exact hb S (by omega) hgS
      · rw [if_neg (N_nle (by omega) (by omega))]
        obtain ⟨k, row', h1, h2, h3, h4⟩ := hx s (by omega) row
        rw [h1, bnd2_s, nI_subN h3]
        by_cases e : k = B.ak - pc s
        · rw [if_pos (by rw [e])]
          refine ih (s + 1) fu s row' (by omega) (by omega) (by omega) (h4.mp e) (Or.inl (by omega)) (fun S hS hgS => ?_)
          by_cases e2 : S = s
          · subst e2; exact Or.inr ⟨rfl, Nat.le_refl _⟩
          · have := hb S (by omega) hgS
            unfold Bt at this ⊢; omega
        · rw [if_neg (N_ne e (by omega) (by omega))]
          refine ih (s + 1) fu F row' (by omega) (by omega) hF hg (hor.elim (fun q => Or.inl (by omega)) Or.inr) (fun S hS hgS => ?_)
          by_cases e2 : S = s
          · subst e2; exact absurd (h4.mpr hgS) e
          · exact hb S (by omega) hgS
  -- the model goes down
  have down : ∀ (n fu F : Nat), n ≤ 2 ^ B.ak → n < fu → F < 2 ^ B.ak → Gd F → n ≤ F + 1 → (∀ S, n ≤ S → S < 2 ^ B.ak → Gd S → Bt F S) → ∃ F', m_fewest_L22 (nI B.ak) (nI B.hg.length) hung fu (nI F) (nI n - 1) = some (nI F') ∧ F' < 2 ^ B.ak ∧ Gd F' ∧ ∀ S, S < 2 ^ B.ak → Gd S → Bt F' S := by
    intro n
    induction n with
    | zero =>
      intro fu F hn hf hF hg hnF hb
      obtain ⟨fu, rfl⟩ : ∃ z, fu = z + 1 := ⟨fu - 1, by omega⟩
      exact ⟨F, by rw [m_fewest_L22_s, if_pos (by decide)], hF, hg, fun S hS => hb S (by omega) hS⟩
    | succ n ih =>
      intro fu F hn hf hF hg hnF hb
      obtain ⟨fu, rfl⟩ : ∃ z, fu = z + 1 := ⟨fu - 1, by omega⟩
      have hpF := cnt_pc B.ak (by omega) F hF
      have hps := cnt_pc B.ak (by omega) n (by omega)
      have e1 : (nI (n + 1) - 1 : Int32) = nI n := nI_pred n
      have e2 : (nI n + (-1) : Int32) = nI n - 1 := (Int32.sub_eq_add_neg _ _).symm
      rw [e1, m_fewest_L22_s, if_neg (nI_pos (by omega)), ones_eq n (by omega), ones_eq F (by omega), bc_pc n (by omega), bc_pc F (by omega), bnd_s, bnd_s, e2, allA hB, bnd_s, andn _ (by omega) n (by omega)]
      by_cases hlt : pc F < pc n
      · rw [if_pos ((nI_ltI (by omega) (by omega)).mpr hlt)]
        refine ih fu F (by omega) (by omega) hF hg (by omega) (fun S hS hS2 hgS => ?_)
        by_cases e : S = n
        · subst e; exact Or.inl hlt
        · exact hb S (by omega) hS2 hgS
      · rw [if_neg (fun z => hlt ((nI_ltI (by omega) (by omega)).mp z))]
        obtain ⟨G, g1, g2, g3⟩ := hm n (by omega)
        rw [g2, bnd_s]
        by_cases e : G = 0
        · rw [if_pos (L_eq 0 e)]
          refine ih fu n (by omega) (by omega) (by omega) (g3.mp e) (by omega) (fun S hS hS2 hgS => ?_)
          by_cases e3 : S = n
          · subst e3; exact Or.inr ⟨rfl, Nat.le_refl _⟩
          · have := hb S (by omega) hS2 hgS
            unfold Bt at this ⊢; omega
        · rw [if_neg (L_ne 0 e (by omega) (by omega))]
          refine ih fu F (by omega) (by omega) hF hg (by omega) (fun S hS hS2 hgS => ?_)
          by_cases e3 : S = n
          · subst e3; exact absurd (g3.mpr hgS) e
          · exact hb S (by omega) hS2 hgS
  obtain ⟨F1, row', u1, u2, u3, u4⟩ := up (2 ^ B.ak) 0 g_fuel (2 ^ B.ak - 1) row (by omega) (by unfold g_fuel; omega) (by omega) hgA (Or.inr rfl) (fun S hS => by omega)
  obtain ⟨F2, d1, d2, d3, d4⟩ := down (2 ^ B.ak) g_fuel (2 ^ B.ak - 1) (Nat.le_refl _) (by unfold g_fuel; omega) (by omega) hgA (by omega) (fun S hS hS2 => by omega)
  have hF : F1 = F2 := by
    have q1 := u4 F2 d2 d3
    have q2 := d4 F1 u2 u3
    unfold Bt at q1 q2; omega
  subst hF
  rw [show (nI (2 ^ B.ak) - 1 : Int32) = nI (2 ^ B.ak - 1) from nI_subN (b := 1) hpos] at d1
  rw [show x_fewest_L25 under (nI B.ak) g_fuel (nI (2 ^ B.ak - 1)) 0 row = _ from u1, bnd2_s, d1, bnd_s, ones_eq F1 (by omega), bc_pc F1 (by omega), bnd_s, bnd_s]
  split
  · exact ⟨_, _, rfl, rfl⟩
  · exact ⟨_, _, rfl, rfl⟩
end PRNG2
