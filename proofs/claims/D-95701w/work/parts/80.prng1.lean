/-! PURE LAW: rings: one behind another (the class) against those left (the model) -/
set_option maxRecDepth 100000
def Ad (B : Bk) (dn a : Nat) : Prop := a < B.ak ∧ dn.testBit a = false ∧ ∀ b, (a, b) ∈ B.hg → dn.testBit b = true
def Lw (B : Bk) (dn a : Nat) : Prop := Ad B dn a ∧ ∀ b, b < a → ¬ Ad B dn b
/-- from dn by the row l to C, each the lowest that may come -/
def Rch (B : Bk) : Nat → List Nat → Nat → Prop
  | dn, [], C => C = dn
  | dn, a :: l, C => Lw B dn a ∧ Rch B (setb dn a) l C
section PRNG1
variable {B : Bk} {under : Nat → Int32} {hung : Nat → Int32}
theorem inner_eq (hB : B.ok) (hU : ∀ a, a < B.ak → ∃ u : Nat, under a = nI u ∧ u < 256 ∧ ∀ b, u.testBit b = decide ((a, b) ∈ B.hg)) {dn k : Nat} (hdn : dn < 256) (hk : k + cnt B.ak dn ≤ B.ak) (row : Nat → Int32) : ∀ (n i fu : Nat), i + n = B.ak → n < fu → (∀ b, b < i → ¬ Ad B dn b) → (∃ a, Lw B dn a ∧ x_inOrder_L18 under (nI B.ak) fu (nI dn) (nI k) 0 (nI i) row = some (nI (setb dn a), nI (k + 1), 1, upd row k (nI a))) ∨ ((∀ b, ¬ Ad B dn b) ∧ x_inOrder_L18 under (nI B.ak) fu (nI dn) (nI k) 0 (nI i) row = some (nI dn, nI k, 0, row)) := by
  have b2 := hB.2.1
  intro n
  induction n with
  | zero =>
    intro i fu hi hf hno
    obtain ⟨fu, rfl⟩ : ∃ z, fu = z + 1 := ⟨fu - 1, by omega⟩
    refine Or.inr ⟨fun b hb => ?_, by rw [x_inOrder_L18_s, if_pos (N_le (by omega) (by omega))]⟩
    exact hno b (by have := hb.1; omega) hb
  | succ n ih =>
    intro i fu hi hf hno
    obtain ⟨fu, rfl⟩ : ∃ z, fu = z + 1 := ⟨fu - 1, by omega⟩
    have hi8 : i < 8 := by omega
    obtain ⟨u, u1, u2, u3⟩ := hU i (by omega)
    have hst : x_inOrder_L18 under (nI B.ak) (fu + 1) (nI dn) (nI k) 0 (nI i) row = (if ((nI dn >>> (nI i &&& 31)) &&& 1) = 0 then (if (nI u &&& (nI dn ^^^ (-1))) = 0 then (ck (nI k) 8 <| x_inOrder_L18 under (nI B.ak) fu (nI dn ||| (1 <<< (nI i &&& 31))) (nI (k + 1)) 1 (nI (i + 1)) (upd row (nI k).toNatClampNeg (nI i))) else x_inOrder_L18 under (nI B.ak) fu (nI dn) (nI k) 0 (nI (i + 1)) row) else x_inOrder_L18 under (nI B.ak) fu (nI dn) (nI k) 0 (nI (i + 1)) row) := by
      rw [x_inOrder_L18_s, if_neg (N_nle (by omega) (by omega)), if_pos rfl, show (nI i + 1 : Int32) = nI (i + 1) from nI_1 i, show (nI k + 1 : Int32) = nI (k + 1) from nI_1 k]
      simp (disch := omega) only [nI_cl, ck_nI]
      rw [u1]
    rw [hst, bit_if hdn hi8, andn u u2 dn hdn]
    have step : ¬ Ad B dn i → (∀ b, b < i + 1 → ¬ Ad B dn b) := fun hn b hb => by
      by_cases e : b = i
      · subst e; exact hn
      · exact hno b (by omega)
    by_cases hb : dn.testBit i = true
    · rw [if_pos hb, if_neg n10]
      exact ih (i + 1) fu (by omega) (by omega) (step (fun z => by rw [z.2.1] at hb; cases hb))
    rw [if_neg hb, if_pos rfl]
    have hbf : dn.testBit i = false := by simpa using hb
    by_cases hz : u &&& (255 ^^^ dn) = 0
    · have had : Ad B dn i := ⟨by omega, hbf, fun b hin => by
        have hub : u.testBit b = true := by rw [u3 b]; exact decide_eq_true hin
        by_cases q : dn.testBit b = true
        · exact q
        · have := (andn_bit (d := dn) u2).mpr ⟨hub, by simpa using q⟩
          rw [hz, Nat.zero_testBit] at this; cases this⟩
      have hcs := cnt_set B.ak (by omega) dn hdn i (by omega) hbf
      rw [hz, if_pos (L_eq 0 rfl), ck_nI (by omega) (by omega), nI_cl (by omega), or_bit dn hdn i hi8]
      refine Or.inl ⟨i, ⟨had, hno⟩, ?_⟩
      obtain ⟨fu, rfl⟩ : ∃ z, fu = z + 1 := ⟨fu - 1, by omega⟩
      rw [x_inOrder_L18_s]
      by_cases hc : B.ak ≤ i + 1
      · rw [if_pos (N_le hc (by omega))]
      · rw [if_neg (N_nle (by omega) (by omega)), if_neg n10]
    · have hnad : ¬ Ad B dn i := fun z => by
        apply hz
        refine ext8 _ (andn_lt u2) (fun b _ => ?_)
        by_cases q : (u &&& (255 ^^^ dn)).testBit b = true
        · obtain ⟨q1, q2⟩ := (andn_bit u2).mp q
          rw [u3 b] at q1
          rw [z.2.2 b (of_decide_eq_true q1)] at q2; cases q2
        · simpa using q
      have hlt := andn_lt (d := dn) u2
      rw [if_neg (L_ne 0 hz (by omega) (by omega))]
      exact ih (i + 1) fu (by omega) (by omega) (step hnad)
theorem inOrder_eq (hB : B.ok) (hU : ∀ a, a < B.ak → ∃ u : Nat, under a = nI u ∧ u < 256 ∧ ∀ b, u.testBit b = decide ((a, b) ∈ B.hg)) {S : Nat} (hS : S < 256) (row : Nat → Int32) : ∃ l C row', x_inOrder under (nI B.ak) row (nI S) = some (nI l.length, row') ∧ Rch B S l C ∧ (∀ b, ¬ Ad B C b) ∧ l.length + cnt B.ak C = cnt B.ak S ∧ ∀ j, (h : j < l.length) → row' j = nI l[j] := by
  have b2 := hB.2.1
  have key : ∀ (n dn k fu : Nat) (row : Nat → Int32), dn < 256 → cnt B.ak dn ≤ n → k + cnt B.ak dn ≤ B.ak → n + 1 < fu → ∃ l C row', x_inOrder_L7 under (nI B.ak) fu (nI dn) (nI k) 1 row = some (nI (k + l.length), row') ∧ Rch B dn l C ∧ (∀ b, ¬ Ad B C b) ∧ l.length + cnt B.ak C = cnt B.ak dn ∧ (∀ j, (h : j < l.length) → row' (k + j) = nI l[j]) ∧ ∀ j, j < k → row' j = row j := by
    intro n
    induction n with
    | zero =>
      intro dn k fu row hdn hn hk hf
      obtain ⟨fu, rfl⟩ : ∃ z, fu = z + 2 := ⟨fu - 2, by omega⟩
      rw [x_inOrder_L7_s, if_neg n10]
      rcases inner_eq hB hU hdn hk row B.ak 0 g_fuel (by omega) (by unfold g_fuel; omega) (fun b hb => by omega) with ⟨a, hlw, hE⟩ | ⟨hno, hE⟩
      · have := cnt_0.mp (Nat.le_zero.mp hn) a hlw.1.1
        rw [hlw.1.2.1] at this; cases this
      · rw [show x_inOrder_L18 under (nI B.ak) g_fuel (nI dn) (nI k) 0 0 row = _ from hE, bnd4_s, x_inOrder_L7_s, if_pos rfl]
        exact ⟨[], dn, row, rfl, rfl, hno, by simp, (fun j hj => by cases hj), fun _ _ => rfl⟩
    | succ n ih =>
      intro dn k fu row hdn hn hk hf
      obtain ⟨fu, rfl⟩ : ∃ z, fu = z + 2 := ⟨fu - 2, by omega⟩
      rw [x_inOrder_L7_s, if_neg n10]
      rcases inner_eq hB hU hdn hk row B.ak 0 g_fuel (by omega) (by unfold g_fuel; omega) (fun b hb => by omega) with ⟨a, hlw, hE⟩ | ⟨hno, hE⟩
      · have ha8 : a < 8 := by have := hlw.1.1; omega
        have hcs := cnt_set B.ak (by omega) dn hdn a hlw.1.1 hlw.1.2.1
        rw [show x_inOrder_L18 under (nI B.ak) g_fuel (nI dn) (nI k) 0 0 row = _ from hE, bnd4_s]
        obtain ⟨l, C, row', h1, h2, h3, h4, h5, h6⟩ := ih (setb dn a) (k + 1) (fu + 1) (upd row k (nI a)) (setb_lt dn hdn a ha8) (by omega) (by omega) (by omega)
        refine ⟨a :: l, C, row', ?_, ⟨hlw, h2⟩, h3, ?_, fun j hj => ?_, fun j hj => ?_⟩
        · rw [h1]; congr 3; rw [List.length_cons]; omega
        · rw [List.length_cons]; omega
        · match j, hj with
          | 0, _ => rw [Nat.add_zero, h6 k (by omega), upd_s]; rfl
          | j + 1, hj =>
            have := h5 j (by rw [List.length_cons] at hj; omega)
            rw [show k + (j + 1) = k + 1 + j by omega, this]; rfl
        · rw [h6 j (by omega), upd_n (by omega)]
      · rw [show x_inOrder_L18 under (nI B.ak) g_fuel (nI dn) (nI k) 0 0 row = _ from hE, bnd4_s, x_inOrder_L7_s, if_pos rfl]
        exact ⟨[], dn, row, rfl, rfl, hno, by simp, (fun j hj => by cases hj), fun _ _ => rfl⟩
  have hcl : cnt B.ak S ≤ B.ak := by
    unfold cnt
    have := List.countP_le_length (p := fun a => !S.testBit a) (l := List.range B.ak)
    rw [List.length_range] at this; exact this
  obtain ⟨l, C, row', h1, h2, h3, h4, h5, -⟩ := key B.ak S 0 g_fuel row hS hcl (by omega) (by unfold g_fuel; omega)
  refine ⟨l, C, row', ?_, h2, h3, h4, fun j hj => by have := h5 j hj; rw [Nat.zero_add] at this; exact this⟩
  unfold x_inOrder
  rw [show x_inOrder_L7 under (nI B.ak) g_fuel (nI S) 0 1 row = _ from h1, bnd2_s, Nat.zero_add]
/-- the model: those that hang on one of those left -/
theorem tied_eq (hB : B.ok) (hH : ∀ k, (h : k < B.hg.length) → hung (2 * k) = nI B.hg[k].1 ∧ hung (2 * k + 1) = nI B.hg[k].2) {M : Nat} (hM : M < 256) : ∃ T, T < 256 ∧ m_leftOf_L14 (nI M) (nI B.hg.length) hung g_fuel 0 0 = some (nI T) ∧ ∀ a, T.testBit a = true ↔ (∃ b, (a, b) ∈ B.hg ∧ M.testBit a = true ∧ M.testBit b = true) := by
  have b2 := hB.2.1
  have b5 := hB.2.2.2.2.1
  have key : ∀ (n i fu t : Nat), t < 256 → i + n = B.hg.length → n < fu → ∃ T, T < 256 ∧ m_leftOf_L14 (nI M) (nI B.hg.length) hung fu (nI t) (nI i) = some (nI T) ∧ ∀ a, T.testBit a = true ↔ (t.testBit a = true ∨ ∃ k, ∃ h : k < B.hg.length, i ≤ k ∧ B.hg[k].1 = a ∧ M.testBit B.hg[k].1 = true ∧ M.testBit B.hg[k].2 = true) := by
    intro n
    induction n with
    | zero =>
      intro i fu t ht hi hf
      obtain ⟨fu, rfl⟩ : ∃ z, fu = z + 1 := ⟨fu - 1, by omega⟩
      refine ⟨t, ht, by rw [m_leftOf_L14_s, if_pos (N_le (by omega) (by omega))], fun a => ⟨Or.inl, fun z => z.elim id (fun ⟨k, h, h1, _⟩ => by omega)⟩⟩
    | succ n ih =>
      intro i fu t ht hi hf
      obtain ⟨fu, rfl⟩ : ∃ z, fu = z + 1 := ⟨fu - 1, by omega⟩
      have hil : i < B.hg.length := by omega
      obtain ⟨q1, q2, -⟩ := hB.2.2.2.2.2 _ (List.getElem_mem hil)
      obtain ⟨v1, v2⟩ := hH i hil
      rw [m_leftOf_L14_s, if_neg (N_nle (by omega) (by omega)), show (nI i + 1 : Int32) = nI (i + 1) from nI_1 i, show (2 * nI i : Int32) = nI (2 * i) from pk_mul 2 i, show (nI (2 * i) + 1 : Int32) = nI (2 * i + 1) from nI_1 _]
      simp (disch := omega) only [nI_cl, ck_nI]
      rw [v1, v2, has_eq hM (by omega), has_eq hM (by omega), bnd_s, bnd_s, Int32.or_zero, or_bit t ht _ (by omega)]
      have no : ¬ (M.testBit B.hg[i].1 = true ∧ M.testBit B.hg[i].2 = true) → ∀ a, (t.testBit a = true ∨ ∃ k, ∃ h : k < B.hg.length, i + 1 ≤ k ∧ B.hg[k].1 = a ∧ M.testBit B.hg[k].1 = true ∧ M.testBit B.hg[k].2 = true) ↔ (t.testBit a = true ∨ ∃ k, ∃ h : k < B.hg.length, i ≤ k ∧ B.hg[k].1 = a ∧ M.testBit B.hg[k].1 = true ∧ M.testBit B.hg[k].2 = true) := fun hn a => by
        constructor
        · rintro (z | ⟨k, h, h1, h2⟩)
          · exact Or.inl z
          · exact Or.inr ⟨k, h, by omega, h2⟩
        · rintro (z | ⟨k, h, h1, h2, h3, h4⟩)
          · exact Or.inl z
          · by_cases e : k = i
            · subst e; exact absurd ⟨h3, h4⟩ hn
            · exact Or.inr ⟨k, h, by omega, h2, h3, h4⟩
      by_cases h1 : M.testBit B.hg[i].1 = true
      rotate_left
      · rw [if_neg h1, if_pos rfl]
        obtain ⟨T, t1, t2, t3⟩ := ih (i + 1) fu t ht (by omega) (by omega)
        exact ⟨T, t1, t2, fun a => (t3 a).trans (no (fun z => h1 z.1) a)⟩
      rw [if_pos h1, if_neg n10]
      by_cases h2 : M.testBit B.hg[i].2 = true
      rotate_left
      · rw [if_neg h2, if_pos rfl]
        obtain ⟨T, t1, t2, t3⟩ := ih (i + 1) fu t ht (by omega) (by omega)
        exact ⟨T, t1, t2, fun a => (t3 a).trans (no (fun z => h2 z.2) a)⟩
      rw [if_pos h2, if_neg n10]
      obtain ⟨T, t1, t2, t3⟩ := ih (i + 1) fu (setb t B.hg[i].1) (setb_lt t ht _ (by omega)) (by omega) (by omega)
      refine ⟨T, t1, t2, fun a => (t3 a).trans ?_⟩
      rw [setb_bit]
      constructor
      · rintro (z | ⟨k, h, y1, y2⟩)
        · rcases Bool.or_eq_true _ _ |>.mp z with z | z
          · exact Or.inl z
          · exact Or.inr ⟨i, hil, Nat.le_refl _, (of_decide_eq_true z).symm, h1, h2⟩
        · exact Or.inr ⟨k, h, by omega, y2⟩
      · rintro (z | ⟨k, h, y1, y2, y3, y4⟩)
        · exact Or.inl (by rw [z]; rfl)
        · by_cases e : k = i
          · subst e; exact Or.inl (by rw [y2]; simp)
          · exact Or.inr ⟨k, h, by omega, y2, y3, y4⟩
  obtain ⟨T, t1, t2, t3⟩ := key B.hg.length 0 g_fuel 0 (by decide) (by omega) (by unfold g_fuel; omega)
  refine ⟨T, t1, t2, fun a => (t3 a).trans ?_⟩
  constructor
  · rintro (z | ⟨k, h, -, h2, h3, h4⟩)
    · rw [Nat.zero_testBit] at z; cases z
    · exact ⟨B.hg[k].2, by rw [← h2]; exact List.getElem_mem h, by rw [← h2]; exact h3, h4⟩
  · rintro ⟨b, h1, h2, h3⟩
    obtain ⟨k, hk, e⟩ := List.getElem_of_mem h1
    exact Or.inr ⟨k, hk, by omega, by rw [e], by rw [e]; exact h2, by rw [e]; exact h3⟩
theorem sub_le {t l : Nat} (h : ∀ a, t.testBit a = true → l.testBit a = true) : t ≤ l := by
  have : t &&& l = t := by
    apply Nat.eq_of_testBit_eq
    intro i
    rw [Nat.testBit_and]
    by_cases q : t.testBit i = true
    · rw [q, h i q]; rfl
    · simp [q]
  rw [← this]; exact Nat.and_le_right
theorem leftOf_eq (hB : B.ok) (hH : ∀ k, (h : k < B.hg.length) → hung (2 * k) = nI B.hg[k].1 ∧ hung (2 * k + 1) = nI B.hg[k].2) {M : Nat} (hM : M < 256) : ∃ G, G < 256 ∧ m_leftOf (nI B.hg.length) hung (nI M) = some (nI G) ∧ (∀ a, G.testBit a = true → M.testBit a = true ∧ ∃ b, (a, b) ∈ B.hg ∧ G.testBit b = true) ∧ ∀ P : Nat → Prop, (∀ a, P a → M.testBit a = true) → (∀ a, P a → ∃ b, (a, b) ∈ B.hg ∧ P b) → ∀ a, P a → G.testBit a = true := by
  have key : ∀ (n m fu : Nat), m ≤ n → m < 256 → n + 1 < fu → ∃ G, G < 256 ∧ m_leftOf_L4 (nI B.hg.length) hung fu (nI m) 1 = some (nI G) ∧ (∀ a, G.testBit a = true → m.testBit a = true ∧ ∃ b, (a, b) ∈ B.hg ∧ G.testBit b = true) ∧ ∀ P : Nat → Prop, (∀ a, P a → m.testBit a = true) → (∀ a, P a → ∃ b, (a, b) ∈ B.hg ∧ P b) → ∀ a, P a → G.testBit a = true := by
    intro n
    induction n with
    | zero =>
      intro m fu hm hm2 hf
      have : m = 0 := by omega
      subst this
      obtain ⟨fu, rfl⟩ : ∃ z, fu = z + 2 := ⟨fu - 2, by omega⟩
      obtain ⟨T, t1, t2, t3⟩ := tied_eq hB hH hm2
      have hT : T = 0 := ext8 T t1 (fun b _ => by
        by_cases q : T.testBit b = true
        · obtain ⟨_, _, h, _⟩ := (t3 b).mp q
          rw [Nat.zero_testBit] at h; cases h
        · simpa using q)
      rw [m_leftOf_L4_s, if_neg n10, t2, bnd_s, hT, if_pos rfl, m_leftOf_L4_s, if_pos rfl]
      exact ⟨0, by decide, rfl, (fun a h => by rw [Nat.zero_testBit] at h; cases h), fun P h1 _ a ha => by have := h1 a ha; exact this⟩
    | succ n ih =>
      intro m fu hm hm2 hf
      obtain ⟨fu, rfl⟩ : ∃ z, fu = z + 2 := ⟨fu - 2, by omega⟩
      obtain ⟨T, t1, t2, t3⟩ := tied_eq hB hH hm2
      have hsub : ∀ a, T.testBit a = true → m.testBit a = true := fun a h => by
        obtain ⟨_, _, h, _⟩ := (t3 a).mp h; exact h
      have hle := sub_le hsub
      rw [m_leftOf_L4_s, if_neg n10, t2, bnd_s]
      by_cases e : T = m
      · rw [if_pos (by rw [e]), m_leftOf_L4_s, if_pos rfl]
        refine ⟨T, t1, rfl, fun a h => ?_, fun P h1 _ a ha => by rw [e]; exact h1 a ha⟩
        obtain ⟨b, h1, h2, h3⟩ := (t3 a).mp h
        exact ⟨h2, b, h1, by rw [e]; exact h3⟩
      · rw [if_neg (N_ne e (by omega) (by omega))]
        obtain ⟨G, g1, g2, g3, g4⟩ := ih T (fu + 1) (by omega) t1 (by omega)
        refine ⟨G, g1, g2, fun a h => ⟨hsub a (g3 a h).1, (g3 a h).2⟩, fun P h1 h2 a ha => g4 P (fun a ha => ?_) h2 a ha⟩
        obtain ⟨b, q1, q2⟩ := h2 a ha
        exact (t3 a).mpr ⟨b, q1, h1 a ha, h1 b q2⟩
  obtain ⟨G, g1, g2, g3, g4⟩ := key M M g_fuel (Nat.le_refl _) hM (by unfold g_fuel; omega)
  exact ⟨G, g1, by unfold m_leftOf; rw [g2, bnd_s], g3, g4⟩
/-- all outside S come one behind another, or some are left -/
theorem good_eq (hB : B.ok) {S C G : Nat} (hS : S < 2 ^ B.ak) {l : List Nat} (hR : Rch B S l C) (hC : ∀ b, ¬ Ad B C b) (hG : G < 256) (g3 : ∀ a, G.testBit a = true → ((2 ^ B.ak - 1) &&& (255 ^^^ S)).testBit a = true ∧ ∃ b, (a, b) ∈ B.hg ∧ G.testBit b = true) (g4 : ∀ P : Nat → Prop, (∀ a, P a → ((2 ^ B.ak - 1) &&& (255 ^^^ S)).testBit a = true) → (∀ a, P a → ∃ b, (a, b) ∈ B.hg ∧ P b) → ∀ a, P a → G.testBit a = true) : G = 0 ↔ cnt B.ak C = 0 := by
  have b2 := hB.2.1
  have hpw : ∀ k, k < 9 → 2 ^ k ≤ 256 := by decide
  have hA : 2 ^ B.ak - 1 < 256 := by have := hpw B.ak (by omega); omega
  have hmono : ∀ (l : List Nat) (dn C : Nat), Rch B dn l C → ∀ a, dn.testBit a = true → C.testBit a = true := by
    intro l
    induction l with
    | nil => intro dn C h a ha; rw [show C = dn from h]; exact ha
    | cons x l ih => intro dn C h a ha; exact ih _ _ h.2 a (by rw [setb_bit, ha]; rfl)
  have hdis : ∀ (l : List Nat) (dn C : Nat), Rch B dn l C → (∀ a, G.testBit a = true → dn.testBit a = false) → ∀ a, G.testBit a = true → C.testBit a = false := by
    intro l
    induction l with
    | nil => intro dn C h hd a ha; rw [show C = dn from h]; exact hd a ha
    | cons x l ih =>
      intro dn C h hd a ha
      refine ih _ _ h.2 (fun b hb => ?_) a ha
      rw [setb_bit, hd b hb]
      by_cases e : b = x
      · subst e
        obtain ⟨-, y, hy1, hy2⟩ := g3 b hb
        have := h.1.1.2.2 y hy1
        rw [hd y hy2] at this; cases this
      · simp [e]
  rw [cnt_0]
  constructor
  · intro hG0 a ha
    by_cases q : C.testBit a = true
    · exact q
    · have := g4 (fun a => a < B.ak ∧ C.testBit a = false) (fun a ⟨h1, h2⟩ => by
          rw [andn_bit hA]
          refine ⟨by rw [all_bit B.ak (by omega) a (by omega)]; exact decide_eq_true h1, ?_⟩
          by_cases z : S.testBit a = true
          · rw [hmono l S C hR a z] at h2; cases h2
          · simpa using z) (fun a ⟨h1, h2⟩ => by
          have := hC a
          by_cases hex : ∃ b, (a, b) ∈ B.hg ∧ C.testBit b = false
          · obtain ⟨b, q1, q2⟩ := hex
            exact ⟨b, q1, (hB.2.2.2.2.2 _ q1).2.1, q2⟩
          · refine absurd ⟨h1, h2, fun b hb => ?_⟩ this
            by_cases z : C.testBit b = true
            · exact z
            · exact absurd ⟨b, hb, by simpa using z⟩ hex) a ⟨ha, by simpa using q⟩
      rw [hG0, Nat.zero_testBit] at this; cases this
  · intro hall
    refine ext8 G hG (fun b _ => ?_)
    by_cases q : G.testBit b = true
    · have h1 := hdis l S C hR (fun a ha => ((andn_bit hA).mp (g3 a ha).1).2) b q
      have h2 := ((andn_bit hA).mp (g3 b q).1).1
      rw [hall b (lt_bit (by have := Nat.two_pow_pos B.ak; omega : 2 ^ B.ak - 1 < 2 ^ B.ak) h2)] at h1; cases h1
    · simpa using q
end PRNG1
