/-! PURE LAW: the model's sleeves -/
def wRem (w : Nat → Int32) (p k n : Nat) : Nat → Int32 := fun j => if j = 19 + p then nI (n - 1) else if 23 + 5 * p + k ≤ j ∧ j < 23 + 5 * p + (n - 1) then w (j + 1) else w j
def wIns (w : Nat → Int32) (p k n a : Nat) : Nat → Int32 := fun j => if j = 3 + a then 1 else if j = 19 + p then nI (n + 1) else if j = 23 + 5 * p + k then nI a else if 23 + 5 * p + k < j ∧ j ≤ 23 + 5 * p + n then w (j - 1) else w j
theorem m_placeOf_eq {w : Nat → Int32} {p : Nat} {n : Int32} {l : List Nat} (hp : p < 4) (h : SlR (fun i => w (23 + 5 * p + i)) n l) {a : Nat} (ha : a ∈ l) : m_placeOf w (nI p) (nI a) = some (nI (l.idxOf a)) := by
  obtain ⟨h1, h2, h3, h4⟩ := h
  have ha8 := h4 a ha
  have hix : l.idxOf a < l.length := List.idxOf_lt_length_of_mem ha
  have key : ∀ (fu i : Nat), i ≤ l.idxOf a → l.idxOf a - i < fu → m_placeOf_L2 (nI p) (nI a) w fu (nI i) = some (nI (l.idxOf a)) := by
    intro fu
    induction fu with
    | zero => intro i _ h; omega
    | succ fu ih =>
      intro i hi hf
      rw [m_placeOf_L2_s]
      simp (disch := omega) only [nI_lit, nI_add, pk_mul, nI_cl, nI_leI, nI_ltI, nI_eq, nI_subN, ck_nI]
      have hil : i < l.length := by omega
      have h3i := h3 i hil
      dsimp only at h3i
      rw [h3i]
      have h8 := h4 l[i] (List.getElem_mem hil)
      by_cases e : l[i] = a
      · rw [if_pos (by rw [e])]
        have : l.idxOf a ≤ i := by
          rcases Nat.lt_or_ge i (l.idxOf a) with q | q
          · have := List.not_of_lt_findIdx (p := (· == a)) (xs := l) (i := i) q
            simp [e] at this
          · exact q
        have : i = l.idxOf a := by omega
        rw [← this]
      · rw [if_neg (fun z => e ((nI_eq (by omega) (by omega)).mp z))]
        have : i ≠ l.idxOf a := by
          intro q
          apply e
          have := List.getElem_idxOf hix
          simp only [← q] at this
          exact this
        exact ih (i + 1) (by omega) (by omega)
  unfold m_placeOf
  rw [show (0 : Int32) = nI 0 from rfl, key g_fuel 0 (by omega) (by unfold g_fuel; omega), bnd_s]
theorem m_remove_L20_eq {p : Nat} (hp : p < 4) (m : Nat) (hm : m < 5) : ∀ (fu i : Nat) (w : Nat → Int32), w (19 + p) = nI m → i ≤ m → m - i < fu → m_remove_L20 (nI p) fu (nI i) w = some (fun j => if 23 + 5 * p + i ≤ j ∧ j < 23 + 5 * p + m then w (j + 1) else w j) := by
  intro fu
  induction fu with
  | zero => intro i w _ _ h; omega
  | succ fu ih =>
    intro i w hw hi hf
    rw [m_remove_L20_s]
    simp (disch := omega) only [nI_lit, nI_add, pk_mul, nI_cl, nI_leI, nI_ltI, nI_eq, nI_subN, ck_nI]
    rw [hw]
    by_cases h : m ≤ i
    · rw [if_pos ((nI_leI (by omega) (by omega)).mpr h)]
      congr 1; funext j
      rw [if_neg (by omega)]
    · rw [if_neg (fun z => h ((nI_leI (by omega) (by omega)).mp z))]
      rw [ih (i + 1) _ (by rw [upd_n (by omega)]; exact hw) (by omega) (by omega)]
      congr 1; funext j
      by_cases e1 : 23 + 5 * p + (i + 1) ≤ j ∧ j < 23 + 5 * p + m
      · rw [if_pos e1, if_pos (by omega), upd_n (by omega)]
      · rw [if_neg e1]
        by_cases e2 : j = 23 + 5 * p + i
        · subst e2; rw [upd_s, if_pos (by omega)]
        · rw [upd_n e2, if_neg (by omega)]
theorem m_remove_eq {w : Nat → Int32} {p : Nat} {l : List Nat} (hp : p < 4) (h : SlR (fun i => w (23 + 5 * p + i)) (w (19 + p)) l) {a : Nat} (ha : a ∈ l) : m_remove w (nI p) (nI a) = some (wRem w p (l.idxOf a) l.length) := by
  have h1 := h.1
  have h2 := h.2.1
  have hix : l.idxOf a < l.length := List.idxOf_lt_length_of_mem ha
  unfold m_remove
  simp (disch := omega) only [nI_lit, nI_add, pk_mul, nI_cl, nI_leI, nI_ltI, nI_eq, nI_subN, ck_nI]
  rw [h1]
  simp (disch := omega) only [nI_lit, nI_add, pk_mul, nI_cl, nI_leI, nI_ltI, nI_eq, nI_subN]
  rw [m_placeOf_eq (n := w (19 + p)) hp (h.congr (fun i hi => upd_n (by omega))) ha, bnd_s, m_remove_L20_eq hp (l.length - 1) (by omega) g_fuel _ _ upd_s (by omega) (by unfold g_fuel; omega), bnd_s]
  congr 1; funext j
  unfold wRem
  by_cases e : j = 19 + p
  · subst e; rw [if_neg (by omega), if_pos rfl, upd_s]
  · rw [if_neg e]
    by_cases e1 : 23 + 5 * p + l.idxOf a ≤ j ∧ j < 23 + 5 * p + (l.length - 1)
    · rw [if_pos e1, if_pos e1, upd_n (by omega)]
    · rw [if_neg e1, if_neg e1, upd_n e]
theorem m_insert_L11_eq {p : Nat} (hp : p < 4) (k : Nat) : ∀ (fu i : Nat) (w : Nat → Int32), k ≤ i → i < 5 → i - k < fu → m_insert_L11 (nI p) (nI k) fu (nI i) w = some (fun j => if 23 + 5 * p + k < j ∧ j ≤ 23 + 5 * p + i then w (j - 1) else w j) := by
  intro fu
  induction fu with
  | zero => intro i w _ _ h; omega
  | succ fu ih =>
    intro i w h1 h2 h3
    rw [m_insert_L11_s]
    by_cases h : i ≤ k
    · rw [if_pos ((nI_leI (by omega) (by omega)).mpr h)]
      congr 1; funext j
      rw [if_neg (by omega)]
    · rw [if_neg (fun z => h ((nI_leI (by omega) (by omega)).mp z)), nI_m1 (by omega)]
      simp (disch := omega) only [nI_lit, nI_add, pk_mul, nI_cl, nI_leI, nI_ltI, nI_eq, nI_subN, ck_nI]
      rw [ih (i - 1) _ (by omega) (by omega) (by omega)]
      congr 1; funext j
      by_cases e1 : 23 + 5 * p + k < j ∧ j ≤ 23 + 5 * p + (i - 1)
      · rw [if_pos e1, if_pos (by omega), upd_n (by omega)]
      · rw [if_neg e1]
        by_cases e2 : j = 23 + 5 * p + i
        · subst e2; rw [upd_s, if_pos (by omega)]
        · rw [upd_n e2, if_neg (by omega)]
theorem m_insert_eq {w : Nat → Int32} {p n k a : Nat} (hp : p < 4) (hn : w (19 + p) = nI n) (hn5 : n < 5) (hk : k ≤ n) (ha : a < 8) : m_insert w (nI p) (nI k) (nI a) = some (wIns w p k n a) := by
  unfold m_insert
  simp (disch := omega) only [nI_lit, nI_add, pk_mul, nI_cl, nI_leI, nI_ltI, nI_eq, nI_subN, ck_nI]
  rw [hn, m_insert_L11_eq hp k g_fuel n w hk hn5 (by unfold g_fuel; omega), bnd_s]
  congr 1; funext j
  unfold wIns
  by_cases e : j = 3 + a
  · subst e; rw [upd_s, if_pos rfl]; rfl
  · rw [upd_n e, if_neg e]
    by_cases e1 : j = 19 + p
    · subst e1
      rw [upd_s, if_pos rfl, upd_n (by omega), if_neg (by omega), hn]
      exact nI_add n 1
    · rw [upd_n e1, if_neg e1]
      by_cases e2 : j = 23 + 5 * p + k
      · subst e2; rw [upd_s, if_pos rfl]
      · rw [upd_n e2, if_neg e2]
/-- whose sleeve: the last that has a -/
theorem m_sleeveOf_L16_eq {w : Nat → Int32} {p : Nat} (hp : p < 4) {l : List Nat} (h : SlR (fun i => w (23 + 5 * p + i)) (w (19 + p)) l) {a : Nat} (ha : a < 8) : ∀ (fu i : Nat) (f : Int32), i ≤ l.length → l.length - i < fu → m_sleeveOf_L16 (nI a) (nI p) w fu f (nI i) = some (if a ∈ l.drop i then nI p else f) := by
  obtain ⟨h1, h2, h3, h4⟩ := h
  intro fu
  induction fu with
  | zero => intro i f _ h; omega
  | succ fu ih =>
    intro i f hi hf
    rw [m_sleeveOf_L16_s]
    simp (disch := omega) only [nI_lit, nI_add, pk_mul, nI_cl, nI_leI, nI_ltI, nI_eq, nI_subN, ck_nI]
    rw [h1]
    by_cases hc : l.length ≤ i
    · rw [if_pos ((nI_leI (by omega) (by omega)).mpr hc), List.drop_eq_nil_of_le hc, if_neg (by simp)]
    · rw [if_neg (fun z => hc ((nI_leI (by omega) (by omega)).mp z))]
      have hil : i < l.length := by omega
      have h3i := h3 i hil
      dsimp only at h3i
      have h8 := h4 l[i] (List.getElem_mem hil)
      rw [h3i, List.drop_eq_getElem_cons hil]
      by_cases e : l[i] = a
      · rw [if_pos (by rw [e]), ih (i + 1) _ (by omega) (by omega), if_pos (List.mem_cons.mpr (Or.inl e.symm))]
        split <;> rfl
      · rw [if_neg (fun z => e ((nI_eq (by omega) (by omega)).mp z)), ih (i + 1) _ (by omega) (by omega)]
        by_cases q : a ∈ l.drop (i + 1)
        · rw [if_pos q, if_pos (List.mem_cons_of_mem _ q)]
        · rw [if_neg q, if_neg (fun z => by rcases List.mem_cons.mp z with z | z; exact e z.symm; exact q z)]
theorem m_sleeveOf_eq {w : Nat → Int32} {P : Nat} (hP : P ≤ 4) {sl : Nat → List Nat} (h : ∀ p, p < 4 → SlR (fun i => w (23 + 5 * p + i)) (w (19 + p)) (sl p)) {a : Nat} (ha : a < 8) (hu : ∀ p q, a ∈ sl p → a ∈ sl q → p = q) : (∀ p, p < P → a ∈ sl p → m_sleeveOf w (nI P) (nI a) = some (nI p)) ∧ ((∀ p, p < P → a ∉ sl p) → m_sleeveOf w (nI P) (nI a) = some (-9)) := by
  have key : ∀ (fu i : Nat) (f : Int32), i ≤ P → P - i < fu → (∀ p, i ≤ p → p < P → a ∈ sl p → m_sleeveOf_L5 (nI a) w (nI P) fu f (nI i) = some (nI p)) ∧ ((∀ p, i ≤ p → p < P → a ∉ sl p) → m_sleeveOf_L5 (nI a) w (nI P) fu f (nI i) = some f) := by
    intro fu
    induction fu with
    | zero => intro i f _ h; omega
    | succ fu ih =>
      intro i f hi hf
      rw [m_sleeveOf_L5_s]
      by_cases hc : P ≤ i
      · rw [if_pos ((nI_leI (by omega) (by omega)).mpr hc)]
        exact ⟨fun p h1 h2 => by omega, fun _ => rfl⟩
      · rw [if_neg (fun z => hc ((nI_leI (by omega) (by omega)).mp z))]
        have hl5 := (h i (by omega)).2.1
        rw [show (0 : Int32) = nI 0 from rfl, m_sleeveOf_L16_eq (by omega) (h i (by omega)) ha g_fuel 0 f (by omega) (by unfold g_fuel; omega), bnd_s, List.drop_zero]
        simp (disch := omega) only [nI_lit, nI_add, pk_mul, nI_cl, nI_leI, nI_ltI, nI_eq, nI_subN]
        by_cases e : a ∈ sl i
        · rw [if_pos e]
          obtain ⟨I1, I2⟩ := ih (i + 1) (nI i) (by omega) (by omega)
          have hno : ∀ p, i + 1 ≤ p → p < P → a ∉ sl p := fun p h1 _ q => by
            have := hu i p e q; omega
          refine ⟨fun p h1 h2 h3 => ?_, fun q => absurd e (q i (Nat.le_refl _) (by omega))⟩
          rw [hu p i h3 e]; exact I2 hno
        · rw [if_neg e]
          obtain ⟨I1, I2⟩ := ih (i + 1) f (by omega) (by omega)
          refine ⟨fun p h1 h2 h3 => ?_, fun q => I2 (fun p h1 h2 => q p (by omega) h2)⟩
          have : p ≠ i := fun z => e (z ▸ h3)
          exact I1 p (by omega) h2 h3
  unfold m_sleeveOf
  obtain ⟨K1, K2⟩ := key g_fuel 0 (-9) (by omega) (by unfold g_fuel; omega)
  rw [show (0 : Int32) = nI 0 from rfl]
  refine ⟨fun p h1 h2 => ?_, fun q => ?_⟩
  · rw [K1 p (by omega) h1 h2, bnd_s]
  · rw [K2 (fun p _ h2 => q p h2), bnd_s]
theorem x_sleeveOf_eq {many : Nat → Int32} {slip : Nat → Nat → Int32} {sl : Nat → List Nat} (h : ∀ p, p < 4 → SlR (slip p) (many p) (sl p)) (hd : ∀ p, (sl p).Nodup) {a : Nat} (ha : a < 8) (hu : ∀ p q, a ∈ sl p → a ∈ sl q → p = q) : (∀ p, p < 4 → a ∈ sl p → x_sleeveOf many slip (nI a) = some (nI p)) ∧ ((∀ p, p < 4 → a ∉ sl p) → x_sleeveOf many slip (nI a) = some (-9)) := by
  have key : ∀ (fu i : Nat) (f : Int32), i ≤ 4 → 4 - i < fu → (∀ p, i ≤ p → p < 4 → a ∈ sl p → x_sleeveOf_L5 (nI a) many slip fu f (nI i) = some (nI p)) ∧ ((∀ p, i ≤ p → p < 4 → a ∉ sl p) → x_sleeveOf_L5 (nI a) many slip fu f (nI i) = some f) := by
    intro fu
    induction fu with
    | zero => intro i f _ h; omega
    | succ fu ih =>
      intro i f hi hf
      rw [x_sleeveOf_L5_s]
      by_cases hc : 4 ≤ i
      · rw [if_pos (show (4 : Int32) ≤ nI i from (nI_leI (a := 4) (by omega) (by omega)).mpr hc)]
        exact ⟨fun p h1 h2 => by omega, fun _ => rfl⟩
      · rw [if_neg (show ¬ (4 : Int32) ≤ nI i from fun z => hc ((nI_leI (a := 4) (by omega) (by omega)).mp z))]
        simp (disch := omega) only [nI_lit, nI_add, pk_mul, nI_cl, nI_leI, nI_ltI, nI_eq, nI_subN, ck_nI]
        by_cases e : a ∈ sl i
        · rw [x_placeOf_yes (h i (by omega)) ha e (hd i), bnd_s]
          have hix : (sl i).idxOf a < (sl i).length := List.idxOf_lt_length_of_mem e
          have hl5 := (h i (by omega)).2.1
          rw [if_neg (show nI ((sl i).idxOf a) ≠ -nI 9 from nI_m9 (by omega))]
          obtain ⟨I1, I2⟩ := ih (i + 1) (nI i) (by omega) (by omega)
          have hno : ∀ p, i + 1 ≤ p → p < 4 → a ∉ sl p := fun p h1 _ q => by
            have := hu i p e q; omega
          refine ⟨fun p h1 h2 h3 => ?_, fun q => absurd e (q i (Nat.le_refl _) (by omega))⟩
          rw [hu p i h3 e]; exact I2 hno
        · rw [x_placeOf_no (h i (by omega)) ha e, bnd_s, if_pos (show (-9 : Int32) = -nI 9 from rfl)]
          obtain ⟨I1, I2⟩ := ih (i + 1) f (by omega) (by omega)
          refine ⟨fun p h1 h2 h3 => ?_, fun q => I2 (fun p h1 h2 => q p (by omega) h2)⟩
          have : p ≠ i := fun z => e (z ▸ h3)
          exact I1 p (by omega) h2 h3
  unfold x_sleeveOf
  obtain ⟨K1, K2⟩ := key g_fuel 0 (-9) (by omega) (by unfold g_fuel; omega)
  rw [show (0 : Int32) = nI 0 from rfl]
  refine ⟨fun p h1 h2 => ?_, fun q => ?_⟩
  · rw [K1 p (by omega) h1 h2, bnd_s]
  · rw [K2 (fun p _ h2 => q p h2), bnd_s]
