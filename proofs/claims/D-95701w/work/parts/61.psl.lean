/-! PURE LAW: sleeves as lists -/
/-- a row g of which n stand is the list l -/
def SlR (g : Nat → Int32) (n : Int32) (l : List Nat) : Prop := n = nI l.length ∧ l.length ≤ 5 ∧ (∀ i, (h : i < l.length) → g i = nI l[i]) ∧ ∀ a ∈ l, a < 8
theorem x_pin_L5_eq (at_ : Nat) : ∀ (n i : Nat) (f : Nat → Int32), at_ ≤ i → i < 5 → i - at_ < n → x_pin_L5 (nI at_) n (nI i) f = some (fun j => if at_ < j ∧ j ≤ i then f (j - 1) else f j) := by
  intro n
  induction n with
  | zero => intro i f _ _ h; omega
  | succ n ih =>
    intro i f h1 h2 h3
    rw [x_pin_L5_s]
    by_cases h : i ≤ at_
    · rw [if_pos ((nI_leI (by omega) (by omega)).mpr h)]
      congr 1; funext j
      rw [if_neg (by omega)]
    · rw [if_neg (fun z => h ((nI_leI (by omega) (by omega)).mp z)), nI_m1 (by omega)]
      simp (disch := omega) only [nI_lit, nI_add, pk_mul, nI_cl, nI_leI, nI_ltI, nI_eq, nI_subN, ck_nI]
      rw [ih (i - 1) _ (by omega) (by omega) (by omega)]
      congr 1; funext j
      by_cases e1 : at_ < j ∧ j ≤ i - 1
      · rw [if_pos e1, if_pos (by omega), upd_n (by omega)]
      · rw [if_neg e1]
        by_cases e2 : j = i
        · subst e2; rw [upd_s, if_pos (by omega)]
        · rw [upd_n e2, if_neg (by omega)]
theorem x_unpin_L12_eq (m : Nat) (hm : m < 5) : ∀ (n i : Nat) (f : Nat → Int32), i ≤ m → m - i < n → x_unpin_L12 (nI m) n (nI i) f = some (fun j => if i ≤ j ∧ j < m then f (j + 1) else f j) := by
  intro n
  induction n with
  | zero => intro i f _ h; omega
  | succ n ih =>
    intro i f h1 h3
    rw [x_unpin_L12_s]
    by_cases h : m ≤ i
    · rw [if_pos ((nI_leI (by omega) (by omega)).mpr h)]
      congr 1; funext j
      rw [if_neg (by omega)]
    · rw [if_neg (fun z => h ((nI_leI (by omega) (by omega)).mp z))]
      simp (disch := omega) only [nI_lit, nI_add, pk_mul, nI_cl, nI_leI, nI_ltI, nI_eq, nI_subN, ck_nI]
      rw [ih (i + 1) _ (by omega) (by omega)]
      congr 1; funext j
      by_cases e1 : i + 1 ≤ j ∧ j < m
      · rw [if_pos e1, if_pos (by omega), upd_n (by omega)]
      · rw [if_neg e1]
        by_cases e2 : j = i
        · subst e2; rw [upd_s, if_pos (by omega)]
        · rw [upd_n e2, if_neg (by omega)]
theorem SlR.ins {g : Nat → Int32} {n : Int32} {l : List Nat} {k a : Nat} (h : SlR g n l) (hk : k ≤ l.length) (hl : l.length < 5) (ha : a < 8) : SlR (fun j => if j = k then nI a else if k < j ∧ j ≤ l.length then g (j - 1) else g j) (nI (l.length + 1)) (l.insertIdx k a) := by
  obtain ⟨h1, h2, h3, h4⟩ := h
  have e := List.length_insertIdx_of_le_length hk a
  refine ⟨by rw [e], by omega, ?_, ?_⟩
  · intro i hi
    rw [e] at hi
    dsimp only
    by_cases c1 : i = k
    · subst c1; rw [if_pos rfl, List.getElem_insertIdx_self]
    · rw [if_neg c1]
      by_cases c2 : k < i
      · rw [if_pos (by omega), List.getElem_insertIdx_of_gt c2, h3]
      · rw [if_neg (by omega), List.getElem_insertIdx_of_lt (by omega), h3]
  · intro b hb
    rcases (List.mem_insertIdx hk).mp hb with e | e
    · omega
    · exact h4 b e
theorem SlR.era {g : Nat → Int32} {n : Int32} {l : List Nat} {k : Nat} (h : SlR g n l) (hk : k < l.length) : SlR (fun j => if k ≤ j ∧ j < l.length - 1 then g (j + 1) else g j) (nI (l.length - 1)) (l.eraseIdx k) := by
  obtain ⟨h1, h2, h3, h4⟩ := h
  have e := List.length_eraseIdx_of_lt hk
  refine ⟨by rw [e], by omega, ?_, fun b hb => h4 b (List.mem_of_mem_eraseIdx hb)⟩
  intro i hi
  rw [e] at hi
  dsimp only
  rw [List.getElem_eraseIdx]
  by_cases c2 : k ≤ i
  · rw [if_pos (by omega), dif_neg (by omega), h3]
  · rw [if_neg (by omega), dif_pos (by omega), h3]
theorem SlR.congr {g g' : Nat → Int32} {n : Int32} {l : List Nat} (h : SlR g n l) (e : ∀ i, i < l.length → g' i = g i) : SlR g' n l :=
  ⟨h.1, h.2.1, fun i hi => by rw [e i hi]; exact h.2.2.1 i hi, h.2.2.2⟩
theorem x_pin_eq {g : Nat → Int32} {n : Int32} {l : List Nat} {k a : Nat} (h : SlR g n l) (hk : k ≤ l.length) (hl : l.length < 5) (ha : a < 8) : ∃ g', x_pin g n (nI a) (nI k) = some (g', nI (l.length + 1)) ∧ SlR g' (nI (l.length + 1)) (l.insertIdx k a) := by
  refine ⟨_, ?_, h.ins hk hl ha⟩
  unfold x_pin
  rw [h.1, x_pin_L5_eq k g_fuel l.length g hk (by omega) (by unfold g_fuel; omega), bnd_s]
  simp (disch := omega) only [nI_lit, nI_add, pk_mul, nI_cl, nI_leI, nI_ltI, nI_eq, nI_subN, ck_nI]
  congr 2
theorem x_unpin_eq {g : Nat → Int32} {n : Int32} {l : List Nat} {k : Nat} (h : SlR g n l) (hk : k < l.length) : ∃ g', x_unpin g n (nI k) = some (g', nI (l.length - 1)) ∧ SlR g' (nI (l.length - 1)) (l.eraseIdx k) := by
  refine ⟨_, ?_, h.era hk⟩
  have h2 := h.2.1
  unfold x_unpin ltv
  rw [h.1]
  simp (disch := omega) only [nI_lit, nI_add, pk_mul, nI_cl, nI_leI, nI_ltI, nI_eq, nI_subN]
  rw [x_unpin_L12_eq (l.length - 1) (by omega) g_fuel k g (by omega) (by unfold g_fuel; omega), bnd_s]
/-- the last place of a, or f -/
theorem x_placeOf_L5_eq {g : Nat → Int32} {n : Int32} {l : List Nat} (h : SlR g n l) (a : Nat) (ha : a < 8) : ∀ (fu i : Nat) (f : Int32), i ≤ l.length → l.length - i < fu → (a ∉ l.drop i → x_placeOf_L5 (nI a) g n fu f (nI i) = some f) ∧ (a ∈ l.drop i → ∃ j, ∃ hj : j < l.length, i ≤ j ∧ l[j] = a ∧ x_placeOf_L5 (nI a) g n fu f (nI i) = some (nI j)) := by
  obtain ⟨h1, h2, h3, h4⟩ := h
  intro fu
  induction fu with
  | zero => intro i f _ h; omega
  | succ fu ih =>
    intro i f hi hf
    rw [x_placeOf_L5_s, h1]
    by_cases hc : l.length ≤ i
    · rw [if_pos ((nI_leI (by omega) (by omega)).mpr hc)]
      refine ⟨fun _ => rfl, fun q => ?_⟩
      rw [List.drop_eq_nil_of_le hc] at q; cases q
    · rw [if_neg (fun z => hc ((nI_leI (by omega) (by omega)).mp z))]
      simp (disch := omega) only [nI_lit, nI_add, pk_mul, nI_cl, nI_leI, nI_ltI, nI_eq, nI_subN, ck_nI]
      have hil : i < l.length := by omega
      rw [h3 i hil]
      have hd := List.drop_eq_getElem_cons hil
      have h48 := h4 l[i] (List.getElem_mem hil)
      rw [h1] at ih
      obtain ⟨A1, B1⟩ := ih (i + 1) f (by omega) (by omega)
      obtain ⟨A2, B2⟩ := ih (i + 1) (nI i) (by omega) (by omega)
      rw [hd]
      by_cases e : l[i] = a
      · rw [if_pos (by rw [e])]
        refine ⟨fun q => absurd (List.mem_cons.mpr (Or.inl e.symm)) q, fun _ => ?_⟩
        by_cases q : a ∈ l.drop (i + 1)
        · obtain ⟨j, hj, e1, e2, e3⟩ := B2 q
          exact ⟨j, hj, by omega, e2, e3⟩
        · exact ⟨i, hil, by omega, e, A2 q⟩
      · rw [if_neg (fun z => e ((nI_eq (by omega) (by omega)).mp z))]
        refine ⟨fun q => A1 (fun z => q (List.mem_cons_of_mem _ z)), fun q => ?_⟩
        rcases List.mem_cons.mp q with q | q
        · exact absurd q.symm e
        · obtain ⟨j, hj, e1, e2, e3⟩ := B1 q
          exact ⟨j, hj, by omega, e2, e3⟩
theorem x_placeOf_no {g : Nat → Int32} {n : Int32} {l : List Nat} (h : SlR g n l) {a : Nat} (ha : a < 8) (hn : a ∉ l) : x_placeOf g n (nI a) = some (-9) := by
  have h2 := h.2.1
  unfold x_placeOf
  have := (x_placeOf_L5_eq h a ha g_fuel 0 (-9) (by omega) (by unfold g_fuel; omega)).1 (by simpa using hn)
  rw [show (0 : Int32) = nI 0 from rfl, this, bnd_s]
/-- a's place; of a list without doubles -/
theorem x_placeOf_yes {g : Nat → Int32} {n : Int32} {l : List Nat} (h : SlR g n l) {a : Nat} (ha : a < 8) (hn : a ∈ l) (hd : l.Nodup) : x_placeOf g n (nI a) = some (nI (l.idxOf a)) := by
  have h2 := h.2.1
  unfold x_placeOf
  obtain ⟨j, hj, -, e2, e3⟩ := (x_placeOf_L5_eq h a ha g_fuel 0 (-9) (by omega) (by unfold g_fuel; omega)).2 (by simpa using hn)
  rw [show (0 : Int32) = nI 0 from rfl, e3, bnd_s]
  have : l.idxOf a = j := by
    rw [← e2]; exact List.Nodup.idxOf_getElem hd j hj
  rw [this]
