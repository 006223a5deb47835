/-! PURE LAW: what pinning, taking off and undoing come to -/
theorem ins_era : ∀ {l : List Nat} {i : Nat} (h : i < l.length), (l.eraseIdx i).insertIdx i l[i] = l
  | a :: l, 0, _ => rfl
  | a :: l, i + 1, h => by
    rw [List.eraseIdx_cons_succ, List.getElem_cons_succ, List.insertIdx_succ_cons, ins_era]
theorem idx_ins {l : List Nat} (h : l.Nodup) {a k : Nat} (ha : a ∉ l) (hk : k ≤ l.length) : (l.insertIdx k a).idxOf a = k := by
  have hl := List.length_insertIdx_of_le_length hk a
  have := List.Nodup.idxOf_getElem (nodup_ins h ha k) k (by omega)
  rw [List.getElem_insertIdx_self] at this
  exact this
theorem ins_idx {l : List Nat} {a : Nat} (ha : a ∈ l) : (l.eraseIdx (l.idxOf a)).insertIdx (l.idxOf a) a = l := by
  have hix : l.idxOf a < l.length := List.idxOf_lt_length_of_mem ha
  have := ins_era hix
  rw [List.getElem_idxOf hix] at this
  exact this
/-- two cores are one -/
theorem core_eq {c c' : Core} (h1 : c.day = c'.day) (h2 : c.won = c'.won) (h3 : c.lost = c'.lost) (h4 : ∀ a, c.fate a = c'.fate a) (h5 : ∀ p, c.sl p = c'.sl p) : c = c' := by
  obtain ⟨a1, a2, a3, a4, a5⟩ := c
  obtain ⟨b1, b2, b3, b4, b5⟩ := c'
  have e4 : a4 = b4 := funext h4
  have e5 : a5 = b5 := funext h5
  have e1 : a1 = b1 := h1
  have e2 : a2 = b2 := h2
  have e3 : a3 = b3 := h3
  subst e1; subst e2; subst e3; subst e4; subst e5; rfl
theorem pin_sl (c : Core) (p k a q : Nat) : (c.pin p k a).sl q = if q = p then (c.sl p).insertIdx k a else c.sl q := rfl
theorem pin_fate (c : Core) (p k a b : Nat) : (c.pin p k a).fate b = if b = a then 1 else c.fate b := rfl
theorem rem_sl (c : Core) (p a f q : Nat) : (c.rem p a f).sl q = if q = p then (c.sl p).eraseIdx ((c.sl p).idxOf a) else c.sl q := rfl
theorem rem_fate (c : Core) (p a f b : Nat) : (c.rem p a f).fate b = if b = a then f else c.fate b := rfl
/-- a pin is taken back -/
theorem pin_rem {B : Bk} {c : Core} (h : c.ok B) {p k a : Nat} (ha : c.fate a ≠ 1) (hk : k ≤ (c.sl p).length) : (c.pin p k a).rem p a (c.fate a) = c := by
  have hn : a ∉ c.sl p := fun z => ha (h.2.2.2.2.2.1 p a z).2
  refine core_eq rfl rfl rfl (fun b => ?_) (fun q => ?_)
  · rw [rem_fate, pin_fate]
    by_cases e : b = a
    · rw [if_pos e, e]
    · rw [if_neg e, if_neg e]
  · rw [rem_sl, pin_sl, pin_sl]
    by_cases e : q = p
    · rw [if_pos e, if_pos rfl, idx_ins (h.2.2.1 p) hn hk, List.eraseIdx_insertIdx_self, e]
    · rw [if_neg e, if_neg e]
theorem rem_pin {B : Bk} {c : Core} (h : c.ok B) {p a f : Nat} (ha : a ∈ c.sl p) : (c.rem p a f).pin p ((c.sl p).idxOf a) a = c := by
  have hf := (h.2.2.2.2.2.1 p a ha).2
  refine core_eq rfl rfl rfl (fun b => ?_) (fun q => ?_)
  · rw [pin_fate, rem_fate]
    by_cases e : b = a
    · rw [if_pos e, e, hf]
    · rw [if_neg e, if_neg e]
  · rw [pin_sl, rem_sl, rem_sl]
    by_cases e : q = p
    · rw [if_pos e, if_pos rfl, ins_idx ha, e]
    · rw [if_neg e, if_neg e]
/-- the class's town -/
theorem XTown.pin {c : Core} {many : Nat → Int32} {slip : Nat → Nat → Int32} {became : Nat → Int32} {day won lost : Int32} (h : XTown c many slip became day won lost) {p k a : Nat} {g : Nat → Int32} {n : Int32} (hg : SlR g n ((c.sl p).insertIdx k a)) : XTown (c.pin p k a) (upd many p n) (va_up slip p g) (upd became a 1) day won lost := by
  obtain ⟨h1, h2, h3, h4, h5⟩ := h
  refine ⟨h1, h2, h3, fun b hb => ?_, fun q hq => ?_⟩
  · rw [pin_fate]
    by_cases e : b = a
    · rw [e, upd_s, if_pos rfl]; rfl
    · rw [upd_n e, if_neg e]; exact h4 b hb
  · rw [pin_sl]
    by_cases e : q = p
    · subst e; rw [va_up_self, upd_s, if_pos rfl]; exact hg
    · rw [va_up_ne _ _ e, upd_n e, if_neg e]; exact h5 q hq
theorem XTown.rem {c : Core} {many : Nat → Int32} {slip : Nat → Nat → Int32} {became : Nat → Int32} {day won lost : Int32} (h : XTown c many slip became day won lost) {p a f : Nat} {g : Nat → Int32} {n : Int32} (hg : SlR g n ((c.sl p).eraseIdx ((c.sl p).idxOf a))) : XTown (c.rem p a f) (upd many p n) (va_up slip p g) (upd became a (nI f)) day won lost := by
  obtain ⟨h1, h2, h3, h4, h5⟩ := h
  refine ⟨h1, h2, h3, fun b hb => ?_, fun q hq => ?_⟩
  · rw [rem_fate]
    by_cases e : b = a
    · rw [e, upd_s, if_pos rfl]
    · rw [upd_n e, if_neg e]; exact h4 b hb
  · rw [rem_sl]
    by_cases e : q = p
    · subst e; rw [va_up_self, upd_s, if_pos rfl]; exact hg
    · rw [va_up_ne _ _ e, upd_n e, if_neg e]; exact h5 q hq
/-- the model's town -/
theorem MTown.congr {c : Core} {w w' : Nat → Int32} (h : MTown c w) (e : ∀ j, j < 11 ∨ (19 ≤ j ∧ j < 43) → w' j = w j) : MTown c w' := by
  obtain ⟨h1, h2, h3, h4, h5⟩ := h
  refine ⟨by rw [e 0 (by omega)]; exact h1, by rw [e 1 (by omega)]; exact h2, by rw [e 2 (by omega)]; exact h3, fun a ha => by rw [e _ (by omega)]; exact h4 a ha, fun p hp => ?_⟩
  rw [e (19 + p) (by omega)]
  have h9 := (h5 p hp).2.1
  exact (h5 p hp).congr (fun i hi => e _ (by omega))
theorem MHist.congr {h : Hist} {w w' : Nat → Int32} (hl : h.length ≤ 12) (H : MHist h w) (e : ∀ j, 43 ≤ j ∧ j < 92 → w' j = w j) : MHist h w' := by
  refine ⟨by rw [e 43 (by omega)]; exact H.1, fun k hk => ?_⟩
  obtain ⟨q1, q2, q3, q4⟩ := H.2 k hk
  exact ⟨by rw [e _ (by omega)]; exact q1, by rw [e _ (by omega)]; exact q2, by rw [e _ (by omega)]; exact q3, fun z => by rw [e _ (by omega)]; exact q4 z⟩
theorem wIns_o {w : Nat → Int32} {p k n a j : Nat} (h1 : j ≠ 3 + a) (h2 : j ≠ 19 + p) (h3 : j < 23 + 5 * p ∨ 28 + 5 * p ≤ j) (hn : n < 5) (hk : k ≤ n) : wIns w p k n a j = w j := by
  unfold wIns; rw [if_neg h1, if_neg h2, if_neg (by omega), if_neg (by omega)]
theorem wRem_o {w : Nat → Int32} {p k n j : Nat} (h2 : j ≠ 19 + p) (h3 : j < 23 + 5 * p ∨ 28 + 5 * p ≤ j) (hn : n ≤ 5) : wRem w p k n j = w j := by
  unfold wRem; rw [if_neg h2, if_neg (by omega)]
theorem MTown.pin {c : Core} {w : Nat → Int32} (h : MTown c w) {p k a : Nat} (hp : p < 4) (hk : k ≤ (c.sl p).length) (hl : (c.sl p).length < 5) (ha : a < 8) : MTown (c.pin p k a) (wIns w p k (c.sl p).length a) := by
  obtain ⟨h1, h2, h3, h4, h5⟩ := h
  refine ⟨by rw [wIns_o (by omega) (by omega) (by omega) hl hk]; exact h1, by rw [wIns_o (by omega) (by omega) (by omega) hl hk]; exact h2, by rw [wIns_o (by omega) (by omega) (by omega) hl hk]; exact h3, fun b hb => ?_, fun q hq => ?_⟩
  · rw [pin_fate]
    by_cases e : b = a
    · subst e; unfold wIns; rw [if_pos rfl, if_pos rfl]; rfl
    · rw [wIns_o (by omega) (by omega) (by omega) hl hk, if_neg e]; exact h4 b hb
  · rw [pin_sl]
    by_cases e : q = p
    · subst e
      rw [if_pos rfl]
      have := (h5 q hq).ins hk hl ha
      have e1 : wIns w q k (c.sl q).length a (19 + q) = nI ((c.sl q).length + 1) := by
        unfold wIns; rw [if_neg (by omega), if_pos rfl]
      rw [e1]
      have hlen := List.length_insertIdx_of_le_length hk a
      refine this.congr (fun i hi => ?_)
      unfold wIns
      rw [if_neg (by omega), if_neg (by omega)]
      by_cases e2 : i = k
      · rw [if_pos (by omega), if_pos e2]
      · rw [if_neg (by omega), if_neg e2]
        by_cases e3 : k < i ∧ i ≤ (c.sl q).length
        · rw [if_pos (by omega), if_pos e3]; congr 1; omega
        · rw [if_neg (by omega), if_neg e3]
    · rw [if_neg e, wIns_o (by omega) (by omega) (by omega) hl hk]
      have h9 := (h5 q hq).2.1
      exact (h5 q hq).congr (fun i hi => wIns_o (by omega) (by omega) (by omega) hl hk)
theorem MTown.rem {c : Core} {w : Nat → Int32} (h : MTown c w) {p a f : Nat} (hp : p < 4) (ha : a ∈ c.sl p) (ha8 : a < 8) : MTown (c.rem p a f) (upd (wRem w p ((c.sl p).idxOf a) (c.sl p).length) (3 + a) (nI f)) := by
  obtain ⟨h1, h2, h3, h4, h5⟩ := h
  have hl := (h5 p hp).2.1
  have hix : (c.sl p).idxOf a < (c.sl p).length := List.idxOf_lt_length_of_mem ha
  refine ⟨by rw [upd_n (by omega), wRem_o (by omega) (by omega) hl]; exact h1, by rw [upd_n (by omega), wRem_o (by omega) (by omega) hl]; exact h2, by rw [upd_n (by omega), wRem_o (by omega) (by omega) hl]; exact h3, fun b hb => ?_, fun q hq => ?_⟩
  · rw [rem_fate]
    by_cases e : b = a
    · subst e; rw [upd_s, if_pos rfl]
    · rw [upd_n (by omega), wRem_o (by omega) (by omega) hl, if_neg e]; exact h4 b hb
  · rw [rem_sl, upd_n (by omega)]
    by_cases e : q = p
    · subst e
      rw [if_pos rfl]
      have := (h5 q hq).era hix
      have e1 : wRem w q ((c.sl q).idxOf a) (c.sl q).length (19 + q) = nI ((c.sl q).length - 1) := by
        unfold wRem; rw [if_pos rfl]
      rw [e1]
      have hlen := List.length_eraseIdx_of_lt hix
      refine this.congr (fun i hi => ?_)
      rw [upd_n (by omega)]
      unfold wRem
      rw [if_neg (by omega)]
      by_cases e3 : (c.sl q).idxOf a ≤ i ∧ i < (c.sl q).length - 1
      · rw [if_pos (by omega), if_pos e3]; rfl
      · rw [if_neg (by omega), if_neg e3]
    · rw [if_neg e, wRem_o (by omega) (by omega) hl]
      have h9 := (h5 q hq).2.1
      exact (h5 q hq).congr (fun i hi => by rw [upd_n (by omega)]; exact wRem_o (by omega) (by omega) hl)
/-- history, a step on and a step back -/
theorem rel_push {c c' : Core} {h : Hist} {e : Deed} {a : Nat} (H : Rel c' (hpush e c h) a) : c'.fate a = 1 ∨ Rel c h a := by
  rcases H with H | ⟨q, hq, h1⟩
  · exact Or.inl H
  · rcases List.mem_cons.mp hq with e1 | e1
    · rw [e1] at h1; exact Or.inr (Or.inl h1)
    · exact Or.inr (Or.inr ⟨q, List.mem_of_mem_take e1, h1⟩)
theorem rel_pop {c c0 : Core} {h : Hist} {e : Deed} {a : Nat} (H : Rel c0 h a) : Rel c ((e, c0) :: h) a := by
  rcases H with H | ⟨q, hq, h1⟩
  · exact Or.inr ⟨_, List.mem_cons_self, H⟩
  · exact Or.inr ⟨q, List.mem_cons_of_mem _ hq, h1⟩
theorem XHist.pop {e : Deed} {c0 : Core} {h : Hist} {what which whose place : Nat → Int32} {deeds : Int32} (H : XHist ((e, c0) :: h) what which whose place deeds) : XHist h what which whose place (nI h.length) := by
  obtain ⟨h1, h2, h3⟩ := H
  have hl : List.length ((e, c0) :: h) = h.length + 1 := rfl
  refine ⟨rfl, by omega, fun k hk => ?_⟩
  have q := h3 (k + 1) (by omega)
  rw [show List.length ((e, c0) :: h) - 1 - (k + 1) = h.length - 1 - k by omega] at q
  exact q
theorem MHist.pop {e : Deed} {c0 : Core} {h : Hist} {w : Nat → Int32} (H : MHist ((e, c0) :: h) w) : ∀ k, (hk : k < h.length) → w (44 + 4 * (h.length - 1 - k)) = nI h[k].1.1 ∧ w (45 + 4 * (h.length - 1 - k)) = nI h[k].1.2.1 ∧ w (46 + 4 * (h.length - 1 - k)) = nI h[k].1.2.2.1 ∧ (h[k].1.1 ≠ 0 → w (47 + 4 * (h.length - 1 - k)) = nI h[k].1.2.2.2) := by
  intro k hk
  have hl : List.length ((e, c0) :: h) = h.length + 1 := rfl
  have q := H.2 (k + 1) (by omega)
  rw [show List.length ((e, c0) :: h) - 1 - (k + 1) = h.length - 1 - k by omega] at q
  exact q
theorem TI.step {B : Bk} {c c' : Core} {h : Hist} {lf : Nat → Nat} {e : Deed} (H : TI B c h lf) (hs : StepD B e c c') (ho : c'.ok B) (hf : ∀ a, c'.fate a = 1 → c.fate a = 1) : TI B c' (hpush e c h) lf :=
  ⟨ho, ⟨hs, H.1, H.2.1.take 11⟩, fun a ha hr => H.2.2 a ha ((rel_push hr).elim (fun z => Or.inl (hf a z)) id)⟩
theorem TI.pop {B : Bk} {c c0 : Core} {h : Hist} {lf : Nat → Nat} {e : Deed} (H : TI B c ((e, c0) :: h) lf) : TI B c0 h lf :=
  ⟨H.2.1.2.1, H.2.1.2.2, fun a ha hr => H.2.2 a ha (rel_pop hr)⟩
theorem XLeft.step {c c' : Core} {h : Hist} {lf : Nat → Nat} {l : Nat → Int32} {e : Deed} (H : XLeft c h lf l) (hf : ∀ a, c'.fate a = 1 → c.fate a = 1) : XLeft c' (hpush e c h) lf l := fun a ha hr => H a ha ((rel_push hr).elim (fun z => Or.inl (hf a z)) id)
theorem XLeft.pop {c c0 : Core} {h : Hist} {lf : Nat → Nat} {l : Nat → Int32} {e : Deed} (H : XLeft c ((e, c0) :: h) lf l) : XLeft c0 h lf l := fun a ha hr => H a ha (rel_pop hr)
/-- arguments that are in bounds, or aren't -/
theorem x_inB {v : Int32} {n : Nat} (hn : n ≤ 8) : (∃ a, a < n ∧ v = nI a ∧ x_in v 0 (nI n - 1) = some 1) ∨ ((∀ a, a < n → v ≠ nI a) ∧ x_in v 0 (nI n - 1) = some 0) := by
  have hs : (nI n - 1 : Int32).toInt = (n : Int) - 1 := pk_sub_toInt (a := n) (b := 1) (by omega) (by omega)
  unfold x_in
  by_cases h0 : v < 0
  · refine Or.inr ⟨fun a ha e => ?_, if_pos h0⟩
    rw [e] at h0; exact nI_pos (by omega) h0
  · rw [if_neg h0]
    obtain ⟨j, hj, rfl⟩ := nI_of h0
    by_cases h1 : j < n
    · refine Or.inl ⟨j, h1, rfl, if_neg (fun z => ?_)⟩
      have := Int32.lt_iff_toInt_lt.mp z
      rw [hs, nI_toInt hj] at this; omega
    · refine Or.inr ⟨fun a ha e => h1 ?_, if_pos (Int32.lt_iff_toInt_lt.mpr ?_)⟩
      · rw [(nI_eq hj (by omega)).mp e]; exact ha
      · rw [hs, nI_toInt hj]; omega
theorem m_in_eq (x y z : Int32) : m_in x.toInt64 y.toInt64 z.toInt64 = x_in x y z := by
  unfold m_in x_in
  have l1 : ∀ a b : Int32, (a.toInt64 < b.toInt64) ↔ a < b := fun a b => by
    rw [Int64.lt_iff_toInt_lt, Int32.lt_iff_toInt_lt, Int32.toInt_toInt64, Int32.toInt_toInt64]
  by_cases h1 : x < y
  · rw [if_pos h1, if_pos ((lg_cmp_lt _ _).mpr ((l1 _ _).mpr h1))]
  · rw [if_neg h1, if_neg (fun q => h1 ((l1 _ _).mp ((lg_cmp_lt _ _).mp q)))]
    by_cases h2 : z < x
    · rw [if_pos h2, if_pos ((lg_cmp_gt _ _).mpr ((l1 _ _).mpr h2))]
    · rw [if_neg h2, if_neg (fun q => h2 ((l1 _ _).mp ((lg_cmp_gt _ _).mp q)))]
theorem in01 (x y z : Int32) : x_in x y z = some 0 ∨ x_in x y z = some 1 := by
  unfold x_in
  split
  · exact Or.inl rfl
  · split
    · exact Or.inl rfl
    · exact Or.inr rfl
theorem isA_cases {v : Int32} {n : Nat} (hn : n ≤ 8) : (∃ a, a < n ∧ v = nI a ∧ x_isAsking (nI n) v = some 1 ∧ m_isAsking (nI n) v = some 1 ∧ x_isPerson (nI n) v = some 1 ∧ m_isOne (nI n) v = some 1) ∨ ((∀ a, a < n → v ≠ nI a) ∧ x_isAsking (nI n) v = some 0 ∧ m_isAsking (nI n) v = some 0 ∧ x_isPerson (nI n) v = some 0 ∧ m_isOne (nI n) v = some 0) := by
  have e : m_in v.toInt64 0 ((nI n - 1).toInt64) = x_in v 0 (nI n - 1) := m_in_eq v 0 (nI n - 1)
  rcases x_inB (v := v) hn with ⟨a, ha, hv, h⟩ | ⟨ha, h⟩
  · refine Or.inl ⟨a, ha, hv, ?_, ?_, ?_, ?_⟩
    · unfold x_isAsking; rw [h, bnd_s, ckz_in (Or.inr rfl)]
    · unfold m_isAsking; rw [e, h, bnd_s, ckz_in (Or.inr rfl)]
    · unfold x_isPerson; rw [h, bnd_s, ckz_in (Or.inr rfl)]
    · unfold m_isOne; rw [e, h, bnd_s, ckz_in (Or.inr rfl)]
  · refine Or.inr ⟨ha, ?_, ?_, ?_, ?_⟩
    · unfold x_isAsking; rw [h, bnd_s, ckz_in (Or.inl rfl)]
    · unfold m_isAsking; rw [e, h, bnd_s, ckz_in (Or.inl rfl)]
    · unfold x_isPerson; rw [h, bnd_s, ckz_in (Or.inl rfl)]
    · unfold m_isOne; rw [e, h, bnd_s, ckz_in (Or.inl rfl)]
