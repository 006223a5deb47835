/-! PURE LAW: a deed comes to the history -/
def hpush (e : Deed) (c : Core) (h : Hist) : Hist := (e, c) :: h.take 11
theorem cky_12 {α : Type} {k : Option α} : cky 1 0 11 12 12 k = k := by
  unfold cky; rw [if_neg (by decide)]
theorem x_know_eq {h : Hist} {what which whose place : Nat → Int32} {deeds : Int32} (H : XHist h what which whose place deeds) (e : Deed) (c : Core) : ∃ w1 w2 w3 w4 d, x_know what which whose place deeds (nI e.1) (nI e.2.1) (nI e.2.2.1) (nI e.2.2.2) = some (w1, w2, w3, w4, d) ∧ XHist (hpush e c h) w1 w2 w3 w4 d := by
  obtain ⟨h1, h2, h3⟩ := H
  by_cases hc : h.length = 12
  · have E : x_know what which whose place deeds (nI e.1) (nI e.2.1) (nI e.2.2.1) (nI e.2.2.2) = some (upd (va_cpy what what 1 0 11) 11 (nI e.1), upd (va_cpy which which 1 0 11) 11 (nI e.2.1), upd (va_cpy whose whose 1 0 11) 11 (nI e.2.2.1), upd (va_cpy place place 1 0 11) 11 (nI e.2.2.2), nI 12) := by
      unfold x_know
      rw [h1, hc, if_pos (show nI 12 = (12 : Int32) from rfl), show (nI 12 - 1 : Int32) = 11 from rfl, cky_12, cky_12, cky_12, cky_12]
      show ck (11 : Int32) 12 _ = _
      rw [show (11 : Int32) = nI 11 from rfl]
      simp (disch := omega) only [nI_lit, nI_add, pk_mul, nI_cl, nI_leI, nI_ltI, nI_eq, nI_subN, ck_nI]
    refine ⟨_, _, _, _, _, E, ?_⟩
    · have hl : (hpush e c h).length = 12 := by unfold hpush; rw [List.length_cons, List.length_take, hc]; rfl
      refine ⟨by rw [hl], by omega, ?_⟩
      intro k hk
      rw [hl]
      rw [hl] at hk
      match k with
      | 0 => exact ⟨upd_s, upd_s, upd_s, upd_s⟩
      | k + 1 =>
        have hk2 : k < h.length := by omega
        have e1 : (hpush e c h)[k + 1]'(by rw [hl]; exact hk) = h[k] := by
          unfold hpush
          rw [List.getElem_cons_succ, List.getElem_take]
        rw [e1]
        have q := h3 k hk2
        rw [hc] at q
        have e2 : 12 - 1 - (k + 1) ≠ 11 := by omega
        have e3 : 1 + (12 - 1 - (k + 1)) = 12 - 1 - k := by omega
        refine ⟨?_, ?_, ?_, ?_⟩ <;> rw [upd_n e2, pk_cpy_in (by omega) (by omega), Nat.sub_zero, e3]
        · exact q.1
        · exact q.2.1
        · exact q.2.2.1
        · exact q.2.2.2
  · have hlt : h.length < 12 := by omega
    have E : x_know what which whose place deeds (nI e.1) (nI e.2.1) (nI e.2.2.1) (nI e.2.2.2) = some (upd what h.length (nI e.1), upd which h.length (nI e.2.1), upd whose h.length (nI e.2.2.1), upd place h.length (nI e.2.2.2), nI (h.length + 1)) := by
      unfold x_know
      rw [h1, if_neg (L_ne 12 hc (by omega) (by omega))]
      show ck (nI h.length) 12 _ = _
      simp (disch := omega) only [nI_lit, nI_add, pk_mul, nI_cl, nI_leI, nI_ltI, nI_eq, nI_subN, ck_nI]
    refine ⟨_, _, _, _, _, E, ?_⟩
    · have ht : h.take 11 = h := List.take_of_length_le (by omega)
      have hl : (hpush e c h).length = h.length + 1 := by unfold hpush; rw [ht, List.length_cons]
      refine ⟨by rw [hl], by omega, ?_⟩
      intro k hk
      rw [hl]
      rw [hl] at hk
      match k with
      | 0 =>
        have e2 : h.length + 1 - 1 - 0 = h.length := by omega
        rw [e2]
        exact ⟨upd_s, upd_s, upd_s, upd_s⟩
      | k + 1 =>
        have hk2 : k < h.length := by omega
        have e1 : (hpush e c h)[k + 1]'(by rw [hl]; exact hk) = h[k] := by
          unfold hpush
          rw [List.getElem_cons_succ, List.getElem_take]
        rw [e1]
        have e2 : h.length + 1 - 1 - (k + 1) ≠ h.length := by omega
        have e3 : h.length + 1 - 1 - (k + 1) = h.length - 1 - k := by omega
        have q := h3 k hk2
        rw [← e3] at q
        exact ⟨(upd_n e2).trans q.1, (upd_n e2).trans q.2.1, (upd_n e2).trans q.2.2.1, (upd_n e2).trans q.2.2.2⟩
theorem m_minds_L15_eq : ∀ (fu i : Nat) (w : Nat → Int32), i ≤ 44 → 44 - i < fu → m_minds_L15 fu (nI i) w = some (fun j => if 44 + i ≤ j ∧ j < 88 then w (j + 4) else w j) := by
  intro fu
  induction fu with
  | zero => intro i w _ h; omega
  | succ fu ih =>
    intro i w hi hf
    rw [m_minds_L15_s]
    by_cases h : 44 ≤ i
    · rw [if_pos (show (44 : Int32) ≤ nI i from (nI_leI (a := 44) (by omega) (by omega)).mpr h)]
      congr 1; funext j
      rw [if_neg (by omega)]
    · rw [if_neg (show ¬ (44 : Int32) ≤ nI i from fun z => h ((nI_leI (a := 44) (by omega) (by omega)).mp z))]
      simp (disch := omega) only [nI_lit, nI_add, pk_mul, nI_cl, nI_leI, nI_ltI, nI_eq, nI_subN, ck_nI]
      rw [ih (i + 1) _ (by omega) (by omega)]
      congr 1; funext j
      by_cases e1 : 44 + (i + 1) ≤ j ∧ j < 88
      · rw [if_pos e1, if_pos (by omega), upd_n (by omega)]
      · rw [if_neg e1]
        by_cases e2 : j = 44 + i
        · subst e2; rw [upd_s, if_pos (by omega)]
        · rw [upd_n e2, if_neg (by omega)]
def wMind (w : Nat → Int32) (k : Nat) (e : Deed) (v : Int32) : Nat → Int32 := upd (upd (upd (upd (upd w (44 + 4 * k) (nI e.1)) (44 + 4 * k + 1) (nI e.2.1)) (44 + 4 * k + 2) (nI e.2.2.1)) (44 + 4 * k + 3) v) 43 (nI (k + 1))
/-- the deed in the model's row; nothing below 43 or from 92 on is touched -/
theorem m_minds_eq {h : Hist} {w : Nat → Int32} (H : MHist h w) (hl12 : h.length ≤ 12) (e : Deed) (c : Core) {v : Int32} (hv : e.1 ≠ 0 → v = nI e.2.2.2) : ∃ w', m_minds w (nI e.1) (nI e.2.1) (nI e.2.2.1) v = some w' ∧ MHist (hpush e c h) w' ∧ ∀ j, j < 43 ∨ 92 ≤ j → w' j = w j := by
  obtain ⟨h1, h3⟩ := H
  by_cases hc : h.length = 12
  · have E : m_minds w (nI e.1) (nI e.2.1) (nI e.2.2.1) v = some (wMind (fun j => if j = 43 then nI 11 else if 44 ≤ j ∧ j < 88 then w (j + 4) else w j) 11 e v) := by
      unfold m_minds
      rw [show (43 : Int32).toNatClampNeg = 43 from rfl, h1, hc, if_pos (show nI 12 = (12 : Int32) from rfl), show (0 : Int32) = nI 0 from rfl, m_minds_L15_eq g_fuel 0 w (by omega) (by unfold g_fuel; omega), bnd_s]
      have e9 : upd (fun j => if 44 + 0 ≤ j ∧ j < 88 then w (j + 4) else w j) 43 ((if 44 + 0 ≤ 43 ∧ 43 < 88 then w (43 + 4) else w 43) - 1) = (fun j => if j = 43 then nI 11 else if 44 ≤ j ∧ j < 88 then w (j + 4) else w j) := by
        rw [if_neg (by omega), h1, hc]; rfl
      rw [e9]
      generalize (fun j => if j = 43 then nI 11 else if 44 ≤ j ∧ j < 88 then w (j + 4) else w j) = w1 at *
      have hw1 : w1 43 = nI 11 := by rw [← e9, upd_s, if_neg (by omega), h1, hc]; rfl
      rw [bnd_s, hw1]
      simp (disch := omega) only [nI_lit, nI_add, pk_mul, nI_cl, nI_leI, nI_ltI, nI_eq, nI_subN, ck_nI, upd_n, upd_s]
      rw [hw1]
      rfl
    refine ⟨_, E, ?_, ?_⟩
    · have hl : (hpush e c h).length = 12 := by unfold hpush; rw [List.length_cons, List.length_take, hc]; rfl
      refine ⟨by rw [hl]; exact upd_s, ?_⟩
      intro k hk
      rw [hl]
      rw [hl] at hk
      match k with
      | 0 =>
        refine ⟨?_, ?_, ?_, fun z => ?_⟩
        · unfold wMind; simp (disch := omega) only [upd_s, upd_n]
          rfl
        · unfold wMind; simp (disch := omega) only [upd_s, upd_n]
          rfl
        · unfold wMind; simp (disch := omega) only [upd_s, upd_n]
          rfl
        · unfold wMind; simp (disch := omega) only [upd_s, upd_n]
          exact hv z
      | k + 1 =>
        have hk2 : k < h.length := by omega
        have e1 : (hpush e c h)[k + 1]'(by rw [hl]; exact hk) = h[k] := by
          unfold hpush
          rw [List.getElem_cons_succ, List.getElem_take]
        rw [e1]
        have q := h3 k hk2
        rw [hc] at q
        obtain ⟨q1, q2, q3, q4⟩ := q
        refine ⟨?_, ?_, ?_, fun z => ?_⟩
        · rw [← q1]; unfold wMind; simp (disch := omega) only [upd_n]; rw [if_neg (by omega), if_pos (by omega)]; congr 1; omega
        · rw [← q2]; unfold wMind; simp (disch := omega) only [upd_n]; rw [if_neg (by omega), if_pos (by omega)]; congr 1; omega
        · rw [← q3]; unfold wMind; simp (disch := omega) only [upd_n]; rw [if_neg (by omega), if_pos (by omega)]; congr 1; omega
        · rw [← q4 z]; unfold wMind; simp (disch := omega) only [upd_n]; rw [if_neg (by omega), if_pos (by omega)]; congr 1; omega
    · intro j hj
      unfold wMind; simp (disch := omega) only [upd_n]
      rw [if_neg (by omega), if_neg (by omega)]
  · have hlt : h.length < 12 := by omega
    have E : m_minds w (nI e.1) (nI e.2.1) (nI e.2.2.1) v = some (wMind w h.length e v) := by
      unfold m_minds
      rw [show (43 : Int32).toNatClampNeg = 43 from rfl, h1, if_neg (L_ne 12 hc (by omega) (by omega)), bnd_s, h1]
      simp (disch := omega) only [nI_lit, nI_add, pk_mul, nI_cl, nI_leI, nI_ltI, nI_eq, nI_subN, ck_nI, upd_n, upd_s]
      rw [h1, nI_add]
      rfl
    refine ⟨_, E, ?_, ?_⟩
    · have ht : h.take 11 = h := List.take_of_length_le (by omega)
      have hl : (hpush e c h).length = h.length + 1 := by unfold hpush; rw [ht, List.length_cons]
      refine ⟨by rw [hl]; exact upd_s, ?_⟩
      intro k hk
      rw [hl]
      rw [hl] at hk
      match k with
      | 0 =>
        have e2 : h.length + 1 - 1 - 0 = h.length := by omega
        rw [e2]
        refine ⟨?_, ?_, ?_, fun z => ?_⟩
        · unfold wMind; simp (disch := omega) only [upd_n]
          exact upd_s
        · unfold wMind; simp (disch := omega) only [upd_n]
          rw [show 45 + 4 * h.length = 44 + 4 * h.length + 1 by omega]; exact upd_s
        · unfold wMind; simp (disch := omega) only [upd_n]
          rw [show 46 + 4 * h.length = 44 + 4 * h.length + 2 by omega]; exact upd_s
        · unfold wMind; simp (disch := omega) only [upd_n]
          rw [show 47 + 4 * h.length = 44 + 4 * h.length + 3 by omega, upd_s]; exact hv z
      | k + 1 =>
        have hk2 : k < h.length := by omega
        have e1 : (hpush e c h)[k + 1]'(by rw [hl]; exact hk) = h[k] := by
          unfold hpush
          rw [List.getElem_cons_succ, List.getElem_take]
        rw [e1]
        have e3 : h.length + 1 - 1 - (k + 1) = h.length - 1 - k := by omega
        rw [e3]
        obtain ⟨q1, q2, q3, q4⟩ := h3 k hk2
        refine ⟨?_, ?_, ?_, fun z => ?_⟩
        · rw [← q1]; unfold wMind; simp (disch := omega) only [upd_n]
        · rw [← q2]; unfold wMind; simp (disch := omega) only [upd_n]
        · rw [← q3]; unfold wMind; simp (disch := omega) only [upd_n]
        · rw [← q4 z]; unfold wMind; simp (disch := omega) only [upd_n]
    · intro j hj
      unfold wMind; simp (disch := omega) only [upd_n]
