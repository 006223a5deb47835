/-! PURE LAW: letOff, breaks, hand -/
theorem XTown.congr {c : Core} {many : Nat → Int32} {slip : Nat → Nat → Int32} {became became' : Nat → Int32} {day won lost : Int32} (h : XTown c many slip became day won lost) (e : ∀ a, a < 8 → became' a = became a) : XTown c many slip became' day won lost :=
  ⟨h.1, h.2.1, h.2.2.1, fun a ha => by rw [e a ha]; exact h.2.2.2.1 a ha, h.2.2.2.2⟩
section POPS2
variable {B : Bk} {c : Core} {h : Hist} {lf : Nat → Nat} {room work price whom bday units worth due under : Nat → Int32} {people askings hangs : Int32} {mpe mak mhg : Int32} {mroom mwork mprice asked hung : Nat → Int32}
variable {many : Nat → Int32} {slip : Nat → Nat → Int32} {became left what which whose place : Nat → Int32} {deeds day won lost : Int32} {w : Nat → Int32}
theorem x_goes_eq (hB : B.ok) (ho : c.ok B) (XT : XTown c many slip became day won lost) (XH : XHist h what which whose place deeds) {a p : Nat} (ha : a ∈ c.sl p) (k : Nat) : ∃ g' n1 n2 n3 n4 n5, x_goes many slip what which whose place deeds (nI k) (nI a) = some (upd many p (nI ((c.sl p).length - 1)), va_up slip p g', n1, n2, n3, n4, n5) ∧ SlR g' (nI ((c.sl p).length - 1)) ((c.sl p).eraseIdx ((c.sl p).idxOf a)) ∧ XHist (hpush (k, a, p, (c.sl p).idxOf a) c h) n1 n2 n3 n4 n5 := by
  have b1 := hB.1
  have b2 := hB.2.1
  have hp := ok_p ho ha
  have ha8 : a < 8 := by have := (ho.2.2.2.2.2.1 p a ha).1; omega
  obtain ⟨x1, x2, x3, x4, x5⟩ := XT
  have hS := (x_sleeveOf_eq x5 ho.2.2.1 ha8 (fun p q h1 h2 => ho.2.2.2.2.2.2.2 p q a h1 h2)).1 p (by omega) ha
  have hP := x_placeOf_yes (x5 p (by omega)) ha8 ha (ho.2.2.1 p)
  have hix : (c.sl p).idxOf a < (c.sl p).length := List.idxOf_lt_length_of_mem ha
  obtain ⟨n1, n2, n3, n4, n5, kE, kH⟩ := x_know_eq XH (k, a, p, (c.sl p).idxOf a) c
  obtain ⟨g', uE, uS⟩ := x_unpin_eq (x5 p (by omega)) hix
  refine ⟨g', n1, n2, n3, n4, n5, ?_, uS, kH⟩
  have kE' : x_know what which whose place deeds (nI k) (nI a) (nI p) (nI ((c.sl p).idxOf a)) = some (n1, n2, n3, n4, n5) := kE
  unfold x_goes
  rw [hS, bnd_s]
  simp (disch := omega) only [nI_cl, ck_nI]
  rw [hP, bnd_s, kE', bnd5_s, bnd_s, uE, bnd2_s]
theorem m_goes_eq (hB : B.ok) (ho : c.ok B) (MT : MTown c w) (MH : MHist h w) (hl : h.length ≤ 12) {a p : Nat} (ha : a ∈ c.sl p) (k : Nat) : m_sleeveOf w (nI B.pe) (nI a) = some (nI p) ∧ m_placeOf w (nI p) (nI a) = some (nI ((c.sl p).idxOf a)) ∧ ∃ w1 w2, m_minds w (nI k) (nI a) (nI p) (nI ((c.sl p).idxOf a)) = some w1 ∧ m_remove w1 (nI p) (nI a) = some w2 ∧ MHist (hpush (k, a, p, (c.sl p).idxOf a) c h) w2 ∧ (∀ f, MTown (c.rem p a f) (upd w2 (3 + a) (nI f))) ∧ ∀ j, j < 19 ∨ 92 ≤ j → w2 j = w j := by
  have b1 := hB.1
  have b2 := hB.2.1
  have hp := ok_p ho ha
  have ha8 : a < 8 := by have := (ho.2.2.2.2.2.1 p a ha).1; omega
  obtain ⟨m1, m2, m3, m4, m5⟩ := id MT
  have hS := (m_sleeveOf_eq b1 m5 ha8 (fun p q h1 h2 => ho.2.2.2.2.2.2.2 p q a h1 h2)).1 p hp ha
  have hP := m_placeOf_eq (n := w (19 + p)) (by omega) (m5 p (by omega)) ha
  obtain ⟨w1, dE, dH, dO⟩ := m_minds_eq MH hl (k, a, p, (c.sl p).idxOf a) c (v := nI ((c.sl p).idxOf a)) (fun _ => rfl)
  have MT1 : MTown c w1 := MT.congr (fun j hj => dO j (by omega))
  have hl5 := (m5 p (by omega)).2.1
  have hR := m_remove_eq (w := w1) (by omega) (MT1.2.2.2.2 p (by omega)) ha
  have hh : (hpush (k, a, p, (c.sl p).idxOf a) c h).length ≤ 12 := by
    unfold hpush; rw [List.length_cons, List.length_take]; omega
  refine ⟨hS, hP, w1, _, dE, hR, dH.congr hh (fun j hj => wRem_o (by omega) (by omega) hl5), fun f => MT1.rem (by omega) ha ha8, fun j hj => ?_⟩
  rw [wRem_o (by omega) (by omega) hl5, dO j (by omega)]
theorem rem_f1 {c : Core} {p a f : Nat} (hf : f ≠ 1) : ∀ b, (c.rem p a f).fate b = 1 → c.fate b = 1 := by
  intro b hb
  rw [rem_fate] at hb
  by_cases e : b = a
  · rw [if_pos e] at hb; exact absurd hb hf
  · rw [if_neg e] at hb; exact hb
theorem x_isPinned_eq (XT : XTown c many slip became day won lost) {a : Nat} (ha : a < 8) (h3 : c.fate a ≤ 3) : x_isPinned became (nI a) = some (if c.fate a = 1 then 1 else 0) := by
  unfold x_isPinned
  simp (disch := omega) only [nI_cl, ck_nI]
  rw [XT.2.2.2.1 a ha]
  by_cases e : c.fate a = 1
  · rw [if_pos (L_eq 1 e), if_pos e]
  · rw [if_neg (L_ne 1 e (by omega) (by omega)), if_neg e]
theorem P_letOff (hB : B.ok) (T : TI B c h lf) (X : TX c h lf many slip became left what which whose place deeds day won lost) (M : TM c h lf w) (v : Int32) : ∃ r many' slip' became' what' which' whose' place' deeds' w' c' h', x_letOff (nI B.ak) many slip became left what which whose place deeds v = some (r, many', slip', became', what', which', whose', place', deeds') ∧ m_letOff w (nI B.pe) (nI B.ak) v = some (r, w') ∧ TI B c' h' lf ∧ TX c' h' lf many' slip' became' left what' which' whose' place' deeds' day won lost ∧ TM c' h' lf w' ∧ ∀ j, 100 ≤ j → w' j = w j := by
  have b2 := hB.2.1
  rcases isA_cases (v := v) b2 with ⟨a, ha, rfl, e1, e2, -, -⟩ | ⟨-, e1, e2, -, -⟩
  rotate_left
  · refine ⟨-1, many, slip, became, what, which, whose, place, deeds, w, c, h, ?_, ?_, T, X, M, fun _ _ => rfl⟩
    · unfold x_letOff; rw [e1, bnd_s, if_pos rfl]
    · unfold m_letOff; rw [e2, bnd_s, if_pos rfl]
  obtain ⟨XT, XH, XL⟩ := X
  obtain ⟨MT, MH, ML⟩ := M
  have ha8 : a < 8 := by omega
  have hf3 := T.1.2.1 a
  have hPi := x_isPinned_eq XT ha8 hf3
  have hm4 := MT.2.2.2.1 a ha8
  by_cases f1 : c.fate a = 1
  rotate_left
  · refine ⟨-2, many, slip, became, what, which, whose, place, deeds, w, c, h, ?_, ?_, T, ⟨XT, XH, XL⟩, ⟨MT, MH, ML⟩, fun _ _ => rfl⟩
    · unfold x_letOff; rw [e1, bnd_s, if_neg (by decide), hPi, if_neg f1, bnd_s, if_pos rfl]
    · unfold m_letOff
      rw [e2, bnd_s, if_neg (by decide)]
      simp (disch := omega) only [nI_lit, nI_add, pk_mul, nI_cl, nI_leI, nI_ltI, nI_eq, nI_subN, ck_nI]
      rw [hm4, if_neg (N_ne f1 (by omega) (by omega))]
  obtain ⟨p, hap⟩ := T.1.2.2.2.2.2.2.1 a ha f1
  obtain ⟨g', n1, n2, n3, n4, n5, gE, gS, gH⟩ := x_goes_eq hB T.1 XT XH hap 1
  obtain ⟨s1, s2, w1, w2, s3, s4, s5, s6, s7⟩ := m_goes_eq hB T.1 MT MH XH.2.1 hap 1
  have hst : StepD B (1, a, p, (c.sl p).idxOf a) c (c.rem p a 3) := ⟨ha, ok_p T.1 hap, Or.inr (Or.inl ⟨rfl, hap, rfl, rfl⟩)⟩
  have hr : Rel c h a := Or.inl f1
  refine ⟨nI (lf a), _, _, _, n1, n2, n3, n4, n5, upd w2 (3 + a) (nI 3), c.rem p a 3, hpush (1, a, p, (c.sl p).idxOf a) c h, ?_, ?_, T.step hst (rem_ok T.1 hap (by decide) (by decide)) (rem_f1 (by decide)), ⟨XT.rem (f := 3) gS, gH, XL.step (rem_f1 (by decide))⟩, ⟨s6 3, s5.congr gH.2.1 (fun j hj => upd_n (by omega)), ?_⟩, ?_⟩
  · unfold x_letOff
    rw [e1, bnd_s, if_neg (by decide), hPi, if_pos f1, bnd_s, if_neg (by decide)]
    have gE' : x_goes many slip what which whose place deeds 1 (nI a) = _ := gE
    rw [gE', bnd7_s]
    simp (disch := omega) only [nI_cl, ck_nI]
    rw [XL a ha8 hr]
    rfl
  · unfold m_letOff
    rw [e2, bnd_s, if_neg (by decide)]
    simp (disch := omega) only [nI_lit, nI_add, pk_mul, nI_cl, nI_leI, nI_ltI, nI_eq, nI_subN, ck_nI]
    rw [hm4, if_pos (by rw [f1]), s1, bnd_s, s2, bnd_s, s3, bnd_s, s4, bnd_s, upd_n (by omega), s7 _ (by omega)]
    have := ML a ha8 hr
    dsimp only at this
    rw [this]
  · intro b hb hrb
    show upd w2 (3 + a) (nI 3) (11 + b) = _
    rw [upd_n (by omega), s7 _ (by omega)]
    exact (XLeft.step (e := (1, a, p, (c.sl p).idxOf a)) ML (rem_f1 (by decide))) b hb hrb
  · intro j hj
    rw [upd_n (by omega), s7 j (by omega)]
def Core.lose (c : Core) (v : Int32) : Core := (c.day, c.won, c.lost + v, c.fate, c.sl)
theorem lose_ok {B : Bk} {c : Core} (h : c.ok B) (v : Int32) : (c.lose v).ok B := h
theorem P_breaks (hB : B.ok) (hwo : ∀ a, a < B.ak → worth a = nI (B.wo a)) (hmw : ∀ a, a < B.ak → asked (5 * a + 3) = nI (B.wo a)) (T : TI B c h lf) (X : TX c h lf many slip became left what which whose place deeds day won lost) (M : TM c h lf w) (v : Int32) : ∃ r many' slip' became' what' which' whose' place' deeds' lost' w' c' h', x_breaks worth (nI B.ak) many slip became what which whose place deeds lost v = some (r, many', slip', became', what', which', whose', place', deeds', lost') ∧ m_breaks w (nI B.pe) (nI B.ak) asked v = some (r, w') ∧ TI B c' h' lf ∧ TX c' h' lf many' slip' became' left what' which' whose' place' deeds' day won lost' ∧ TM c' h' lf w' ∧ ∀ j, 100 ≤ j → w' j = w j := by
  have b2 := hB.2.1
  rcases isA_cases (v := v) b2 with ⟨a, ha, rfl, e1, e2, -, -⟩ | ⟨-, e1, e2, -, -⟩
  rotate_left
  · refine ⟨-1, many, slip, became, what, which, whose, place, deeds, lost, w, c, h, ?_, ?_, T, X, M, fun _ _ => rfl⟩
    · unfold x_breaks; rw [e1, bnd_s, if_pos rfl]
    · unfold m_breaks; rw [e2, bnd_s, if_pos rfl]
  obtain ⟨XT, XH, XL⟩ := X
  obtain ⟨MT, MH, ML⟩ := M
  have ha8 : a < 8 := by omega
  have hf3 := T.1.2.1 a
  have hPi := x_isPinned_eq XT ha8 hf3
  have hm4 := MT.2.2.2.1 a ha8
  by_cases f1 : c.fate a = 1
  rotate_left
  · refine ⟨-2, many, slip, became, what, which, whose, place, deeds, lost, w, c, h, ?_, ?_, T, ⟨XT, XH, XL⟩, ⟨MT, MH, ML⟩, fun _ _ => rfl⟩
    · unfold x_breaks; rw [e1, bnd_s, if_neg (by decide), hPi, if_neg f1, bnd_s, if_pos rfl]
    · unfold m_breaks
      rw [e2, bnd_s, if_neg (by decide)]
      simp (disch := omega) only [nI_lit, nI_add, pk_mul, nI_cl, nI_leI, nI_ltI, nI_eq, nI_subN, ck_nI]
      rw [hm4, if_neg (N_ne f1 (by omega) (by omega))]
  obtain ⟨p, hap⟩ := T.1.2.2.2.2.2.2.1 a ha f1
  obtain ⟨g', n1, n2, n3, n4, n5, gE, gS, gH⟩ := x_goes_eq hB T.1 XT XH hap 2
  obtain ⟨s1, s2, w1, w2, s3, s4, s5, s6, s7⟩ := m_goes_eq hB T.1 MT MH XH.2.1 hap 2
  have hst : StepD B (2, a, p, (c.sl p).idxOf a) c ((c.rem p a 3).lose (nI (B.wo a))) := ⟨ha, ok_p T.1 hap, Or.inr (Or.inr (Or.inl ⟨rfl, hap, rfl, rfl⟩))⟩
  have hf1 : ∀ b, ((c.rem p a 3).lose (nI (B.wo a))).fate b = 1 → c.fate b = 1 := rem_f1 (by decide)
  obtain ⟨t1, t2, t3, t4, t5⟩ := s6 3
  obtain ⟨u1, u2, u3, u4, u5⟩ := XT.rem (f := 3) gS
  refine ⟨nI (B.wo a), _, _, _, n1, n2, n3, n4, n5, lost + nI (B.wo a), upd (upd w2 (3 + a) (nI 3)) 2 (w2 2 + nI (B.wo a)), (c.rem p a 3).lose (nI (B.wo a)), hpush (2, a, p, (c.sl p).idxOf a) c h, ?_, ?_, T.step hst (lose_ok (rem_ok T.1 hap (by decide) (by decide)) _) hf1, ⟨⟨u1, u2, by rw [u3]; rfl, u4, u5⟩, gH, XL.step hf1⟩, ⟨⟨?_, ?_, ?_, ?_, ?_⟩, s5.congr gH.2.1 (fun j hj => by rw [upd_n (by omega), upd_n (by omega)]), ?_⟩, ?_⟩
  · unfold x_breaks
    rw [e1, bnd_s, if_neg (by decide), hPi, if_pos f1, bnd_s, if_neg (by decide)]
    have gE' : x_goes many slip what which whose place deeds 2 (nI a) = _ := gE
    rw [gE', bnd7_s]
    simp (disch := omega) only [nI_cl, ck_nI]
    rw [hwo a ha]
    rfl
  · unfold m_breaks
    rw [e2, bnd_s, if_neg (by decide)]
    simp (disch := omega) only [nI_lit, nI_add, pk_mul, nI_cl, nI_leI, nI_ltI, nI_eq, nI_subN, ck_nI]
    rw [hm4, if_pos (by rw [f1]), s1, bnd_s, s2, bnd_s, s3, bnd_s, s4, bnd_s, hmw a ha, upd_n (by omega)]
  · rw [upd_n (by omega)]; exact t1
  · rw [upd_n (by omega)]; exact t2
  · rw [upd_s, s7 _ (by omega), MT.2.2.1]; rfl
  · intro b hb; rw [upd_n (by omega)]; exact t4 b hb
  · intro q hq
    have h9 := (t5 q hq).2.1
    rw [upd_n (by omega)]
    exact (t5 q hq).congr (fun i hi => upd_n (by omega))
  · intro b hb hrb
    show upd _ 2 _ (11 + b) = _
    rw [upd_n (by omega), upd_n (by omega), s7 _ (by omega)]
    exact (XLeft.step (e := (2, a, p, (c.sl p).idxOf a)) ML hf1) b hb hrb
  · intro j hj
    rw [upd_n (by omega), upd_n (by omega), s7 j (by omega)]
end POPS2
