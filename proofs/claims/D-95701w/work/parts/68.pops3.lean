/-! PURE LAW: hand, undo -/
section POPS3
variable {B : Bk} {c : Core} {h : Hist} {lf : Nat → Nat} {room work price whom bday units worth due under : Nat → Int32} {people askings hangs : Int32} {mpe mak mhg : Int32} {mroom mwork mprice asked hung : Nat → Int32}
variable {many : Nat → Int32} {slip : Nat → Nat → Int32} {became left what which whose place : Nat → Int32} {deeds day won lost : Int32} {w : Nat → Int32}
theorem no_sleeve (ho : c.ok B) {a : Nat} (hf : c.fate a ≠ 1) : ∀ p, a ∉ c.sl p := fun p z => hf (ho.2.2.2.2.2.1 p a z).2
theorem wIns_u {w : Nat → Int32} {p k n a : Nat} {v : Int32} (ha : a < 8) : wIns (upd w (3 + a) v) p k n a = wIns w p k n a := by
  funext j
  unfold wIns
  by_cases e : j = 3 + a
  · rw [if_pos e, if_pos e]
  · rw [if_neg e, if_neg e]
    by_cases e1 : j = 19 + p
    · rw [if_pos e1, if_pos e1]
    · rw [if_neg e1, if_neg e1]
      by_cases e2 : j = 23 + 5 * p + k
      · rw [if_pos e2, if_pos e2]
      · rw [if_neg e2, if_neg e2]
        by_cases e3 : 23 + 5 * p + k < j ∧ j ≤ 23 + 5 * p + n
        · rw [if_pos e3, if_pos e3, upd_n (by omega)]
        · rw [if_neg e3, if_neg e3, upd_n e]
theorem P_hand (hB : B.ok) (hrX : ∀ p, p < B.pe → room p = nI (B.rm p)) (hrM : ∀ p, p < B.pe → mroom p = nI (B.rm p)) (T : TI B c h lf) (X : TX c h lf many slip became left what which whose place deeds day won lost) (M : TM c h lf w) (v u : Int32) : ∃ r many' slip' what' which' whose' place' deeds' w' c' h', x_hand room (nI B.pe) (nI B.ak) many slip became what which whose place deeds v u = some (r, many', slip', what', which', whose', place', deeds') ∧ m_hand w (nI B.pe) mroom (nI B.ak) v u = some (r, w') ∧ TI B c' h' lf ∧ TX c' h' lf many' slip' became left what' which' whose' place' deeds' day won lost ∧ TM c' h' lf w' ∧ ∀ j, 100 ≤ j → w' j = w j := by
  have b1 := hB.1
  have b2 := hB.2.1
  have same : ∀ r, x_hand room (nI B.pe) (nI B.ak) many slip became what which whose place deeds v u = some (r, many, slip, what, which, whose, place, deeds) → m_hand w (nI B.pe) mroom (nI B.ak) v u = some (r, w) → ∃ r many' slip' what' which' whose' place' deeds' w' c' h', x_hand room (nI B.pe) (nI B.ak) many slip became what which whose place deeds v u = some (r, many', slip', what', which', whose', place', deeds') ∧ m_hand w (nI B.pe) mroom (nI B.ak) v u = some (r, w') ∧ TI B c' h' lf ∧ TX c' h' lf many' slip' became left what' which' whose' place' deeds' day won lost ∧ TM c' h' lf w' ∧ ∀ j, 100 ≤ j → w' j = w j := fun r h1 h2 => ⟨r, many, slip, what, which, whose, place, deeds, w, c, h, h1, h2, T, X, M, fun _ _ => rfl⟩
  rcases isA_cases (v := v) b2 with ⟨a, ha, rfl, e1, e2, -, -⟩ | ⟨-, e1, e2, -, -⟩
  rotate_left
  · refine same (-1) ?_ ?_
    · unfold x_hand; rw [e1, bnd_s, if_pos rfl]
    · unfold m_hand; rw [e2, bnd_s, if_pos rfl]
  rcases isA_cases (v := u) (Nat.le_trans b1 (by decide)) with ⟨q, hq, rfl, -, -, e3, e4⟩ | ⟨-, -, -, e3, e4⟩
  rotate_left
  · refine same (-1) ?_ ?_
    · unfold x_hand; rw [e1, bnd_s, if_neg (by decide), e3, bnd_s, if_pos rfl]
    · unfold m_hand; rw [e2, bnd_s, if_neg (by decide), e4, bnd_s, if_pos rfl]
  obtain ⟨XT, XH, XL⟩ := X
  obtain ⟨MT, MH, ML⟩ := M
  have ha8 : a < 8 := by omega
  have hf3 := T.1.2.1 a
  have hPi := x_isPinned_eq XT ha8 hf3
  obtain ⟨x1, x2, x3, x4, x5⟩ := id XT
  obtain ⟨m1, m2, m3, m4, m5⟩ := id MT
  have hm4 := m4 a ha8
  have hu : ∀ p q, a ∈ c.sl p → a ∈ c.sl q → p = q := fun p q h1 h2 => T.1.2.2.2.2.2.2.2 p q a h1 h2
  by_cases f1 : c.fate a = 1
  rotate_left
  · refine same (-2) ?_ ?_
    · unfold x_hand; rw [e1, bnd_s, if_neg (by decide), e3, bnd_s, if_neg (by decide), hPi, if_neg f1, bnd_s, if_pos rfl]
    · unfold m_hand
      rw [e2, bnd_s, if_neg (by decide), e4, bnd_s, if_neg (by decide), (m_sleeveOf_eq b1 m5 ha8 hu).2 (fun p _ => no_sleeve T.1 f1 p), bnd_s]
      simp (disch := omega) only [nI_lit, nI_add, pk_mul, nI_cl, nI_leI, nI_ltI, nI_eq, nI_subN, ck_nI]
      rw [hm4, if_neg (N_ne f1 (by omega) (by omega))]
  obtain ⟨p, hap⟩ := T.1.2.2.2.2.2.2.1 a ha f1
  have hp := ok_p T.1 hap
  have hSX := (x_sleeveOf_eq x5 T.1.2.2.1 ha8 hu).1 p (by omega) hap
  obtain ⟨s1, s2, w1, w2, s3, s4, s5, s6, s7⟩ := m_goes_eq hB T.1 MT MH XH.2.1 hap 3
  by_cases epq : p = q
  · refine same (-2) ?_ ?_
    · unfold x_hand; rw [e1, bnd_s, if_neg (by decide), e3, bnd_s, if_neg (by decide), hPi, if_pos f1, bnd_s, if_neg (by decide), hSX, bnd_s, if_pos (by rw [epq])]
    · unfold m_hand
      rw [e2, bnd_s, if_neg (by decide), e4, bnd_s, if_neg (by decide), s1, bnd_s]
      simp (disch := omega) only [nI_lit, nI_add, pk_mul, nI_cl, nI_leI, nI_ltI, nI_eq, nI_subN, ck_nI]
      rw [hm4, if_pos (by rw [f1]), if_pos (by rw [epq])]
  have hqX := (x5 q (by omega)).1
  have hqM := (m5 q (by omega)).1
  have hlq := T.1.2.2.2.1 q hq
  obtain ⟨r1, r2, -, -, -⟩ := hB.2.2.1 q hq
  have hRx : x_hasRoom room many (nI q) = some (if (c.sl q).length < B.rm q then 1 else 0) := by
    unfold x_hasRoom
    simp (disch := omega) only [nI_cl, ck_nI]
    rw [hrX q hq, hqX]
    by_cases z : (c.sl q).length < B.rm q
    · rw [if_neg (N_nle z (by omega)), if_pos z]
    · rw [if_pos (N_le (by omega) (by omega)), if_neg z]
  by_cases full : (c.sl q).length = B.rm q
  · refine same (-3) ?_ ?_
    · unfold x_hand; rw [e1, bnd_s, if_neg (by decide), e3, bnd_s, if_neg (by decide), hPi, if_pos f1, bnd_s, if_neg (by decide), hSX, bnd_s, if_neg (N_ne epq (by omega) (by omega)), hRx, if_neg (by omega), bnd_s, if_pos rfl]
    · unfold m_hand
      rw [e2, bnd_s, if_neg (by decide), e4, bnd_s, if_neg (by decide), s1, bnd_s]
      simp (disch := omega) only [nI_lit, nI_add, pk_mul, nI_cl, nI_leI, nI_ltI, nI_eq, nI_subN, ck_nI]
      rw [hm4, if_pos (by rw [f1]), if_neg epq, hqM, hrM q hq, if_pos (by rw [full])]
  have hlt : (c.sl q).length < B.rm q := by omega
  obtain ⟨g', n1, n2, n3, n4, n5, gE, gS, gH⟩ := x_goes_eq hB T.1 XT XH hap 3
  have hok1 := rem_ok (f := 0) T.1 hap (by decide) (by decide)
  have hslq : (c.rem p a 0).sl q = c.sl q := by rw [rem_sl, if_neg (fun z => epq z.symm)]
  have XT1 := XT.rem (f := 0) gS
  have MT1 := s6 0
  have hq1 : SlR (va_up slip p g' q) (upd many p (nI ((c.sl p).length - 1)) q) (c.sl q) := by
    have := XT1.2.2.2.2 q (by omega)
    rw [hslq] at this; exact this
  obtain ⟨g2, pE, pS⟩ := x_pin_eq (k := (c.sl q).length) (a := a) hq1 (Nat.le_refl _) (by omega) ha8
  have hw2q : w2 (19 + q) = nI (c.sl q).length := by
    have := (MT1.2.2.2.2 q (by omega)).1
    rw [hslq, upd_n (by omega)] at this; exact this
  have iE := m_insert_eq (w := w2) (p := q) (k := (c.sl q).length) (by omega) hw2q (by omega) (Nat.le_refl _) ha8
  have MT2 := MT1.pin (p := q) (k := (c.sl q).length) (by omega) (by rw [hslq]; exact Nat.le_refl _) (by rw [hslq]; omega) ha8
  rw [hslq, wIns_u ha8] at MT2
  have pS2 : SlR g2 (nI ((c.sl q).length + 1)) (((c.rem p a 0).sl q).insertIdx (c.sl q).length a) := by rw [hslq]; exact pS
  have XT2 := XT1.pin pS2
  have hst : StepD B (3, a, p, (c.sl p).idxOf a) c ((c.rem p a 0).pin q (c.sl q).length a) := ⟨ha, hp, Or.inr (Or.inr (Or.inr ⟨rfl, hap, rfl, q, hq, fun z => epq z.symm, hlt, rfl⟩))⟩
  have hok2 := pin_ok (p := q) (k := (c.sl q).length) hok1 ha (by rw [rem_fate, if_pos rfl]; decide) hq (by rw [hslq]; exact hlt) (by rw [hslq]; exact Nat.le_refl _)
  have hf1 : ∀ b, ((c.rem p a 0).pin q (c.sl q).length a).fate b = 1 → c.fate b = 1 := by
    intro b hb
    rw [pin_fate, rem_fate] at hb
    by_cases e : b = a
    · rw [e]; exact f1
    · rw [if_neg e, if_neg e] at hb; exact hb
  refine ⟨nI ((c.sl q).length + 1), upd (upd many p (nI ((c.sl p).length - 1))) q (nI ((c.sl q).length + 1)), va_up (va_up slip p g') q g2, n1, n2, n3, n4, n5, wIns w2 q (c.sl q).length (c.sl q).length a, (c.rem p a 0).pin q (c.sl q).length a, hpush (3, a, p, (c.sl p).idxOf a) c h, ?_, ?_, T.step hst hok2 hf1, ⟨XT2.congr (fun b hb => ?_), gH, XL.step hf1⟩, ⟨MT2, s5.congr gH.2.1 (fun j hj => wIns_o (by omega) (by omega) (by omega) (by omega) (by omega)), ?_⟩, ?_⟩
  · unfold x_hand
    rw [e1, bnd_s, if_neg (by decide), e3, bnd_s, if_neg (by decide), hPi, if_pos f1, bnd_s, if_neg (by decide), hSX, bnd_s, if_neg (N_ne epq (by omega) (by omega)), hRx, if_pos hlt, bnd_s, if_neg (by decide)]
    have gE' : x_goes many slip what which whose place deeds 3 (nI a) = _ := gE
    rw [gE', bnd7_s]
    simp (disch := omega) only [nI_cl, ck_nI]
    have hm : upd many p (nI ((c.sl p).length - 1)) q = nI (c.sl q).length := hq1.1
    have pE' := pE
    rw [hm] at pE'
    rw [hm, pE', bnd2_s, upd_s]
  · unfold m_hand
    rw [e2, bnd_s, if_neg (by decide), e4, bnd_s, if_neg (by decide), s1, bnd_s]
    simp (disch := omega) only [nI_lit, nI_add, pk_mul, nI_cl, nI_leI, nI_ltI, nI_eq, nI_subN, ck_nI]
    rw [hm4, if_pos (by rw [f1]), if_neg epq, hqM, hrM q hq, if_neg (N_ne full (by omega) (by omega)), s2, bnd_s, s3, bnd_s, s4, bnd_s, hw2q, iE, bnd_s]
    have e9 : wIns w2 q (c.sl q).length (c.sl q).length a (19 + q) = nI ((c.sl q).length + 1) := by
      unfold wIns; rw [if_neg (by omega), if_pos rfl]
    rw [e9]
  · by_cases e : b = a
    · rw [e, upd_s, x4 a ha8, f1]; rfl
    · rw [upd_n e, upd_n e]
  · intro b hb hrb
    show wIns w2 q (c.sl q).length (c.sl q).length a (11 + b) = _
    rw [wIns_o (by omega) (by omega) (by omega) (by omega) (by omega), s7 _ (by omega)]
    exact (XLeft.step (e := (3, a, p, (c.sl p).idxOf a)) ML hf1) b hb hrb
  · intro j hj
    rw [wIns_o (by omega) (by omega) (by omega) (by omega) (by omega), s7 j (by omega)]
end POPS3
