/-! PURE LAW: promise, letOff, breaks, hand, undo -/
def TX (c : Core) (h : Hist) (lf : Nat → Nat) (many : Nat → Int32) (slip : Nat → Nat → Int32) (became left what which whose place : Nat → Int32) (deeds day won lost : Int32) : Prop := XTown c many slip became day won lost ∧ XHist h what which whose place deeds ∧ XLeft c h lf left
def TM (c : Core) (h : Hist) (lf : Nat → Nat) (w : Nat → Int32) : Prop := MTown c w ∧ MHist h w ∧ XLeft c h lf (fun a => w (11 + a))
section POPS
variable {B : Bk} {c : Core} {h : Hist} {lf : Nat → Nat} {room work price whom bday units worth due under : Nat → Int32} {people askings hangs : Int32} {mpe mak mhg : Int32} {mroom mwork mprice asked hung : Nat → Int32}
variable {many : Nat → Int32} {slip : Nat → Nat → Int32} {became left what which whose place : Nat → Int32} {deeds day won lost : Int32} {w : Nat → Int32}
theorem bndz (e : Int32) (h : e = 0 ∨ e = 1) : e = 0 ∨ e = 1 := h
theorem P_promise (hB : B.ok) (RX : RBX B room work price whom bday units worth due under people askings hangs) (RM : RBM B mpe mroom mwork mprice mak asked mhg hung) (T : TI B c h lf) (X : TX c h lf many slip became left what which whose place deeds day won lost) (M : TM c h lf w) (v : Int32) : ∃ r many' slip' became' left' what' which' whose' place' deeds' w' c' h' lf', x_promise room whom bday units askings many slip became left what which whose place deeds day v = some (r, many', slip', became', left', what', which', whose', place', deeds') ∧ m_promise w mroom mak asked v = some (r, w') ∧ TI B c' h' lf' ∧ TX c' h' lf' many' slip' became' left' what' which' whose' place' deeds' day won lost ∧ TM c' h' lf' w' ∧ ∀ j, 100 ≤ j → w' j = w j := by
  obtain ⟨rfl, rfl, rfl, RX1, RX2, -⟩ := RX
  obtain ⟨rfl, rfl, rfl, RM1, RM2, -⟩ := RM
  have hB2 := hB
  obtain ⟨b1, b2, b3, b4, -, -⟩ := hB2
  rcases isA_cases (v := v) b2 with ⟨a, ha, rfl, e1, e2, -, -⟩ | ⟨-, e1, e2, -, -⟩
  rotate_left
  · refine ⟨-1, many, slip, became, left, what, which, whose, place, deeds, w, c, h, lf, ?_, ?_, T, X, M, fun _ _ => rfl⟩
    · unfold x_promise; rw [e1, bnd_s, if_pos rfl]
    · unfold m_promise; rw [e2, bnd_s, if_pos rfl]
  obtain ⟨XT, XH, XL⟩ := X
  obtain ⟨MT, MH, ML⟩ := M
  obtain ⟨x1, x2, x3, x4, x5⟩ := id XT
  obtain ⟨m1, m2, m3, m4, m5⟩ := id MT
  have ha8 : a < 8 := by omega
  have hf3 := T.1.2.1 a
  obtain ⟨w1, w2, w3, w4, w5⟩ := RX2 a ha
  obtain ⟨y1, y2, y3, y4, y5⟩ := RM2 a ha
  obtain ⟨c1, c2, c3, c4, c5, c6, c7⟩ := b4 a ha
  have hd10 := T.1.1
  have hp4 : B.wh a < 4 := by omega
  have hlen := T.1.2.2.2.1 (B.wh a) c1
  obtain ⟨r1, r2, -, -, -⟩ := b3 (B.wh a) c1
  obtain ⟨q1, -, -⟩ := RX1 _ c1
  obtain ⟨q2, -, -⟩ := RM1 _ c1
  by_cases f0 : c.fate a = 0
  rotate_left
  · refine ⟨-2, many, slip, became, left, what, which, whose, place, deeds, w, c, h, lf, ?_, ?_, T, ⟨XT, XH, XL⟩, ⟨MT, MH, ML⟩, fun _ _ => rfl⟩
    · unfold x_promise
      rw [e1, bnd_s, if_neg (by decide)]
      simp (disch := omega) only [nI_cl, ck_nI]
      rw [x4 a ha8, if_neg (L_ne 0 f0 (by omega) (by omega))]
    · unfold m_promise
      rw [e2, bnd_s, if_neg (by decide)]
      simp (disch := omega) only [nI_lit, nI_add, pk_mul, nI_cl, nI_leI, nI_ltI, nI_eq, nI_subN, ck_nI]
      rw [m4 a ha8, if_neg (N_ne f0 (by omega) (by omega))]
  by_cases d0 : B.bd a = c.day
  rotate_left
  · refine ⟨-2, many, slip, became, left, what, which, whose, place, deeds, w, c, h, lf, ?_, ?_, T, ⟨XT, XH, XL⟩, ⟨MT, MH, ML⟩, fun _ _ => rfl⟩
    · unfold x_promise
      rw [e1, bnd_s, if_neg (by decide)]
      simp (disch := omega) only [nI_cl, ck_nI]
      rw [x4 a ha8, if_pos (L_eq 0 f0), w2, x1, if_neg (N_ne d0 (by omega) (by omega))]
    · unfold m_promise
      rw [e2, bnd_s, if_neg (by decide)]
      simp (disch := omega) only [nI_lit, nI_add, pk_mul, nI_cl, nI_leI, nI_ltI, nI_eq, nI_subN, ck_nI]
      rw [m4 a ha8, if_pos (by rw [f0]), y2, m1, if_neg (N_ne d0 (by omega) (by omega))]
  have hsX := x5 _ hp4
  have hsM := m5 _ hp4
  have hmX : many (B.wh a) = nI (c.sl (B.wh a)).length := hsX.1
  have hmM : w (19 + B.wh a) = nI (c.sl (B.wh a)).length := hsM.1
  by_cases full : (c.sl (B.wh a)).length = B.rm (B.wh a)
  · refine ⟨-3, many, slip, became, left, what, which, whose, place, deeds, w, c, h, lf, ?_, ?_, T, ⟨XT, XH, XL⟩, ⟨MT, MH, ML⟩, fun _ _ => rfl⟩
    · unfold x_promise
      rw [e1, bnd_s, if_neg (by decide)]
      simp (disch := omega) only [nI_cl, ck_nI]
      rw [x4 a ha8, if_pos (L_eq 0 f0), w2, x1, if_pos (by rw [d0]), w1]
      unfold x_hasRoom
      simp (disch := omega) only [nI_cl, ck_nI]
      rw [q1, hmX, if_pos (N_le (by omega) (by omega)), bnd_s, if_pos rfl]
    · unfold m_promise
      rw [e2, bnd_s, if_neg (by decide)]
      simp (disch := omega) only [nI_lit, nI_add, pk_mul, nI_cl, nI_leI, nI_ltI, nI_eq, nI_subN, ck_nI]
      rw [m4 a ha8, if_pos (by rw [f0]), y2, m1, if_pos (by rw [d0]), y1]
      simp (disch := omega) only [nI_lit, nI_add, pk_mul, nI_cl, nI_leI, nI_ltI, nI_eq, nI_subN, ck_nI]
      rw [q2, hmM, if_pos (by rw [full])]
  have hlt : (c.sl (B.wh a)).length < B.rm (B.wh a) := by omega
  obtain ⟨n1, n2, n3, n4, n5, kE, kH⟩ := x_know_eq XH (0, a, B.wh a, (c.sl (B.wh a)).length) c
  obtain ⟨g', pE, pS⟩ := x_pin_eq (k := (c.sl (B.wh a)).length) (a := a) hsX (Nat.le_refl _) (by omega) ha8
  have iE := m_insert_eq (w := w) (k := (c.sl (B.wh a)).length) hp4 hmM (by omega) (Nat.le_refl _) ha8
  have hI := MT.pin (k := (c.sl (B.wh a)).length) hp4 (Nat.le_refl _) (by omega) ha8
  have MH2 : MHist h (upd (wIns w (B.wh a) (c.sl (B.wh a)).length (c.sl (B.wh a)).length a) (11 + a) (nI (B.un a))) := MH.congr XH.2.1 (fun j hj => by
    rw [upd_n (by omega), wIns_o (by omega) (by omega) (by omega) (by omega) (by omega)])
  obtain ⟨w', dE, dH, dO⟩ := m_minds_eq MH2 XH.2.1 (0, a, B.wh a, (c.sl (B.wh a)).length) c (v := nI 0) (fun z => absurd rfl z)
  have hst : StepD B (0, a, B.wh a, (c.sl (B.wh a)).length) c (c.pin (B.wh a) (c.sl (B.wh a)).length a) := ⟨ha, c1, Or.inl ⟨rfl, f0, hlt, rfl, rfl⟩⟩
  have hok := pin_ok T.1 ha (by rw [f0]; decide) c1 hlt (Nat.le_refl _)
  have hrel : ∀ b, Rel (c.pin (B.wh a) (c.sl (B.wh a)).length a) (hpush (0, a, B.wh a, (c.sl (B.wh a)).length) c h) b → b ≠ a → Rel c h b := by
    intro b hr hb
    rcases rel_push hr with z | z
    · rw [pin_fate, if_neg hb] at z; exact Or.inl z
    · exact z
  refine ⟨nI ((c.sl (B.wh a)).length + 1), upd many (B.wh a) (nI ((c.sl (B.wh a)).length + 1)), va_up slip (B.wh a) g', upd became a 1, upd left a (nI (B.un a)), n1, n2, n3, n4, n5, w', c.pin (B.wh a) (c.sl (B.wh a)).length a, hpush (0, a, B.wh a, (c.sl (B.wh a)).length) c h, va_up lf a (B.un a), ?_, ?_, ⟨hok, ⟨hst, T.1, T.2.1.take 11⟩, ?_⟩, ⟨XT.pin pS, kH, ?_⟩, ⟨hI.congr (fun j hj => ?_), dH, ?_⟩, ?_⟩
  · unfold x_promise
    rw [e1, bnd_s, if_neg (by decide)]
    simp (disch := omega) only [nI_cl, ck_nI]
    rw [x4 a ha8, if_pos (L_eq 0 f0), w2, x1, if_pos (by rw [d0]), w1]
    have hR : x_hasRoom room many (nI (B.wh a)) = some 1 := by
      unfold x_hasRoom
      simp (disch := omega) only [nI_cl, ck_nI]
      rw [q1, hmX, if_neg (N_nle hlt (by omega))]
    rw [hR, bnd_s, if_neg (by decide)]
    simp (disch := omega) only [nI_cl, ck_nI]
    have kE' : x_know what which whose place deeds 0 (nI a) (nI (B.wh a)) (nI (c.sl (B.wh a)).length) = some (n1, n2, n3, n4, n5) := kE
    have pE' := pE
    rw [hmX] at pE'
    rw [hmX, kE', bnd5_s, pE', bnd2_s, upd_s, w3]
  · unfold m_promise
    rw [e2, bnd_s, if_neg (by decide)]
    simp (disch := omega) only [nI_lit, nI_add, pk_mul, nI_cl, nI_leI, nI_ltI, nI_eq, nI_subN, ck_nI]
    rw [m4 a ha8, if_pos (by rw [f0]), y2, m1, if_pos (by rw [d0]), y1]
    simp (disch := omega) only [nI_lit, nI_add, pk_mul, nI_cl, nI_leI, nI_ltI, nI_eq, nI_subN, ck_nI]
    rw [q2, hmM, if_neg (N_ne full (by omega) (by omega)), iE, bnd_s, y3]
    have dE' : m_minds (upd (wIns w (B.wh a) (c.sl (B.wh a)).length (c.sl (B.wh a)).length a) (11 + a) (nI (B.un a))) (nI 0) (nI a) (nI (B.wh a)) (nI 0) = some w' := dE
    rw [dE', bnd_s, dO _ (by omega), upd_n (by omega)]
    unfold wIns
    rw [if_neg (by omega), if_pos rfl]
  · intro b hb hr
    by_cases e : b = a
    · rw [e, va_up_self]; exact ⟨c4, c5⟩
    · rw [va_up_ne _ _ e]; exact T.2.2 b hb (hrel b hr e)
  · intro b hb hr
    by_cases e : b = a
    · rw [e, upd_s, va_up_self]
    · rw [upd_n e, va_up_ne _ _ e]; exact XL b hb (hrel b hr e)
  · rw [dO j (by omega), upd_n (by omega)]
  · intro b hb hr
    show w' (11 + b) = _
    rw [dO _ (by omega)]
    by_cases e : b = a
    · rw [e, upd_s, va_up_self]
    · rw [upd_n (by omega), va_up_ne _ _ e, wIns_o (by omega) (by omega) (by omega) (by omega) (by omega)]; exact ML b hb (hrel b hr e)
  · intro j hj
    rw [dO j (by omega), upd_n (by omega), wIns_o (by omega) (by omega) (by omega) (by omega) (by omega)]
end POPS
