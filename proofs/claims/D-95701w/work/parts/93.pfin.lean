/-! PURE LAW: how the two worlds stand to each other; every call keeps it -/
set_option maxRecDepth 100000
def RR0 : RRT := fun room work price whom bday units worth due under people askings hangs items many slip became left what which whose place deeds day won lost kept text typed rest bestSet tenths sortWorth sortDays row trace i0_many i0_slip i0_became i0_left i0_what i0_which i0_whose i0_place i0_deeds i0_day i0_won i0_lost i0_kept i1_many i1_slip i1_became i1_left i1_what i1_which i1_whose i1_place i1_deeds i1_day i1_won i1_lost i1_kept mv_w mv_isKept mv_people mv_room mv_work mv_price mv_askings mv_asked mv_hangs mv_hung mv_tenths mv_sortWorth mv_sortDays mv_sorts mv_text mv_texted mv_trace mv_at_ mv_fault mv_readPeople mv_readPerson mv_readAskings mv_readAsked mv_readHangs mv_readHung mv_rest mv_brings mv_later => ∃ (B : Bk) (c : Core) (h : Hist) (lf : Nat → Nat), B.ok ∧ RBX B room work price whom bday units worth due under people askings hangs ∧ RBM B mv_people mv_room mv_work mv_price mv_askings mv_asked mv_hangs mv_hung ∧ TI B c h lf ∧ TX c h lf many slip became left what which whose place deeds day won lost ∧ TM c h lf mv_w ∧ IR B i0_kept (mv_isKept 0) i0_many i0_slip i0_became i0_left i0_what i0_which i0_whose i0_place i0_deeds i0_day i0_won i0_lost (fun j => mv_w (100 + j)) ∧ IR B i1_kept (mv_isKept 1) i1_many i1_slip i1_became i1_left i1_what i1_which i1_whose i1_place i1_deeds i1_day i1_won i1_lost (fun j => mv_w (200 + j)) ∧ RTx text typed mv_text mv_texted ∧ RS tenths sortWorth sortDays mv_tenths mv_sortWorth mv_sortDays mv_sorts ∧ mv_trace = trace
theorem P_count (pe ak hg ty : Int32) (te : Nat → Int32) (v : Int32) : ∃ r, x_count pe ak hg ty te v = some r ∧ m_count pe ak hg te ty v = some r := by
  have e : m_count pe ak hg te ty v = x_count pe ak hg ty te v := rfl
  rw [e]
  have k : ∃ r, x_count pe ak hg ty te v = some r := by
    unfold x_count
    by_cases h0 : v = 0
    · rw [if_pos h0]; exact ⟨_, rfl⟩
    rw [if_neg h0]
    by_cases h1 : v = 1
    · rw [if_pos h1]; exact ⟨_, rfl⟩
    rw [if_neg h1]
    by_cases h2 : v = 2
    · rw [if_pos h2]; exact ⟨_, rfl⟩
    rw [if_neg h2]
    by_cases h3 : v = 3
    · rw [if_pos h3]; exact ⟨_, rfl⟩
    rw [if_neg h3]
    by_cases h4 : v = 4
    · rw [if_pos h4]; exact ⟨_, rfl⟩
    rw [if_neg h4]
    exact ⟨_, rfl⟩
  obtain ⟨r, h⟩ := k
  exact ⟨r, h, h⟩
theorem ls_type : LS_type RR0 := by
  intro room work price whom bday units worth due under people askings hangs items many slip became left what which whose place deeds day won lost kept text typed rest bestSet tenths sortWorth sortDays row trace i0_many i0_slip i0_became i0_left i0_what i0_which i0_whose i0_place i0_deeds i0_day i0_won i0_lost i0_kept i1_many i1_slip i1_became i1_left i1_what i1_which i1_whose i1_place i1_deeds i1_day i1_won i1_lost i1_kept mv_w mv_isKept mv_people mv_room mv_work mv_price mv_askings mv_asked mv_hangs mv_hung mv_tenths mv_sortWorth mv_sortDays mv_sorts mv_text mv_texted mv_trace mv_at_ mv_fault mv_readPeople mv_readPerson mv_readAskings mv_readAsked mv_readHangs mv_readHung mv_rest mv_brings mv_later a1 a2 H
  obtain ⟨B, c, h, lf, hB, RX, RM, T, X, M, I0, I1, RT, RSo, htr⟩ := H
  have RX2 := RX
  have RM2 := RM
  obtain ⟨x1, x2, x3, x4, x5, x6⟩ := RX2
  obtain ⟨m1, m2, m3, m4, m5, m6⟩ := RM2
  subst x1 x2 x3 m1 m2 m3 htr
  obtain ⟨r, t1, n1, t2, n2, hx, hm, RT2⟩ := P_type RT a1 a2
  exact ⟨r, t1, n1, t2, n2, hx, hm, B, c, h, lf, hB, RX, RM, T, X, M, I0, I1, RT2, RSo, rfl⟩
theorem ls_clear : LS_clear RR0 := by
  intro room work price whom bday units worth due under people askings hangs items many slip became left what which whose place deeds day won lost kept text typed rest bestSet tenths sortWorth sortDays row trace i0_many i0_slip i0_became i0_left i0_what i0_which i0_whose i0_place i0_deeds i0_day i0_won i0_lost i0_kept i1_many i1_slip i1_became i1_left i1_what i1_which i1_whose i1_place i1_deeds i1_day i1_won i1_lost i1_kept mv_w mv_isKept mv_people mv_room mv_work mv_price mv_askings mv_asked mv_hangs mv_hung mv_tenths mv_sortWorth mv_sortDays mv_sorts mv_text mv_texted mv_trace mv_at_ mv_fault mv_readPeople mv_readPerson mv_readAskings mv_readAsked mv_readHangs mv_readHung mv_rest mv_brings mv_later  H
  obtain ⟨B, c, h, lf, hB, RX, RM, T, X, M, I0, I1, RT, RSo, htr⟩ := H
  have RX2 := RX
  have RM2 := RM
  obtain ⟨x1, x2, x3, x4, x5, x6⟩ := RX2
  obtain ⟨m1, m2, m3, m4, m5, m6⟩ := RM2
  subst x1 x2 x3 m1 m2 m3 htr
  obtain ⟨n, b, rfl, rfl, hn, hb⟩ := RT
  exact ⟨nI n, 0, 0, rfl, rfl, B, c, h, lf, hB, RX, RM, T, X, M, I0, I1, ⟨0, b, rfl, rfl, by omega, hb⟩, RSo, rfl⟩
theorem ls_town : LS_town RR0 := by
  intro room work price whom bday units worth due under people askings hangs items many slip became left what which whose place deeds day won lost kept text typed rest bestSet tenths sortWorth sortDays row trace i0_many i0_slip i0_became i0_left i0_what i0_which i0_whose i0_place i0_deeds i0_day i0_won i0_lost i0_kept i1_many i1_slip i1_became i1_left i1_what i1_which i1_whose i1_place i1_deeds i1_day i1_won i1_lost i1_kept mv_w mv_isKept mv_people mv_room mv_work mv_price mv_askings mv_asked mv_hangs mv_hung mv_tenths mv_sortWorth mv_sortDays mv_sorts mv_text mv_texted mv_trace mv_at_ mv_fault mv_readPeople mv_readPerson mv_readAskings mv_readAsked mv_readHangs mv_readHung mv_rest mv_brings mv_later  H
  obtain ⟨B, c, h, lf, hB, RX, RM, T, X, M, I0, I1, RT, RSo, htr⟩ := H
  have RX2 := RX
  have RM2 := RM
  obtain ⟨x1, x2, x3, x4, x5, x6⟩ := RX2
  obtain ⟨m1, m2, m3, m4, m5, m6⟩ := RM2
  subst x1 x2 x3 m1 m2 m3 htr
  rcases P_town RT mv_w mv_isKept (nI B.pe) mv_room mv_work mv_price (nI B.ak) mv_asked (nI B.hg.length) mv_hung mv_readPerson mv_readAsked mv_readHung with ⟨st, at1, q1, q2, q3, q4, q5, q6, hx, hm⟩ | ⟨e1, s1, so1, v1, B1, f1, f2, f3, f4, f5, f6, f7, f8, f9, pe1, ak1, hg1, w1, g1, g2, g3, g4, g5, at1, q1, q2, q3, q4, q5, q6, hx, hm, k1, k2, k3, k4, k5⟩
  · exact ⟨_, _, _, _, _, _, _, _, _, _, _, _, _, _, _, _, _, _, _, _, hm, Or.inl ⟨_, hx, rfl, B, c, h, lf, hB, RX, RM, T, X, M, I0, I1, RT, RSo, rfl⟩⟩
  · obtain ⟨n, b, rfl, rfl, hn, hb⟩ := RT
    refine ⟨_, _, _, _, _, _, _, _, _, _, _, _, _, _, _, _, _, _, _, _, hm, Or.inr ⟨_, _, _, _, _, _, _, _, _, _, _, _, _, _, _, _, _, hx, rfl, B1, C0c, [], fun _ => 0, k1, k2, k3, town0 B1, town0_X (fun p hp => ?_) (fun a ha => ?_), town0_M k4, Or.inl ⟨rfl, rfl⟩, Or.inl ⟨rfl, rfl⟩, ⟨0, b, rfl, rfl, by omega, hb⟩, RSo, rfl⟩⟩
    · match p, hp with
      | 0, _ => rfl
      | 1, _ => rfl
      | 2, _ => rfl
      | 3, _ => rfl
      | p + 4, hp => exact absurd hp (by omega)
    · match a, ha with
      | 0, _ => rfl
      | 1, _ => rfl
      | 2, _ => rfl
      | 3, _ => rfl
      | 4, _ => rfl
      | 5, _ => rfl
      | 6, _ => rfl
      | 7, _ => rfl
      | a + 8, ha => exact absurd ha (by omega)
theorem ls_person : LS_person RR0 := by
  intro room work price whom bday units worth due under people askings hangs items many slip became left what which whose place deeds day won lost kept text typed rest bestSet tenths sortWorth sortDays row trace i0_many i0_slip i0_became i0_left i0_what i0_which i0_whose i0_place i0_deeds i0_day i0_won i0_lost i0_kept i1_many i1_slip i1_became i1_left i1_what i1_which i1_whose i1_place i1_deeds i1_day i1_won i1_lost i1_kept mv_w mv_isKept mv_people mv_room mv_work mv_price mv_askings mv_asked mv_hangs mv_hung mv_tenths mv_sortWorth mv_sortDays mv_sorts mv_text mv_texted mv_trace mv_at_ mv_fault mv_readPeople mv_readPerson mv_readAskings mv_readAsked mv_readHangs mv_readHung mv_rest mv_brings mv_later a1 a2 H
  obtain ⟨B, c, h, lf, hB, RX, RM, T, X, M, I0, I1, RT, RSo, htr⟩ := H
  have RX2 := RX
  have RM2 := RM
  obtain ⟨x1, x2, x3, x4, x5, x6⟩ := RX2
  obtain ⟨m1, m2, m3, m4, m5, m6⟩ := RM2
  subst x1 x2 x3 m1 m2 m3 htr
  obtain ⟨r, hx, hm⟩ := P_person hB RX RM X.1 M.1 a1 a2
  exact ⟨r, hx, hm, B, c, h, lf, hB, RX, RM, T, X, M, I0, I1, RT, RSo, rfl⟩
theorem ls_asking : LS_asking RR0 := by
  intro room work price whom bday units worth due under people askings hangs items many slip became left what which whose place deeds day won lost kept text typed rest bestSet tenths sortWorth sortDays row trace i0_many i0_slip i0_became i0_left i0_what i0_which i0_whose i0_place i0_deeds i0_day i0_won i0_lost i0_kept i1_many i1_slip i1_became i1_left i1_what i1_which i1_whose i1_place i1_deeds i1_day i1_won i1_lost i1_kept mv_w mv_isKept mv_people mv_room mv_work mv_price mv_askings mv_asked mv_hangs mv_hung mv_tenths mv_sortWorth mv_sortDays mv_sorts mv_text mv_texted mv_trace mv_at_ mv_fault mv_readPeople mv_readPerson mv_readAskings mv_readAsked mv_readHangs mv_readHung mv_rest mv_brings mv_later a1 a2 H
  obtain ⟨B, c, h, lf, hB, RX, RM, T, X, M, I0, I1, RT, RSo, htr⟩ := H
  have RX2 := RX
  have RM2 := RM
  obtain ⟨x1, x2, x3, x4, x5, x6⟩ := RX2
  obtain ⟨m1, m2, m3, m4, m5, m6⟩ := RM2
  subst x1 x2 x3 m1 m2 m3 htr
  obtain ⟨r, hx, hm⟩ := P_asking hB RX RM T X M a1 a2
  exact ⟨r, hx, hm, B, c, h, lf, hB, RX, RM, T, X, M, I0, I1, RT, RSo, rfl⟩
theorem ls_slip : LS_slip RR0 := by
  intro room work price whom bday units worth due under people askings hangs items many slip became left what which whose place deeds day won lost kept text typed rest bestSet tenths sortWorth sortDays row trace i0_many i0_slip i0_became i0_left i0_what i0_which i0_whose i0_place i0_deeds i0_day i0_won i0_lost i0_kept i1_many i1_slip i1_became i1_left i1_what i1_which i1_whose i1_place i1_deeds i1_day i1_won i1_lost i1_kept mv_w mv_isKept mv_people mv_room mv_work mv_price mv_askings mv_asked mv_hangs mv_hung mv_tenths mv_sortWorth mv_sortDays mv_sorts mv_text mv_texted mv_trace mv_at_ mv_fault mv_readPeople mv_readPerson mv_readAskings mv_readAsked mv_readHangs mv_readHung mv_rest mv_brings mv_later a1 a2 H
  obtain ⟨B, c, h, lf, hB, RX, RM, T, X, M, I0, I1, RT, RSo, htr⟩ := H
  have RX2 := RX
  have RM2 := RM
  obtain ⟨x1, x2, x3, x4, x5, x6⟩ := RX2
  obtain ⟨m1, m2, m3, m4, m5, m6⟩ := RM2
  subst x1 x2 x3 m1 m2 m3 htr
  obtain ⟨r, hx, hm⟩ := P_slip hB T.1 X.1 M.1 a1 a2
  exact ⟨r, hx, hm, B, c, h, lf, hB, RX, RM, T, X, M, I0, I1, RT, RSo, rfl⟩
theorem ls_promise : LS_promise RR0 := by
  intro room work price whom bday units worth due under people askings hangs items many slip became left what which whose place deeds day won lost kept text typed rest bestSet tenths sortWorth sortDays row trace i0_many i0_slip i0_became i0_left i0_what i0_which i0_whose i0_place i0_deeds i0_day i0_won i0_lost i0_kept i1_many i1_slip i1_became i1_left i1_what i1_which i1_whose i1_place i1_deeds i1_day i1_won i1_lost i1_kept mv_w mv_isKept mv_people mv_room mv_work mv_price mv_askings mv_asked mv_hangs mv_hung mv_tenths mv_sortWorth mv_sortDays mv_sorts mv_text mv_texted mv_trace mv_at_ mv_fault mv_readPeople mv_readPerson mv_readAskings mv_readAsked mv_readHangs mv_readHung mv_rest mv_brings mv_later a1 H
  obtain ⟨B, c, h, lf, hB, RX, RM, T, X, M, I0, I1, RT, RSo, htr⟩ := H
  have RX2 := RX
  have RM2 := RM
  obtain ⟨x1, x2, x3, x4, x5, x6⟩ := RX2
  obtain ⟨m1, m2, m3, m4, m5, m6⟩ := RM2
  subst x1 x2 x3 m1 m2 m3 htr
  obtain ⟨r, y0, y1, y2, y3, y4, y5, y6, y7, y8, w1, c1, h1, lf1, hx, hm, T1, X1, M1, hw⟩ := P_promise hB RX RM T X M a1
  exact ⟨r, y0, y1, y2, y3, y4, y5, y6, y7, y8, w1, hx, hm, B, c1, h1, lf1, hB, RX, RM, T1, X1, M1, I0.congr (fun j hj => hw _ (by omega)), I1.congr (fun j hj => hw _ (by omega)), RT, RSo, rfl⟩
theorem ls_letOff : LS_letOff RR0 := by
  intro room work price whom bday units worth due under people askings hangs items many slip became left what which whose place deeds day won lost kept text typed rest bestSet tenths sortWorth sortDays row trace i0_many i0_slip i0_became i0_left i0_what i0_which i0_whose i0_place i0_deeds i0_day i0_won i0_lost i0_kept i1_many i1_slip i1_became i1_left i1_what i1_which i1_whose i1_place i1_deeds i1_day i1_won i1_lost i1_kept mv_w mv_isKept mv_people mv_room mv_work mv_price mv_askings mv_asked mv_hangs mv_hung mv_tenths mv_sortWorth mv_sortDays mv_sorts mv_text mv_texted mv_trace mv_at_ mv_fault mv_readPeople mv_readPerson mv_readAskings mv_readAsked mv_readHangs mv_readHung mv_rest mv_brings mv_later a1 H
  obtain ⟨B, c, h, lf, hB, RX, RM, T, X, M, I0, I1, RT, RSo, htr⟩ := H
  have RX2 := RX
  have RM2 := RM
  obtain ⟨x1, x2, x3, x4, x5, x6⟩ := RX2
  obtain ⟨m1, m2, m3, m4, m5, m6⟩ := RM2
  subst x1 x2 x3 m1 m2 m3 htr
  obtain ⟨r, y0, y1, y2, y3, y4, y5, y6, y7, w1, c1, h1, hx, hm, T1, X1, M1, hw⟩ := P_letOff hB T X M a1
  exact ⟨r, y0, y1, y2, y3, y4, y5, y6, y7, w1, hx, hm, B, c1, h1, lf, hB, RX, RM, T1, X1, M1, I0.congr (fun j hj => hw _ (by omega)), I1.congr (fun j hj => hw _ (by omega)), RT, RSo, rfl⟩
theorem ls_breaks : LS_breaks RR0 := by
  intro room work price whom bday units worth due under people askings hangs items many slip became left what which whose place deeds day won lost kept text typed rest bestSet tenths sortWorth sortDays row trace i0_many i0_slip i0_became i0_left i0_what i0_which i0_whose i0_place i0_deeds i0_day i0_won i0_lost i0_kept i1_many i1_slip i1_became i1_left i1_what i1_which i1_whose i1_place i1_deeds i1_day i1_won i1_lost i1_kept mv_w mv_isKept mv_people mv_room mv_work mv_price mv_askings mv_asked mv_hangs mv_hung mv_tenths mv_sortWorth mv_sortDays mv_sorts mv_text mv_texted mv_trace mv_at_ mv_fault mv_readPeople mv_readPerson mv_readAskings mv_readAsked mv_readHangs mv_readHung mv_rest mv_brings mv_later a1 H
  obtain ⟨B, c, h, lf, hB, RX, RM, T, X, M, I0, I1, RT, RSo, htr⟩ := H
  have RX2 := RX
  have RM2 := RM
  obtain ⟨x1, x2, x3, x4, x5, x6⟩ := RX2
  obtain ⟨m1, m2, m3, m4, m5, m6⟩ := RM2
  subst x1 x2 x3 m1 m2 m3 htr
  obtain ⟨r, y0, y1, y2, y3, y4, y5, y6, y7, y8, w1, c1, h1, hx, hm, T1, X1, M1, hw⟩ := P_breaks hB (fun a ha => (x5 a ha).2.2.2.1) (fun a ha => (m5 a ha).2.2.2.1) T X M a1
  exact ⟨r, y0, y1, y2, y3, y4, y5, y6, y7, y8, w1, hx, hm, B, c1, h1, lf, hB, RX, RM, T1, X1, M1, I0.congr (fun j hj => hw _ (by omega)), I1.congr (fun j hj => hw _ (by omega)), RT, RSo, rfl⟩
theorem ls_hand : LS_hand RR0 := by
  intro room work price whom bday units worth due under people askings hangs items many slip became left what which whose place deeds day won lost kept text typed rest bestSet tenths sortWorth sortDays row trace i0_many i0_slip i0_became i0_left i0_what i0_which i0_whose i0_place i0_deeds i0_day i0_won i0_lost i0_kept i1_many i1_slip i1_became i1_left i1_what i1_which i1_whose i1_place i1_deeds i1_day i1_won i1_lost i1_kept mv_w mv_isKept mv_people mv_room mv_work mv_price mv_askings mv_asked mv_hangs mv_hung mv_tenths mv_sortWorth mv_sortDays mv_sorts mv_text mv_texted mv_trace mv_at_ mv_fault mv_readPeople mv_readPerson mv_readAskings mv_readAsked mv_readHangs mv_readHung mv_rest mv_brings mv_later a1 a2 H
  obtain ⟨B, c, h, lf, hB, RX, RM, T, X, M, I0, I1, RT, RSo, htr⟩ := H
  have RX2 := RX
  have RM2 := RM
  obtain ⟨x1, x2, x3, x4, x5, x6⟩ := RX2
  obtain ⟨m1, m2, m3, m4, m5, m6⟩ := RM2
  subst x1 x2 x3 m1 m2 m3 htr
  obtain ⟨r, y0, y1, y2, y3, y4, y5, y6, w1, c1, h1, hx, hm, T1, X1, M1, hw⟩ := P_hand hB (fun p hp => (x4 p hp).1) (fun p hp => (m4 p hp).1) T X M a1 a2
  exact ⟨r, y0, y1, y2, y3, y4, y5, y6, w1, hx, hm, B, c1, h1, lf, hB, RX, RM, T1, X1, M1, I0.congr (fun j hj => hw _ (by omega)), I1.congr (fun j hj => hw _ (by omega)), RT, RSo, rfl⟩
theorem ls_undo : LS_undo RR0 := by
  intro room work price whom bday units worth due under people askings hangs items many slip became left what which whose place deeds day won lost kept text typed rest bestSet tenths sortWorth sortDays row trace i0_many i0_slip i0_became i0_left i0_what i0_which i0_whose i0_place i0_deeds i0_day i0_won i0_lost i0_kept i1_many i1_slip i1_became i1_left i1_what i1_which i1_whose i1_place i1_deeds i1_day i1_won i1_lost i1_kept mv_w mv_isKept mv_people mv_room mv_work mv_price mv_askings mv_asked mv_hangs mv_hung mv_tenths mv_sortWorth mv_sortDays mv_sorts mv_text mv_texted mv_trace mv_at_ mv_fault mv_readPeople mv_readPerson mv_readAskings mv_readAsked mv_readHangs mv_readHung mv_rest mv_brings mv_later  H
  obtain ⟨B, c, h, lf, hB, RX, RM, T, X, M, I0, I1, RT, RSo, htr⟩ := H
  have RX2 := RX
  have RM2 := RM
  obtain ⟨x1, x2, x3, x4, x5, x6⟩ := RX2
  obtain ⟨m1, m2, m3, m4, m5, m6⟩ := RM2
  subst x1 x2 x3 m1 m2 m3 htr
  obtain ⟨r, y0, y1, y2, y3, y4, w1, c1, h1, hx, hm, T1, X1, M1, hw⟩ := P_undo hB (fun a ha => (x5 a ha).2.2.2.1) (fun a ha => (m5 a ha).2.2.2.1) T X M 
  exact ⟨r, y0, y1, y2, y3, y4, w1, hx, hm, B, c1, h1, lf, hB, RX, RM, T1, X1, M1, I0.congr (fun j hj => hw _ (by omega)), I1.congr (fun j hj => hw _ (by omega)), RT, RSo, rfl⟩
theorem ls_day : LS_day RR0 := by
  intro room work price whom bday units worth due under people askings hangs items many slip became left what which whose place deeds day won lost kept text typed rest bestSet tenths sortWorth sortDays row trace i0_many i0_slip i0_became i0_left i0_what i0_which i0_whose i0_place i0_deeds i0_day i0_won i0_lost i0_kept i1_many i1_slip i1_became i1_left i1_what i1_which i1_whose i1_place i1_deeds i1_day i1_won i1_lost i1_kept mv_w mv_isKept mv_people mv_room mv_work mv_price mv_askings mv_asked mv_hangs mv_hung mv_tenths mv_sortWorth mv_sortDays mv_sorts mv_text mv_texted mv_trace mv_at_ mv_fault mv_readPeople mv_readPerson mv_readAskings mv_readAsked mv_readHangs mv_readHung mv_rest mv_brings mv_later  H
  obtain ⟨B, c, h, lf, hB, RX, RM, T, X, M, I0, I1, RT, RSo, htr⟩ := H
  have RX2 := RX
  have RM2 := RM
  obtain ⟨x1, x2, x3, x4, x5, x6⟩ := RX2
  obtain ⟨m1, m2, m3, m4, m5, m6⟩ := RM2
  subst x1 x2 x3 m1 m2 m3 htr
  obtain ⟨r, y0, y1, y2, y3, y4, y5, y6, y7, y8, y9, y10, y11, w1, c1, h1, lf1, hx, hm, T1, X1, M1, hw⟩ := P_day hB RX RM T X M 
  exact ⟨r, y0, y1, y2, y3, y4, y5, y6, y7, y8, y9, y10, y11, w1, hx, hm, B, c1, h1, lf1, hB, RX, RM, T1, X1, M1, I0.congr (fun j hj => hw _ (by omega)), I1.congr (fun j hj => hw _ (by omega)), RT, RSo, rfl⟩
theorem ls_now : LS_now RR0 := by
  intro room work price whom bday units worth due under people askings hangs items many slip became left what which whose place deeds day won lost kept text typed rest bestSet tenths sortWorth sortDays row trace i0_many i0_slip i0_became i0_left i0_what i0_which i0_whose i0_place i0_deeds i0_day i0_won i0_lost i0_kept i1_many i1_slip i1_became i1_left i1_what i1_which i1_whose i1_place i1_deeds i1_day i1_won i1_lost i1_kept mv_w mv_isKept mv_people mv_room mv_work mv_price mv_askings mv_asked mv_hangs mv_hung mv_tenths mv_sortWorth mv_sortDays mv_sorts mv_text mv_texted mv_trace mv_at_ mv_fault mv_readPeople mv_readPerson mv_readAskings mv_readAsked mv_readHangs mv_readHung mv_rest mv_brings mv_later a1 H
  obtain ⟨B, c, h, lf, hB, RX, RM, T, X, M, I0, I1, RT, RSo, htr⟩ := H
  have RX2 := RX
  have RM2 := RM
  obtain ⟨x1, x2, x3, x4, x5, x6⟩ := RX2
  obtain ⟨m1, m2, m3, m4, m5, m6⟩ := RM2
  subst x1 x2 x3 m1 m2 m3 htr
  obtain ⟨r, hx, hm⟩ := P_now hB T.1 X.1 X.2.1 M.1 M.2.1 a1
  exact ⟨r, hx, hm, B, c, h, lf, hB, RX, RM, T, X, M, I0, I1, RT, RSo, rfl⟩
theorem ls_take : LS_take RR0 := by
  intro room work price whom bday units worth due under people askings hangs items many slip became left what which whose place deeds day won lost kept text typed rest bestSet tenths sortWorth sortDays row trace i0_many i0_slip i0_became i0_left i0_what i0_which i0_whose i0_place i0_deeds i0_day i0_won i0_lost i0_kept i1_many i1_slip i1_became i1_left i1_what i1_which i1_whose i1_place i1_deeds i1_day i1_won i1_lost i1_kept mv_w mv_isKept mv_people mv_room mv_work mv_price mv_askings mv_asked mv_hangs mv_hung mv_tenths mv_sortWorth mv_sortDays mv_sorts mv_text mv_texted mv_trace mv_at_ mv_fault mv_readPeople mv_readPerson mv_readAskings mv_readAsked mv_readHangs mv_readHung mv_rest mv_brings mv_later a1 a2 H
  obtain ⟨B, c, h, lf, hB, RX, RM, T, X, M, I0, I1, RT, RSo, htr⟩ := H
  have RX2 := RX
  have RM2 := RM
  obtain ⟨x1, x2, x3, x4, x5, x6⟩ := RX2
  obtain ⟨m1, m2, m3, m4, m5, m6⟩ := RM2
  subst x1 x2 x3 m1 m2 m3 htr
  obtain ⟨r, y0, y1, y2, hx, hm⟩ := P_take hB RX RM T.1.1 X.1.1 M.1.1 rest mv_rest bestSet a1 a2
  exact ⟨r, y0, y1, y2, hx, hm, B, c, h, lf, hB, RX, RM, T, X, M, I0, I1, RT, RSo, rfl⟩
theorem ls_bound : LS_bound RR0 := by
  intro room work price whom bday units worth due under people askings hangs items many slip became left what which whose place deeds day won lost kept text typed rest bestSet tenths sortWorth sortDays row trace i0_many i0_slip i0_became i0_left i0_what i0_which i0_whose i0_place i0_deeds i0_day i0_won i0_lost i0_kept i1_many i1_slip i1_became i1_left i1_what i1_which i1_whose i1_place i1_deeds i1_day i1_won i1_lost i1_kept mv_w mv_isKept mv_people mv_room mv_work mv_price mv_askings mv_asked mv_hangs mv_hung mv_tenths mv_sortWorth mv_sortDays mv_sorts mv_text mv_texted mv_trace mv_at_ mv_fault mv_readPeople mv_readPerson mv_readAskings mv_readAsked mv_readHangs mv_readHung mv_rest mv_brings mv_later a1 a2 H
  obtain ⟨B, c, h, lf, hB, RX, RM, T, X, M, I0, I1, RT, RSo, htr⟩ := H
  have RX2 := RX
  have RM2 := RM
  obtain ⟨x1, x2, x3, x4, x5, x6⟩ := RX2
  obtain ⟨m1, m2, m3, m4, m5, m6⟩ := RM2
  subst x1 x2 x3 m1 m2 m3 htr
  obtain ⟨r, y0, y1, y2, hx, hm⟩ := P_bound hB RX RM T.1.1 X.1.1 M.1.1 rest mv_rest bestSet a1 a2
  exact ⟨r, y0, y1, y2, hx, hm, B, c, h, lf, hB, RX, RM, T, X, M, I0, I1, RT, RSo, rfl⟩
theorem ls_sort : LS_sort RR0 := by
  intro room work price whom bday units worth due under people askings hangs items many slip became left what which whose place deeds day won lost kept text typed rest bestSet tenths sortWorth sortDays row trace i0_many i0_slip i0_became i0_left i0_what i0_which i0_whose i0_place i0_deeds i0_day i0_won i0_lost i0_kept i1_many i1_slip i1_became i1_left i1_what i1_which i1_whose i1_place i1_deeds i1_day i1_won i1_lost i1_kept mv_w mv_isKept mv_people mv_room mv_work mv_price mv_askings mv_asked mv_hangs mv_hung mv_tenths mv_sortWorth mv_sortDays mv_sorts mv_text mv_texted mv_trace mv_at_ mv_fault mv_readPeople mv_readPerson mv_readAskings mv_readAsked mv_readHangs mv_readHung mv_rest mv_brings mv_later a1 a2 a3 a4 H
  obtain ⟨B, c, h, lf, hB, RX, RM, T, X, M, I0, I1, RT, RSo, htr⟩ := H
  have RX2 := RX
  have RM2 := RM
  obtain ⟨x1, x2, x3, x4, x5, x6⟩ := RX2
  obtain ⟨m1, m2, m3, m4, m5, m6⟩ := RM2
  subst x1 x2 x3 m1 m2 m3 htr
  obtain ⟨r, y0, y1, y2, y3, y4, y5, y6, hx, hm, R1⟩ := P_sort RSo a1 a2 a3 a4
  exact ⟨r, y0, y1, y2, y3, y4, y5, y6, hx, hm, B, c, h, lf, hB, RX, RM, T, X, M, I0, I1, RT, R1, rfl⟩
theorem ls_expected : LS_expected RR0 := by
  intro room work price whom bday units worth due under people askings hangs items many slip became left what which whose place deeds day won lost kept text typed rest bestSet tenths sortWorth sortDays row trace i0_many i0_slip i0_became i0_left i0_what i0_which i0_whose i0_place i0_deeds i0_day i0_won i0_lost i0_kept i1_many i1_slip i1_became i1_left i1_what i1_which i1_whose i1_place i1_deeds i1_day i1_won i1_lost i1_kept mv_w mv_isKept mv_people mv_room mv_work mv_price mv_askings mv_asked mv_hangs mv_hung mv_tenths mv_sortWorth mv_sortDays mv_sorts mv_text mv_texted mv_trace mv_at_ mv_fault mv_readPeople mv_readPerson mv_readAskings mv_readAsked mv_readHangs mv_readHung mv_rest mv_brings mv_later a1 a2 a3 H
  obtain ⟨B, c, h, lf, hB, RX, RM, T, X, M, I0, I1, RT, RSo, htr⟩ := H
  have RX2 := RX
  have RM2 := RM
  obtain ⟨x1, x2, x3, x4, x5, x6⟩ := RX2
  obtain ⟨m1, m2, m3, m4, m5, m6⟩ := RM2
  subst x1 x2 x3 m1 m2 m3 htr
  have RS2 := RSo
  obtain ⟨s1, s2, s3, t, wo, dy, s, s4, s5, s6, s7⟩ := RS2
  subst s1 s2 s3 s5
  obtain ⟨r, y0, y1, hx, hm⟩ := P_expected hB (fun p hp => (x4 p hp).1) (fun p hp => (m4 p hp).1) s4 mv_brings mv_later a1 a2 a3
  exact ⟨r, y0, y1, hx, hm, B, c, h, lf, hB, RX, RM, T, X, M, I0, I1, RT, RSo, rfl⟩
theorem ls_wise : LS_wise RR0 := by
  intro room work price whom bday units worth due under people askings hangs items many slip became left what which whose place deeds day won lost kept text typed rest bestSet tenths sortWorth sortDays row trace i0_many i0_slip i0_became i0_left i0_what i0_which i0_whose i0_place i0_deeds i0_day i0_won i0_lost i0_kept i1_many i1_slip i1_became i1_left i1_what i1_which i1_whose i1_place i1_deeds i1_day i1_won i1_lost i1_kept mv_w mv_isKept mv_people mv_room mv_work mv_price mv_askings mv_asked mv_hangs mv_hung mv_tenths mv_sortWorth mv_sortDays mv_sorts mv_text mv_texted mv_trace mv_at_ mv_fault mv_readPeople mv_readPerson mv_readAskings mv_readAsked mv_readHangs mv_readHung mv_rest mv_brings mv_later a1 a2 a3 H
  obtain ⟨B, c, h, lf, hB, RX, RM, T, X, M, I0, I1, RT, RSo, htr⟩ := H
  have RX2 := RX
  have RM2 := RM
  obtain ⟨x1, x2, x3, x4, x5, x6⟩ := RX2
  obtain ⟨m1, m2, m3, m4, m5, m6⟩ := RM2
  subst x1 x2 x3 m1 m2 m3 htr
  have RS2 := RSo
  obtain ⟨s1, s2, s3, t, wo, dy, s, s4, s5, s6, s7⟩ := RS2
  subst s1 s2 s3 s5
  obtain ⟨r, y0, y1, hx, hm⟩ := P_wise s4 s6 s7 mv_brings mv_later a1 a2 a3
  exact ⟨r, y0, y1, hx, hm, B, c, h, lf, hB, RX, RM, T, X, M, I0, I1, RT, RSo, rfl⟩
theorem ls_ring : LS_ring RR0 := by
  intro room work price whom bday units worth due under people askings hangs items many slip became left what which whose place deeds day won lost kept text typed rest bestSet tenths sortWorth sortDays row trace i0_many i0_slip i0_became i0_left i0_what i0_which i0_whose i0_place i0_deeds i0_day i0_won i0_lost i0_kept i1_many i1_slip i1_became i1_left i1_what i1_which i1_whose i1_place i1_deeds i1_day i1_won i1_lost i1_kept mv_w mv_isKept mv_people mv_room mv_work mv_price mv_askings mv_asked mv_hangs mv_hung mv_tenths mv_sortWorth mv_sortDays mv_sorts mv_text mv_texted mv_trace mv_at_ mv_fault mv_readPeople mv_readPerson mv_readAskings mv_readAsked mv_readHangs mv_readHung mv_rest mv_brings mv_later  H
  obtain ⟨B, c, h, lf, hB, RX, RM, T, X, M, I0, I1, RT, RSo, htr⟩ := H
  have RX2 := RX
  have RM2 := RM
  obtain ⟨x1, x2, x3, x4, x5, x6⟩ := RX2
  obtain ⟨m1, m2, m3, m4, m5, m6⟩ := RM2
  subst x1 x2 x3 m1 m2 m3 htr
  obtain ⟨r, y0, hx, hm⟩ := P_ring hB x6 m6 row 
  exact ⟨r, y0, hx, hm, B, c, h, lf, hB, RX, RM, T, X, M, I0, I1, RT, RSo, rfl⟩
theorem ls_order : LS_order RR0 := by
  intro room work price whom bday units worth due under people askings hangs items many slip became left what which whose place deeds day won lost kept text typed rest bestSet tenths sortWorth sortDays row trace i0_many i0_slip i0_became i0_left i0_what i0_which i0_whose i0_place i0_deeds i0_day i0_won i0_lost i0_kept i1_many i1_slip i1_became i1_left i1_what i1_which i1_whose i1_place i1_deeds i1_day i1_won i1_lost i1_kept mv_w mv_isKept mv_people mv_room mv_work mv_price mv_askings mv_asked mv_hangs mv_hung mv_tenths mv_sortWorth mv_sortDays mv_sorts mv_text mv_texted mv_trace mv_at_ mv_fault mv_readPeople mv_readPerson mv_readAskings mv_readAsked mv_readHangs mv_readHung mv_rest mv_brings mv_later a1 H
  obtain ⟨B, c, h, lf, hB, RX, RM, T, X, M, I0, I1, RT, RSo, htr⟩ := H
  have RX2 := RX
  have RM2 := RM
  obtain ⟨x1, x2, x3, x4, x5, x6⟩ := RX2
  obtain ⟨m1, m2, m3, m4, m5, m6⟩ := RM2
  subst x1 x2 x3 m1 m2 m3 htr
  obtain ⟨r, y0, hx, hm⟩ := P_order hB x6 m6 row a1
  exact ⟨r, y0, hx, hm, B, c, h, lf, hB, RX, RM, T, X, M, I0, I1, RT, RSo, rfl⟩
theorem ls_fewest : LS_fewest RR0 := by
  intro room work price whom bday units worth due under people askings hangs items many slip became left what which whose place deeds day won lost kept text typed rest bestSet tenths sortWorth sortDays row trace i0_many i0_slip i0_became i0_left i0_what i0_which i0_whose i0_place i0_deeds i0_day i0_won i0_lost i0_kept i1_many i1_slip i1_became i1_left i1_what i1_which i1_whose i1_place i1_deeds i1_day i1_won i1_lost i1_kept mv_w mv_isKept mv_people mv_room mv_work mv_price mv_askings mv_asked mv_hangs mv_hung mv_tenths mv_sortWorth mv_sortDays mv_sorts mv_text mv_texted mv_trace mv_at_ mv_fault mv_readPeople mv_readPerson mv_readAskings mv_readAsked mv_readHangs mv_readHung mv_rest mv_brings mv_later a1 H
  obtain ⟨B, c, h, lf, hB, RX, RM, T, X, M, I0, I1, RT, RSo, htr⟩ := H
  have RX2 := RX
  have RM2 := RM
  obtain ⟨x1, x2, x3, x4, x5, x6⟩ := RX2
  obtain ⟨m1, m2, m3, m4, m5, m6⟩ := RM2
  subst x1 x2 x3 m1 m2 m3 htr
  obtain ⟨r, y0, hx, hm⟩ := P_fewest hB x6 m6 row a1
  exact ⟨r, y0, hx, hm, B, c, h, lf, hB, RX, RM, T, X, M, I0, I1, RT, RSo, rfl⟩
theorem ls_great : LS_great RR0 := by
  intro room work price whom bday units worth due under people askings hangs items many slip became left what which whose place deeds day won lost kept text typed rest bestSet tenths sortWorth sortDays row trace i0_many i0_slip i0_became i0_left i0_what i0_which i0_whose i0_place i0_deeds i0_day i0_won i0_lost i0_kept i1_many i1_slip i1_became i1_left i1_what i1_which i1_whose i1_place i1_deeds i1_day i1_won i1_lost i1_kept mv_w mv_isKept mv_people mv_room mv_work mv_price mv_askings mv_asked mv_hangs mv_hung mv_tenths mv_sortWorth mv_sortDays mv_sorts mv_text mv_texted mv_trace mv_at_ mv_fault mv_readPeople mv_readPerson mv_readAskings mv_readAsked mv_readHangs mv_readHung mv_rest mv_brings mv_later a1 a2 a3 H
  obtain ⟨B, c, h, lf, hB, RX, RM, T, X, M, I0, I1, RT, RSo, htr⟩ := H
  have RX2 := RX
  have RM2 := RM
  obtain ⟨x1, x2, x3, x4, x5, x6⟩ := RX2
  obtain ⟨m1, m2, m3, m4, m5, m6⟩ := RM2
  subst x1 x2 x3 m1 m2 m3 htr
  obtain ⟨r, hx, hm⟩ := P_great hB RX RM T X M a1 a2 a3
  exact ⟨r, hx, hm, B, c, h, lf, hB, RX, RM, T, X, M, I0, I1, RT, RSo, rfl⟩
theorem ls_rate : LS_rate RR0 := by
  intro room work price whom bday units worth due under people askings hangs items many slip became left what which whose place deeds day won lost kept text typed rest bestSet tenths sortWorth sortDays row trace i0_many i0_slip i0_became i0_left i0_what i0_which i0_whose i0_place i0_deeds i0_day i0_won i0_lost i0_kept i1_many i1_slip i1_became i1_left i1_what i1_which i1_whose i1_place i1_deeds i1_day i1_won i1_lost i1_kept mv_w mv_isKept mv_people mv_room mv_work mv_price mv_askings mv_asked mv_hangs mv_hung mv_tenths mv_sortWorth mv_sortDays mv_sorts mv_text mv_texted mv_trace mv_at_ mv_fault mv_readPeople mv_readPerson mv_readAskings mv_readAsked mv_readHangs mv_readHung mv_rest mv_brings mv_later a1 a2 H
  obtain ⟨B, c, h, lf, hB, RX, RM, T, X, M, I0, I1, RT, RSo, htr⟩ := H
  have RX2 := RX
  have RM2 := RM
  obtain ⟨x1, x2, x3, x4, x5, x6⟩ := RX2
  obtain ⟨m1, m2, m3, m4, m5, m6⟩ := RM2
  subst x1 x2 x3 m1 m2 m3 htr
  obtain ⟨r, t, hx, hm⟩ := P_rate hB RX RM T X M mv_trace a1 a2
  exact ⟨r, t, t, hx, hm, B, c, h, lf, hB, RX, RM, T, X, M, I0, I1, RT, RSo, rfl⟩
theorem ls_keep : LS_keep RR0 := by
  intro room work price whom bday units worth due under people askings hangs items many slip became left what which whose place deeds day won lost kept text typed rest bestSet tenths sortWorth sortDays row trace i0_many i0_slip i0_became i0_left i0_what i0_which i0_whose i0_place i0_deeds i0_day i0_won i0_lost i0_kept i1_many i1_slip i1_became i1_left i1_what i1_which i1_whose i1_place i1_deeds i1_day i1_won i1_lost i1_kept mv_w mv_isKept mv_people mv_room mv_work mv_price mv_askings mv_asked mv_hangs mv_hung mv_tenths mv_sortWorth mv_sortDays mv_sorts mv_text mv_texted mv_trace mv_at_ mv_fault mv_readPeople mv_readPerson mv_readAskings mv_readAsked mv_readHangs mv_readHung mv_rest mv_brings mv_later a1 H
  obtain ⟨B, c, h, lf, hB, RX, RM, T, X, M, I0, I1, RT, RSo, htr⟩ := H
  have RX2 := RX
  have RM2 := RM
  obtain ⟨x1, x2, x3, x4, x5, x6⟩ := RX2
  obtain ⟨m1, m2, m3, m4, m5, m6⟩ := RM2
  subst x1 x2 x3 m1 m2 m3 htr
  obtain ⟨r, y0, y1, y2, y3, y4, y5, y6, y7, y8, y9, y10, y11, y12, y13, y14, y15, y16, y17, y18, y19, y20, y21, y22, y23, y24, y25, w1, k1, hx, hm, M1, J0, J1⟩ := P_keep T X M I0 I1 a1
  exact ⟨r, y0, y1, y2, y3, y4, y5, y6, y7, y8, y9, y10, y11, y12, y13, y14, y15, y16, y17, y18, y19, y20, y21, y22, y23, y24, y25, w1, k1, hx, hm, B, c, h, lf, hB, RX, RM, T, X, M1, J0, J1, RT, RSo, rfl⟩
theorem ls_back : LS_back RR0 := by
  intro room work price whom bday units worth due under people askings hangs items many slip became left what which whose place deeds day won lost kept text typed rest bestSet tenths sortWorth sortDays row trace i0_many i0_slip i0_became i0_left i0_what i0_which i0_whose i0_place i0_deeds i0_day i0_won i0_lost i0_kept i1_many i1_slip i1_became i1_left i1_what i1_which i1_whose i1_place i1_deeds i1_day i1_won i1_lost i1_kept mv_w mv_isKept mv_people mv_room mv_work mv_price mv_askings mv_asked mv_hangs mv_hung mv_tenths mv_sortWorth mv_sortDays mv_sorts mv_text mv_texted mv_trace mv_at_ mv_fault mv_readPeople mv_readPerson mv_readAskings mv_readAsked mv_readHangs mv_readHung mv_rest mv_brings mv_later a1 H
  obtain ⟨B, c, h, lf, hB, RX, RM, T, X, M, I0, I1, RT, RSo, htr⟩ := H
  have RX2 := RX
  have RM2 := RM
  obtain ⟨x1, x2, x3, x4, x5, x6⟩ := RX2
  obtain ⟨m1, m2, m3, m4, m5, m6⟩ := RM2
  subst x1 x2 x3 m1 m2 m3 htr
  obtain ⟨r, y0, y1, y2, y3, y4, y5, y6, y7, y8, y9, y10, y11, w1, c1, h1, lf1, hx, hm, T1, X1, M1, hw⟩ := P_back T X M I0 I1 a1
  exact ⟨r, y0, y1, y2, y3, y4, y5, y6, y7, y8, y9, y10, y11, w1, hx, hm, B, c1, h1, lf1, hB, RX, RM, T1, X1, M1, I0.congr (fun j hj => hw _ (by omega)), I1.congr (fun j hj => hw _ (by omega)), RT, RSo, rfl⟩
theorem ls_count : LS_count RR0 := by
  intro room work price whom bday units worth due under people askings hangs items many slip became left what which whose place deeds day won lost kept text typed rest bestSet tenths sortWorth sortDays row trace i0_many i0_slip i0_became i0_left i0_what i0_which i0_whose i0_place i0_deeds i0_day i0_won i0_lost i0_kept i1_many i1_slip i1_became i1_left i1_what i1_which i1_whose i1_place i1_deeds i1_day i1_won i1_lost i1_kept mv_w mv_isKept mv_people mv_room mv_work mv_price mv_askings mv_asked mv_hangs mv_hung mv_tenths mv_sortWorth mv_sortDays mv_sorts mv_text mv_texted mv_trace mv_at_ mv_fault mv_readPeople mv_readPerson mv_readAskings mv_readAsked mv_readHangs mv_readHung mv_rest mv_brings mv_later a1 H
  obtain ⟨B, c, h, lf, hB, RX, RM, T, X, M, I0, I1, RT, RSo, htr⟩ := H
  have RX2 := RX
  have RM2 := RM
  obtain ⟨x1, x2, x3, x4, x5, x6⟩ := RX2
  obtain ⟨m1, m2, m3, m4, m5, m6⟩ := RM2
  subst x1 x2 x3 m1 m2 m3 htr
  obtain ⟨n, b, rfl, rfl, hn⟩ := RT
  obtain ⟨s1, s2, s3, s4⟩ := RSo
  subst s1 s2 s3
  obtain ⟨r, hx, hm⟩ := P_count (nI B.pe) (nI B.ak) (nI B.hg.length) (nI n) mv_tenths a1
  exact ⟨r, hx, hm, B, c, h, lf, hB, RX, RM, T, X, M, I0, I1, ⟨n, b, rfl, rfl, hn⟩, ⟨rfl, rfl, rfl, s4⟩, rfl⟩
theorem ls_trace : LS_trace RR0 := by
  intro room work price whom bday units worth due under people askings hangs items many slip became left what which whose place deeds day won lost kept text typed rest bestSet tenths sortWorth sortDays row trace i0_many i0_slip i0_became i0_left i0_what i0_which i0_whose i0_place i0_deeds i0_day i0_won i0_lost i0_kept i1_many i1_slip i1_became i1_left i1_what i1_which i1_whose i1_place i1_deeds i1_day i1_won i1_lost i1_kept mv_w mv_isKept mv_people mv_room mv_work mv_price mv_askings mv_asked mv_hangs mv_hung mv_tenths mv_sortWorth mv_sortDays mv_sorts mv_text mv_texted mv_trace mv_at_ mv_fault mv_readPeople mv_readPerson mv_readAskings mv_readAsked mv_readHangs mv_readHung mv_rest mv_brings mv_later  H
  obtain ⟨B, c, h, lf, hB, RX, RM, T, X, M, I0, I1, RT, RSo, htr⟩ := H
  have RX2 := RX
  have RM2 := RM
  obtain ⟨x1, x2, x3, x4, x5, x6⟩ := RX2
  obtain ⟨m1, m2, m3, m4, m5, m6⟩ := RM2
  subst x1 x2 x3 m1 m2 m3 htr
  exact ⟨_, rfl, rfl, B, c, h, lf, hB, RX, RM, T, X, M, I0, I1, RT, RSo, rfl⟩
theorem pure_law : LawSteps RR0 := ⟨ls_type, ls_clear, ls_town, ls_person, ls_asking, ls_slip, ls_promise, ls_letOff, ls_breaks, ls_hand, ls_undo, ls_day, ls_now, ls_take, ls_bound, ls_sort, ls_expected, ls_wise, ls_ring, ls_order, ls_fewest, ls_great, ls_rate, ls_keep, ls_back, ls_count, ls_trace⟩
theorem pure_zero : RR0 (fun _ => 0) (fun _ => 0) (fun _ => 0) (fun _ => 0) (fun _ => 0) (fun _ => 0) (fun _ => 0) (fun _ => 0) (fun _ => 0) 0 0 0 0 (fun _ => 0) (fun _ _ => 0) (fun _ => 0) (fun _ => 0) (fun _ => 0) (fun _ => 0) (fun _ => 0) (fun _ => 0) 0 0 0 0 0 (fun _ => 0) 0 (fun _ => 0) 0 (fun _ => 0) (fun _ => 0) (fun _ => 0) (fun _ => 0) 0 (fun _ => 0) (fun _ _ => 0) (fun _ => 0) (fun _ => 0) (fun _ => 0) (fun _ => 0) (fun _ => 0) (fun _ => 0) 0 0 0 0 0 (fun _ => 0) (fun _ _ => 0) (fun _ => 0) (fun _ => 0) (fun _ => 0) (fun _ => 0) (fun _ => 0) (fun _ => 0) 0 0 0 0 0 (fun _ => 0) (fun _ => 0) 0 (fun _ => 0) (fun _ => 0) (fun _ => 0) 0 (fun _ => 0) 0 (fun _ => 0) (fun _ => 0) (fun _ => 0) (fun _ => 0) 0 (fun _ => 0) 0 0 0 0 0 (fun _ => 0) 0 (fun _ => 0) 0 (fun _ => 0) (fun _ => 0) (fun _ => 0) (fun _ => 0) := by
  refine ⟨B0, C0c, [], fun _ => 0, B0_ok, RBX0, RBM0, town0 B0, town0_X (fun _ _ => rfl) (fun _ _ => rfl), town0_M (fun _ _ => rfl), Or.inl ⟨rfl, rfl⟩, Or.inl ⟨rfl, rfl⟩, ⟨0, fun _ => 0, rfl, rfl, by omega, fun k hk => ⟨Nat.zero_lt_succ _, rfl, rfl⟩⟩, ⟨rfl, rfl, rfl, fun _ => 0, fun _ => 0, fun _ => 0, 0, ⟨fun j hj => ⟨rfl, rfl, rfl, Nat.zero_le _, Nat.zero_le _, fun _ => rfl⟩, Nat.zero_le _⟩, rfl, by decide, fun j hj => by rw [Nat.zero_testBit]; rfl⟩, rfl⟩
