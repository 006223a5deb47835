/-! PURE LAW: day, its end -/
section PDAY3
variable {B : Bk} {work worth under bday due : Nat → Int32} {mwork asked hung : Nat → Int32} {day won : Int32}
theorem bnd9_s {α0 α1 α2 α3 α4 α5 α6 α7 α8 β : Type} (a0 : α0) (a1 : α1) (a2 : α2) (a3 : α3) (a4 : α4) (a5 : α5) (a6 : α6) (a7 : α7) (a8 : α8) (f : α0 → α1 → α2 → α3 → α4 → α5 → α6 → α7 → α8 → Option β) : bnd9 (some (a0, a1, a2, a3, a4, a5, a6, a7, a8)) f = f a0 a1 a2 a3 a4 a5 a6 a7 a8 := rfl
theorem ends_eq (hB : B.ok) (hX : ∀ a, a < B.ak → bday a = nI (B.bd a) ∧ worth a = nI (B.wo a) ∧ due a = nI (B.du a)) (hM : ∀ a, a < B.ak → asked (5 * a + 1) = nI (B.bd a) ∧ asked (5 * a + 3) = nI (B.wo a) ∧ asked (5 * a + 4) = nI (B.du a)) {left : Nat → Int32} :
    ∀ (n a fu fu' : Nat) (c : Core) (h : Hist) (lf : Nat → Nat) (many : Nat → Int32) (slip : Nat → Nat → Int32) (became what which whose place : Nat → Int32) (deeds lost : Int32) (w : Nat → Int32), a + n = B.ak → n < fu → n < fu' → DS B c lf many slip became left day won lost w → XHist h what which whose place deeds →
      ∃ (c' : Core) (h' : Hist) (many' : Nat → Int32) (slip' : Nat → Nat → Int32) (became' what' which' whose' place' : Nat → Int32) (deeds' lost' : Int32) (w' : Nat → Int32), x_day_L46 bday worth due (nI B.ak) day fu (nI a) many slip became what which whose place deeds lost = some (many', slip', became', what', which', whose', place', deeds', lost') ∧ m_day_L136 (nI B.pe) (nI B.ak) asked fu' (nI a) w = some w' ∧ DS B c' lf many' slip' became' left day won lost' w' ∧ XHist h' what' which' whose' place' deeds' ∧ c'.day = c.day ∧ ∀ j, 43 ≤ j → w' j = w j := by
  have b1 := hB.1
  have b2 := hB.2.1
  intro n
  induction n with
  | zero =>
    intro a fu fu' c h lf many slip became what which whose place deeds lost w ha hf hf' D XH
    obtain ⟨fu, rfl⟩ : ∃ z, fu = z + 1 := ⟨fu - 1, by omega⟩
    obtain ⟨fu', rfl⟩ : ∃ z, fu' = z + 1 := ⟨fu' - 1, by omega⟩
    rw [x_day_L46_s, m_day_L136_s, if_pos (N_le (by omega) (by omega)), if_pos (N_le (by omega) (by omega))]
    exact ⟨c, h, _, _, _, _, _, _, _, _, _, _, rfl, rfl, D, XH, rfl, fun _ _ => rfl⟩
  | succ n ih =>
    intro a fu fu' c h lf many slip became what which whose place deeds lost w ha hf hf' D XH
    obtain ⟨fu, rfl⟩ : ∃ z, fu = z + 1 := ⟨fu - 1, by omega⟩
    obtain ⟨fu', rfl⟩ : ∃ z, fu' = z + 1 := ⟨fu' - 1, by omega⟩
    obtain ⟨ho, XT, MT, hlf⟩ := D
    have hak : a < B.ak := by omega
    have ha8 : a < 8 := by omega
    obtain ⟨w1, w2, w3⟩ := hX a hak
    obtain ⟨y1, y2, y3⟩ := hM a hak
    obtain ⟨-, cb, cd, -, -, -, -⟩ := hB.2.2.2.1 a hak
    have hf3 := ho.2.1 a
    have hPi := x_isPinned_eq XT ha8 hf3
    have hm4 := MT.2.2.2.1 a ha8
    have hd10 := ho.1
    have hday : day = nI c.day := XT.1
    have hw0 : w 0 = nI c.day := MT.1
    have e3 : (3 + nI a : Int32) = nI (3 + a) := nI_add 3 a
    have e53 : (5 * nI a + 3 : Int32) = nI (5 * a + 3) := by simp only [nI_lit, nI_add, pk_mul, nI_cl, nI_leI, nI_ltI, nI_eq, nI_subN]
    have e54 : (5 * nI a + 4 : Int32) = nI (5 * a + 4) := by simp only [nI_lit, nI_add, pk_mul, nI_cl, nI_leI, nI_ltI, nI_eq, nI_subN]
    have e51 : (5 * nI a + 1 : Int32) = nI (5 * a + 1) := by simp only [nI_lit, nI_add, pk_mul, nI_cl, nI_leI, nI_ltI, nI_eq, nI_subN]
    rw [x_day_L46_s, m_day_L136_s, if_neg (N_nle (by omega) (by omega)), if_neg (N_nle (by omega) (by omega)), hPi, bnd_s, e3, e53, e54, e51, show (nI a + 1 : Int32) = nI (a + 1) from nI_1 a, show (0 : Int32).toNatClampNeg = 0 from rfl, show (2 : Int32).toNatClampNeg = 2 from rfl]
    simp (disch := omega) only [nI_cl, ck_nI]
    rw [hm4, y3, y1, y2, hw0]
    by_cases hgo : c.fate a = 1 ∧ B.du a = c.day
    · obtain ⟨f1, f2⟩ := hgo
      obtain ⟨p, hap⟩ := ho.2.2.2.2.2.2.1 a hak f1
      have hp := ok_p ho hap
      obtain ⟨g', n1, n2, n3, n4, n5, gE, gS, gH⟩ := x_goes_eq hB ho XT XH hap 2
      have hu : ∀ p q, a ∈ c.sl p → a ∈ c.sl q → p = q := fun p q h1 h2 => ho.2.2.2.2.2.2.2 p q a h1 h2
      have hSm := (m_sleeveOf_eq b1 MT.2.2.2.2 ha8 hu).1 p hp hap
      have rE := m_remove_eq (w := w) (by omega) (MT.2.2.2.2 p (by omega)) hap
      have MT1 := MT.rem (f := 3) (by omega) hap ha8
      have XT1 := XT.rem (f := 3) gS
      have ho1 := rem_ok (f := 3) ho hap (by decide) (by decide)
      have hl5 := (MT.2.2.2.2 p (by omega)).2.1
      obtain ⟨u1, u2, u3, u4, u5⟩ := XT1
      obtain ⟨z1, z2, z3, z4, z5⟩ := MT1
      have gE' : x_goes many slip what which whose place deeds 2 (nI a) = _ := gE
      have hdd : nI (B.du a) = nI c.day := by rw [f2]
      rw [if_pos f1, if_neg n10, w3, hday, if_pos hdd, gE', bnd7_s, bnd9_s, if_pos (L_eq 1 f1), if_pos hdd, hSm, bnd_s, rE, bnd_s, bnd_s, upd_s, if_neg (show ¬ (3 : Int32) = 0 by decide), upd_n (show 3 + a ≠ 2 by omega), upd_s, if_neg (show ¬ (3 : Int32) = 0 by decide), upd_n (show (2 : Nat) ≠ 3 + a by omega)]
      have hid : upd (upd became a 3) a 3 = upd became a 3 := by
        funext b; unfold upd; split <;> rfl
      rw [hid, w2]
      have D2 : DS B ((c.rem p a 3).lose (nI (B.wo a))) lf (upd many p (nI ((c.sl p).length - 1))) (va_up slip p g') (upd became a 3) left day won (lost + nI (B.wo a)) (upd (upd (wRem w p ((c.sl p).idxOf a) (c.sl p).length) (3 + a) 3) 2 (wRem w p ((c.sl p).idxOf a) (c.sl p).length 2 + nI (B.wo a))) := by
        refine ⟨ho1, ⟨u1, u2, by rw [u3]; rfl, u4, u5⟩, ⟨?_, ?_, ?_, fun b hb => ?_, fun q hq => ?_⟩, fun b hb hfb => ?_⟩
        · rw [upd_n (show (0 : Nat) ≠ 2 by omega)]; exact z1
        · rw [upd_n (show (1 : Nat) ≠ 2 by omega)]; exact z2
        · rw [upd_s, wRem_o (by omega) (by omega) hl5, MT.2.2.1]; rfl
        · rw [upd_n (show 3 + b ≠ 2 by omega)]; exact z4 b hb
        · rw [upd_n (show 19 + q ≠ 2 by omega)]
          have z9 := (z5 q hq).2.1
          refine SlR.congr (g := fun j => upd (wRem w p ((c.sl p).idxOf a) (c.sl p).length) (3 + a) (nI 3) (23 + 5 * q + j)) (z5 q hq) ?_
          intro j hj
          exact upd_n (show 23 + 5 * q + j ≠ 2 by omega)
        · have hfb2 : (c.rem p a 3).fate b = 1 := hfb
          have hba : b ≠ a := by
            intro z; rw [rem_fate, if_pos z] at hfb2; omega
          rw [rem_fate, if_neg hba] at hfb2
          obtain ⟨t1, t2, t3, t4⟩ := hlf b hb hfb2
          refine ⟨t1, t2, t3, ?_⟩
          rw [upd_n (by omega), upd_n (by omega), wRem_o (by omega) (by omega) hl5]; exact t4
      rw [← hday]
      obtain ⟨c', h', many', slip', became', what', which', whose', place', deeds', lost', w', I1, I2, I3, I4, I5, I6⟩ := ih (a + 1) fu fu' _ _ lf _ _ _ _ _ _ _ _ _ _ (by omega) (by omega) (by omega) D2 gH
      exact ⟨c', h', many', slip', became', what', which', whose', place', deeds', lost', w', I1, I2, I3, I4, I5, fun j hj => by rw [I6 j hj, upd_n (by omega), upd_n (by omega), wRem_o (by omega) (by omega) hl5]⟩
    · -- it stays where it is
      have hx1 : (if (if c.fate a = 1 then (1 : Int32) else 0) = 0 then some (many, slip, became, what, which, whose, place, deeds, lost) else
          if due a = day then bnd7 (x_goes many slip what which whose place deeds 2 (nI a)) fun many_90 slip_90 what_90 which_90 whose_90 place_90 deeds_90 => some (many_90, slip_90, upd became a 3, what_90, which_90, whose_90, place_90, deeds_90, lost + worth a) else some (many, slip, became, what, which, whose, place, deeds, lost)) = some (many, slip, became, what, which, whose, place, deeds, lost) := by
        by_cases f1 : c.fate a = 1
        · rw [if_pos f1, if_neg n10, w3, hday, if_neg (N_ne (fun z => hgo ⟨f1, z⟩) (by omega) (by omega))]
        · rw [if_neg f1, if_pos rfl]
      have hm1 : (if nI (c.fate a) = 1 then (if nI (B.du a) = nI c.day then bnd (m_sleeveOf w (nI B.pe) (nI a)) fun r_178 => bnd (m_remove w r_178 (nI a)) fun w_182 => some (upd (upd w_182 (3 + a) 3) 2 (upd w_182 (3 + a) 3 2 + nI (B.wo a))) else some w) else some w) = some w := by
        by_cases f1 : c.fate a = 1
        · rw [if_pos (L_eq 1 f1), if_neg (N_ne (fun z => hgo ⟨f1, z⟩) (by omega) (by omega))]
        · rw [if_neg (L_ne 1 f1 (by omega) (by omega))]
      rw [hx1, hm1, bnd9_s, bnd_s, hm4, XT.2.2.2.1 a ha8, w1, hday, hw0]
      by_cases f0 : c.fate a = 0 ∧ B.bd a = c.day
      · obtain ⟨f0, f2⟩ := f0
        have hdd : nI (B.bd a) = nI c.day := by rw [f2]
        rw [if_pos (L_eq 0 f0), if_pos hdd, if_pos (L_eq 0 f0), if_pos hdd]
        have ho1 := setF_ok (a := a) (f := 3) ho (by omega) (by decide) (by decide)
        have hfa : ∀ b, (c.setF a 3).fate b = if b = a then 3 else c.fate b := fun b => rfl
        have D2 : DS B (c.setF a 3) lf many slip (upd became a 3) left day won lost (upd w (3 + a) 3) := by
          refine ⟨ho1, ⟨XT.1, XT.2.1, XT.2.2.1, fun b hb => ?_, XT.2.2.2.2⟩, ⟨?_, ?_, ?_, fun b hb => ?_, fun q hq => ?_⟩, fun b hb hfb => ?_⟩
          · rw [hfa]
            by_cases e : b = a
            · rw [e, upd_s, if_pos rfl]; rfl
            · rw [upd_n e, if_neg e]; exact XT.2.2.2.1 b hb
          · rw [upd_n (by omega)]; exact MT.1
          · rw [upd_n (by omega)]; exact MT.2.1
          · rw [upd_n (by omega)]; exact MT.2.2.1
          · rw [hfa]
            by_cases e : b = a
            · rw [e, upd_s, if_pos rfl]; rfl
            · rw [upd_n (by omega), if_neg e]; exact MT.2.2.2.1 b hb
          · rw [upd_n (by omega)]
            have z9 := (MT.2.2.2.2 q hq).2.1
            exact (MT.2.2.2.2 q hq).congr (fun j hj => upd_n (show 23 + 5 * q + j ≠ 3 + a by omega))
          · rw [hfa] at hfb
            by_cases e : b = a
            · rw [if_pos e] at hfb; omega
            · rw [if_neg e] at hfb
              rw [upd_n (by omega)]; exact hlf b hb hfb
        rw [← hday]
        obtain ⟨c', h', many', slip', became', what', which', whose', place', deeds', lost', w', I1, I2, I3, I4, I5, I6⟩ := ih (a + 1) fu fu' _ _ lf _ _ _ _ _ _ _ _ _ _ (by omega) (by omega) (by omega) D2 XH
        exact ⟨c', h', many', slip', became', what', which', whose', place', deeds', lost', w', I1, I2, I3, I4, I5, fun j hj => by rw [I6 j hj, upd_n (by omega)]⟩
      · have hid : upd became a (nI (c.fate a)) = became := by
          rw [← XT.2.2.2.1 a ha8]; exact upd_id _ _
        have hx2 : ∀ (α : Type) (P Q : α), (if nI (c.fate a) = 0 then (if nI (B.bd a) = nI c.day then P else Q) else Q) = Q := by
          intro α P Q
          by_cases q0 : c.fate a = 0
          · rw [if_pos (L_eq 0 q0), if_neg (N_ne (fun z => f0 ⟨q0, z⟩) (by omega) (by omega))]
          · rw [if_neg (L_ne 0 q0 (by omega) (by omega))]
        rw [hid, hx2, hx2, ← hday]
        exact ih (a + 1) fu fu' c h lf many slip became what which whose place deeds lost w (by omega) (by omega) (by omega) ⟨ho, XT, MT, hlf⟩ XH
end PDAY3
section PDAY4
variable {B : Bk} {c : Core} {h : Hist} {lf : Nat → Nat} {room work price whom bday units worth due under : Nat → Int32} {people askings hangs : Int32} {mpe mak mhg : Int32} {mroom mwork mprice asked hung : Nat → Int32}
variable {many : Nat → Int32} {slip : Nat → Nat → Int32} {became left what which whose place : Nat → Int32} {deeds day won lost : Int32} {w : Nat → Int32}
theorem P_day (hB : B.ok) (RX : RBX B room work price whom bday units worth due under people askings hangs) (RM : RBM B mpe mroom mwork mprice mak asked mhg hung) (T : TI B c h lf) (X : TX c h lf many slip became left what which whose place deeds day won lost) (M : TM c h lf w) : ∃ r many' slip' became' left' what' which' whose' place' deeds' day' won' lost' w' c' h' lf', x_day work bday worth due under people askings many slip became left what which whose place deeds day won lost = some (r, many', slip', became', left', what', which', whose', place', deeds', day', won', lost') ∧ m_day w mpe mwork mak asked mhg hung = some (r, w') ∧ TI B c' h' lf' ∧ TX c' h' lf' many' slip' became' left' what' which' whose' place' deeds' day' won' lost' ∧ TM c' h' lf' w' ∧ ∀ j, 100 ≤ j → w' j = w j := by
  obtain ⟨rfl, rfl, rfl, RX1, RX2, RX3⟩ := RX
  obtain ⟨rfl, rfl, rfl, RM1, RM2, RM3⟩ := RM
  have b1 := hB.1
  have b2 := hB.2.1
  have X' := X
  have M' := M
  obtain ⟨XT, XH, XL⟩ := X'
  obtain ⟨MT, MH, ML⟩ := M'
  have hd10 := T.1.1
  have hw0 : w (0 : Int32).toNatClampNeg = nI c.day := MT.1
  have hday : day = nI c.day := XT.1
  unfold x_day m_day
  rw [hw0]
  by_cases hov : c.day = 10
  · refine ⟨-2, _, _, _, _, _, _, _, _, _, _, _, _, _, c, h, lf, ?_, ?_, T, X, M, fun _ _ => rfl⟩
    · rw [if_neg (by rw [hday, hov]; decide)]
    · rw [if_pos (L_eq 10 hov)]
  · rw [if_neg (L_ne 10 hov (by omega) (by omega)), if_pos (by rw [hday]; exact N_le (b := 9) (by omega) (by omega))]
    have D0 : DS B c lf many slip became left day won lost w := ⟨T.1, XT, MT, fun a ha hf => by
      have hr : Rel c h a := Or.inl hf
      obtain ⟨q1, q2⟩ := T.2.2 a ha hr
      exact ⟨q1, q2, XL a ha hr, ML a ha hr⟩⟩
    obtain ⟨k1, c1, lf1, many1, slip1, became1, left1, won1, w1, I1, I2, I3, I4⟩ := people_eq hB RX3 RM3 (fun a ha => (RX2 a ha).2.2.2.1) (fun a ha => (RM2 a ha).2.2.2.1) (fun p hp => (RX1 p hp).2.1) (fun p hp => (RM1 p hp).2.1) B.pe 0 g_fuel g_fuel c lf many slip became left won w 0 (by omega) (by unfold g_fuel; omega) (by unfold g_fuel; omega) D0
    obtain ⟨c2, h2, many2, slip2, became2, what2, which2, whose2, place2, deeds2, lost2, w2, J1, J2, J3, J4, J5, J6⟩ := ends_eq hB (fun a ha => ⟨(RX2 a ha).2.1, (RX2 a ha).2.2.2.1, (RX2 a ha).2.2.2.2⟩) (fun a ha => ⟨(RM2 a ha).2.1, (RM2 a ha).2.2.2.1, (RM2 a ha).2.2.2.2⟩) B.ak 0 g_fuel g_fuel c1 h lf1 many1 slip1 became1 what which whose place deeds lost w1 (by omega) (by unfold g_fuel; omega) (by unfold g_fuel; omega) I3 XH
    rw [show x_day_L19 work worth under (nI B.pe) (nI B.ak) g_fuel 0 0 many slip became left won = _ from I1, bnd6_s, show x_day_L46 bday worth due (nI B.ak) day g_fuel 0 many1 slip1 became1 what which whose place deeds lost = _ from J1, bnd9_s, show m_day_L18 (nI B.pe) mwork asked (nI B.hg.length) hung g_fuel 0 0 w = _ from I2, bnd2_s, show m_day_L136 (nI B.pe) (nI B.ak) asked g_fuel 0 w1 = _ from J2, bnd_s, show (0 : Int32).toNatClampNeg = 0 from rfl, show (43 : Int32).toNatClampNeg = 43 from rfl]
    obtain ⟨ho2, XT2, MT2, hlf2⟩ := J3
    have hd2 : c2.day = c.day := by
      have e1 : nI c1.day = nI c.day := I3.2.1.1.symm.trans hday
      have := (nI_eq (by have := I3.1.1; omega) (by omega)).mp e1
      rw [J5, this]
    have hone : (nI c.day + 1 : Int32) = nI (c.day + 1) := nI_1 _
    have hf2 : ∀ a, a < 8 → Rel ((c.day + 1, c2.won, c2.lost, c2.fate, c2.sl) : Core) [] a → c2.fate a = 1 := fun a _ hr => hr.elim id (fun ⟨q, hq, _⟩ => by cases hq)
    refine ⟨k1, many2, slip2, became2, left1, what2, which2, whose2, place2, 0, day + 1, won1, lost2, _, (c.day + 1, c2.won, c2.lost, c2.fate, c2.sl), [], lf1, rfl, rfl, ⟨⟨?_, ho2.2⟩, trivial, fun a ha hr => ?_⟩, ⟨⟨?_, XT2.2⟩, ⟨rfl, by simp, fun k hk => by cases hk⟩, fun a ha hr => (hlf2 a ha (hf2 a ha hr)).2.2.1⟩, ⟨⟨?_, ?_, ?_, fun b hb => ?_, fun q hq => ?_⟩, ⟨upd_s, fun k hk => by cases hk⟩, fun a ha hr => ?_⟩, fun j hj => ?_⟩
    · show c.day + 1 ≤ 10; omega
    · have := hlf2 a ha (hf2 a ha hr); exact ⟨this.1, this.2.1⟩
    · rw [hday, hone]; rfl
    · rw [upd_n (by omega), upd_s, MT2.1, hd2, hone]; rfl
    · rw [upd_n (by omega), upd_n (by omega)]; exact MT2.2.1
    · rw [upd_n (by omega), upd_n (by omega)]; exact MT2.2.2.1
    · rw [upd_n (by omega), upd_n (by omega)]; exact MT2.2.2.2.1 b hb
    · rw [upd_n (by omega), upd_n (by omega)]
      have z9 := (MT2.2.2.2.2 q hq).2.1
      refine SlR.congr (MT2.2.2.2.2 q hq) ?_
      intro j hj
      have hj2 : j < (c2.sl q).length := hj
      show upd (upd w2 0 _) 43 0 (23 + 5 * q + j) = _
      rw [upd_n (by omega), upd_n (by omega)]
    · show upd (upd w2 0 _) 43 0 (11 + a) = _
      rw [upd_n (by omega), upd_n (by omega)]; exact (hlf2 a ha (hf2 a ha hr)).2.2.2
    · rw [upd_n (by omega), upd_n (by omega), J6 j (by omega), I4 j (by omega)]
end PDAY4
