/-! PURE LAW: day -/
def Core.win (c : Core) (v : Int32) : Core := (c.day, c.won + v, c.lost, c.fate, c.sl)
def Core.setF (c : Core) (a f : Nat) : Core := (c.day, c.won, c.lost, va_up c.fate a f, c.sl)
theorem setF_ok {B : Bk} {c : Core} (h : c.ok B) {a f : Nat} (hf : c.fate a ≠ 1) (h1 : f ≠ 1) (h3 : f ≤ 3) : (c.setF a f).ok B := by
  obtain ⟨o1, o2, o3, o4, o5, o6, o7, o8⟩ := h
  have hfa : ∀ b, (c.setF a f).fate b = if b = a then f else c.fate b := fun b => rfl
  refine ⟨o1, fun b => ?_, o3, o4, o5, fun p b hb => ?_, fun b hb hfb => ?_, o8⟩
  · rw [hfa]; split
    · exact h3
    · exact o2 b
  · obtain ⟨q1, q2⟩ := o6 p b hb
    rw [hfa, if_neg (fun e : b = a => hf (by rw [← e]; exact q2))]; exact ⟨q1, q2⟩
  · rw [hfa] at hfb
    by_cases e : b = a
    · rw [if_pos e] at hfb; exact absurd hfb h1
    · rw [if_neg e] at hfb; exact o7 b hb hfb
/-- what holds through the day's work -/
def DS (B : Bk) (c : Core) (lf : Nat → Nat) (many : Nat → Int32) (slip : Nat → Nat → Int32) (became left : Nat → Int32) (day won lost : Int32) (w : Nat → Int32) : Prop :=
  c.ok B ∧ XTown c many slip became day won lost ∧ MTown c w ∧ ∀ a, a < 8 → c.fate a = 1 → 1 ≤ lf a ∧ lf a ≤ 9 ∧ left a = nI (lf a) ∧ w (11 + a) = nI (lf a)
section PDAY2
variable {B : Bk} {work worth under bday due : Nat → Int32} {mwork asked hung : Nat → Int32} {day lost : Int32}
theorem works_eq (hB : B.ok) (hU : ∀ a, a < B.ak → ∃ u : Nat, under a = nI u ∧ u < 256 ∧ ∀ b, u.testBit b = decide ((a, b) ∈ B.hg)) (hH : ∀ k, (h : k < B.hg.length) → hung (2 * k) = nI B.hg[k].1 ∧ hung (2 * k + 1) = nI B.hg[k].2) (hwo : ∀ a, a < B.ak → worth a = nI (B.wo a)) (hmw : ∀ a, a < B.ak → asked (5 * a + 3) = nI (B.wo a)) {p : Nat} (hp : p < B.pe) (hwk : work p = nI (B.wk p)) (hmk : mwork p = nI (B.wk p)) :
    ∀ (n u fu fu' : Nat) (c : Core) (lf : Nat → Nat) (many : Nat → Int32) (slip : Nat → Nat → Int32) (became left : Nat → Int32) (won : Int32) (w : Nat → Int32) (k : Int32), u + n = B.wk p → n < fu → n < fu' → DS B c lf many slip became left day won lost w →
      ∃ (k' : Int32) (c' : Core) (lf' : Nat → Nat) (many' : Nat → Int32) (slip' : Nat → Nat → Int32) (became' left' : Nat → Int32) (won' : Int32) (w' : Nat → Int32), (∀ k0, x_works_L15 (nI p) work worth under (nI B.ak) fu (k - k0) (nI u) many slip became left won = some (k' - k0, many', slip', became', left', won')) ∧ m_day_L28 (nI p) mwork asked (nI B.hg.length) hung fu' k (nI u) w = some (k', w') ∧ DS B c' lf' many' slip' became' left' day won' lost w' ∧ ∀ j, 43 ≤ j → w' j = w j := by
  have b1 := hB.1
  have b2 := hB.2.1
  have hwb := hB.2.2.1 p hp
  have hp4 : p < 4 := by omega
  -- where nothing may be worked on the class goes on in vain
  have idle : ∀ (n u fu : Nat) (many : Nat → Int32) (slip : Nat → Nat → Int32) (became left : Nat → Int32) (won k : Int32), u + n = B.wk p → n < fu → x_firstOf under (nI B.ak) many slip became p = some (-9) → x_works_L15 (nI p) work worth under (nI B.ak) fu k (nI u) many slip became left won = some (k, many, slip, became, left, won) := by
    intro n
    induction n with
    | zero =>
      intro u fu many slip became left won k hu hf _
      obtain ⟨fu, rfl⟩ : ∃ z, fu = z + 1 := ⟨fu - 1, by omega⟩
      rw [x_works_L15_s]
      simp (disch := omega) only [nI_cl, ck_nI]
      rw [hwk, if_pos (N_le (by omega) (by omega))]
    | succ n ih =>
      intro u fu many slip became left won k hu hf hno
      obtain ⟨fu, rfl⟩ : ∃ z, fu = z + 1 := ⟨fu - 1, by omega⟩
      rw [x_works_L15_s]
      simp (disch := omega) only [nI_cl, ck_nI]
      rw [hwk, if_neg (N_nle (by omega) (by omega)), hno, bnd_s, if_pos rfl, show (nI u + 1 : Int32) = nI (u + 1) from nI_1 u]
      exact ih (u + 1) fu many slip became left won k (by omega) (by omega) hno
  intro n
  induction n with
  | zero =>
    intro u fu fu' c lf many slip became left won w k hu hf hf' D
    obtain ⟨fu, rfl⟩ : ∃ z, fu = z + 1 := ⟨fu - 1, by omega⟩
    obtain ⟨fu', rfl⟩ : ∃ z, fu' = z + 1 := ⟨fu' - 1, by omega⟩
    refine ⟨k, c, lf, many, slip, became, left, won, w, fun k0 => ?_, ?_, D, fun _ _ => rfl⟩
    · rw [x_works_L15_s]
      simp (disch := omega) only [nI_cl, ck_nI]
      rw [hwk, if_pos (N_le (by omega) (by omega))]
    · rw [m_day_L28_s]
      simp (disch := omega) only [nI_cl, ck_nI]
      rw [hmk, if_pos (N_le (by omega) (by omega))]
  | succ n ih =>
    intro u fu fu' c lf many slip became left won w k hu hf hf' D
    obtain ⟨fu, rfl⟩ : ∃ z, fu = z + 1 := ⟨fu - 1, by omega⟩
    obtain ⟨fu', rfl⟩ : ∃ z, fu' = z + 1 := ⟨fu' - 1, by omega⟩
    obtain ⟨ho, XT, MT, hlf⟩ := D
    have hu1 : (nI u + 1 : Int32) = nI (u + 1) := nI_1 u
    rcases first_eq hB hU hH ho XT MT hp4 with ⟨-, f1, f2⟩ | ⟨i, hi, f1, f2⟩
    · refine ⟨k, c, lf, many, slip, became, left, won, w, fun k0 => idle (n + 1) u (fu + 1) many slip became left won (k - k0) hu hf f1, ?_, ⟨ho, XT, MT, hlf⟩, fun _ _ => rfl⟩
      rw [m_day_L28_s]
      simp (disch := omega) only [nI_cl, ck_nI]
      rw [hmk, if_neg (N_nle (by omega) (by omega)), f2, bnd_s, if_pos rfl]
    · have hmem : (c.sl p)[i] ∈ c.sl p := List.getElem_mem hi
      obtain ⟨hak, hf1⟩ := ho.2.2.2.2.2.1 p _ hmem
      have hidx : (c.sl p).idxOf (c.sl p)[i] = i := List.Nodup.idxOf_getElem (ho.2.2.1 p) i hi
      obtain ⟨q1, q2, q3, q4⟩ := XT.2.2.2.2 p hp4
      have hsl := q3 i hi
      generalize hae : (c.sl p)[i] = a at *
      have ha8 : a < 8 := by omega
      obtain ⟨l1, l2, l3, l4⟩ := hlf a ha8 hf1
      have hx : ∀ k0, x_works_L15 (nI p) work worth under (nI B.ak) (fu + 1) (k - k0) (nI u) many slip became left won = if lf a = 1 then (bnd2 (x_unpin (slip p) (many p) (nI i)) fun sl_115 mn_115 => x_works_L15 (nI p) work worth under (nI B.ak) fu (k - k0 + 1) (nI (u + 1)) (upd many p mn_115) (va_up slip p sl_115) (upd became a 2) (upd left a (nI (lf a - 1))) (won + nI (B.wo a))) else x_works_L15 (nI p) work worth under (nI B.ak) fu (k - k0) (nI (u + 1)) many slip became (upd left a (nI (lf a - 1))) won := by
        intro k0
        rw [x_works_L15_s]
        simp (disch := omega) only [nI_cl, ck_nI]
        rw [hwk, if_neg (N_nle (by omega) (by omega)), f1, bnd_s, if_neg (nI_m9 (by omega)), hu1]
        simp (disch := omega) only [nI_cl, ck_nI]
        rw [hsl]
        simp (disch := omega) only [nI_cl, ck_nI]
        rw [upd_s, l3, show (nI (lf a) - 1 : Int32) = nI (lf a - 1) from nI_subN (b := 1) l1, hwo a hak]
        by_cases e1 : lf a = 1
        · rw [if_pos e1, if_pos (L_eq 0 (by omega))]
        · rw [if_neg e1, if_neg (L_ne 0 (by omega) (by omega) (by omega))]
      have e11 : (11 + nI a : Int32) = nI (11 + a) := nI_add 11 a
      have e3a : (3 + nI a : Int32) = nI (3 + a) := nI_add 3 a
      have e5a : (5 * nI a + 3 : Int32) = nI (5 * a + 3) := by simp only [nI_lit, nI_add, pk_mul, nI_cl, nI_leI, nI_ltI, nI_eq, nI_subN]
      have hm : m_day_L28 (nI p) mwork asked (nI B.hg.length) hung (fu' + 1) k (nI u) w = if lf a = 1 then (bnd (m_remove (upd w (11 + a) (nI (lf a - 1))) (nI p) (nI a)) fun w_86 => m_day_L28 (nI p) mwork asked (nI B.hg.length) hung fu' (k + 1) (nI (u + 1)) (upd (upd w_86 (3 + a) 2) 1 (((upd w_86 (3 + a) 2) 1) + nI (B.wo a)))) else m_day_L28 (nI p) mwork asked (nI B.hg.length) hung fu' k (nI (u + 1)) (upd w (11 + a) (nI (lf a - 1))) := by
        rw [m_day_L28_s]
        simp (disch := omega) only [nI_cl, ck_nI]
        rw [hmk, if_neg (N_nle (by omega) (by omega)), f2, bnd_s, if_neg (nI_m9 (by omega)), hu1, e11, e3a, e5a]
        simp (disch := omega) only [nI_cl, ck_nI]
        rw [upd_s, l4, show (nI (lf a) - 1 : Int32) = nI (lf a - 1) from nI_subN (b := 1) l1, hmw a hak]
        by_cases e1 : lf a = 1
        · rw [if_pos e1, if_pos (L_eq 0 (by omega))]; rfl
        · rw [if_neg e1, if_neg (L_ne 0 (by omega) (by omega) (by omega))]
      by_cases e1 : lf a = 1
      · -- it is kept
        obtain ⟨g', uE, uS⟩ := x_unpin_eq (XT.2.2.2.2 p hp4) hi
        have MT0 : MTown c (upd w (11 + a) (nI (lf a - 1))) := MT.congr (fun j hj => upd_n (by omega))
        have rE := m_remove_eq (w := upd w (11 + a) (nI (lf a - 1))) hp4 (MT0.2.2.2.2 p hp4) hmem
        have MT1 := MT0.rem (f := 2) hp4 hmem ha8
        have uS' : SlR g' (nI ((c.sl p).length - 1)) ((c.sl p).eraseIdx ((c.sl p).idxOf a)) := by rw [hidx]; exact uS
        have XT1 := XT.rem (f := 2) uS'
        have ho1 := rem_ok (f := 2) ho hmem (by decide) (by decide)
        rw [hidx] at MT1 rE
        obtain ⟨y1, y2, y3, y4, y5⟩ := XT1
        obtain ⟨z1, z2, z3, z4, z5⟩ := MT1
        have D2 : DS B ((c.rem p a 2).win (nI (B.wo a))) lf (upd many p (nI ((c.sl p).length - 1))) (va_up slip p g') (upd became a 2) (upd left a (nI (lf a - 1))) day (won + nI (B.wo a)) lost (upd (upd (wRem (upd w (11 + a) (nI (lf a - 1))) p i (c.sl p).length) (3 + a) 2) 1 (((upd (wRem (upd w (11 + a) (nI (lf a - 1))) p i (c.sl p).length) (3 + a) 2) 1) + nI (B.wo a))) := by
          refine ⟨ho1, ⟨y1, by rw [y2]; rfl, y3, y4, y5⟩, ⟨?_, ?_, ?_, fun b hb => ?_, fun q hq => ?_⟩, fun b hb hfb => ?_⟩
          · rw [upd_n (by omega)]; exact z1
          · rw [upd_s]; exact congrArg (· + nI (B.wo a)) z2
          · rw [upd_n (by omega)]; exact z3
          · rw [upd_n (by omega)]; exact z4 b hb
          · rw [upd_n (show 19 + q ≠ 1 by omega)]
            have z9 := (z5 q hq).2.1
            refine SlR.congr (g := fun j => upd (wRem (upd w (11 + a) (nI (lf a - 1))) p i (c.sl p).length) (3 + a) (nI 2) (23 + 5 * q + j)) (z5 q hq) ?_
            intro j hj
            exact upd_n (show 23 + 5 * q + j ≠ 1 by omega)
          · have hba : b ≠ a := by
              intro z
              have hfb2 : (c.rem p a 2).fate b = 1 := hfb
              rw [rem_fate, if_pos z] at hfb2; omega
            have hfc : c.fate b = 1 := by
              have hfb2 : (c.rem p a 2).fate b = 1 := hfb
              rw [rem_fate, if_neg hba] at hfb2; exact hfb2
            obtain ⟨t1, t2, t3, t4⟩ := hlf b hb hfc
            refine ⟨t1, t2, by rw [upd_n hba]; exact t3, ?_⟩
            rw [upd_n (by omega), upd_n (by omega), wRem_o (by omega) (by omega) q2, upd_n (by omega)]; exact t4
        obtain ⟨k', c', lf', many', slip', became', left', won', w', I1, I2, I3, I4⟩ := ih (u + 1) fu fu' _ _ _ _ _ _ _ _ (k + 1) (by omega) (by omega) (by omega) D2
        refine ⟨k', c', lf', many', slip', became', left', won', w', fun k0 => ?_, ?_, I3, fun j hj => ?_⟩
        · rw [hx k0, if_pos e1, uE, bnd2_s, ← I1 k0]
          congr 1
          rw [Int32.sub_eq_add_neg, Int32.sub_eq_add_neg, Int32.add_assoc, Int32.add_assoc, Int32.add_comm (-k0) 1]
        · rw [hm, if_pos e1, rE, bnd_s]; exact I2
        · rw [I4 j hj, upd_n (by omega), upd_n (by omega), wRem_o (by omega) (by omega) q2, upd_n (by omega)]
      · have D2 : DS B c (va_up lf a (lf a - 1)) many slip became (upd left a (nI (lf a - 1))) day won lost (upd w (11 + a) (nI (lf a - 1))) := by
          refine ⟨ho, XT, MT.congr (fun j hj => upd_n (by omega)), fun b hb hfb => ?_⟩
          by_cases e : b = a
          · rw [e, va_up_self, upd_s, upd_s]; exact ⟨by omega, by omega, rfl, rfl⟩
          · rw [va_up_ne _ _ e, upd_n e, upd_n (by omega)]; exact hlf b hb hfb
        obtain ⟨k', c', lf', many', slip', became', left', won', w', I1, I2, I3, I4⟩ := ih (u + 1) fu fu' _ _ _ _ _ _ _ _ k (by omega) (by omega) (by omega) D2
        refine ⟨k', c', lf', many', slip', became', left', won', w', fun k0 => ?_, ?_, I3, fun j hj => ?_⟩
        · rw [hx k0, if_neg e1]; exact I1 k0
        · rw [hm, if_neg e1]; exact I2
        · rw [I4 j hj, upd_n (by omega)]
theorem people_eq (hB : B.ok) (hU : ∀ a, a < B.ak → ∃ u : Nat, under a = nI u ∧ u < 256 ∧ ∀ b, u.testBit b = decide ((a, b) ∈ B.hg)) (hH : ∀ k, (h : k < B.hg.length) → hung (2 * k) = nI B.hg[k].1 ∧ hung (2 * k + 1) = nI B.hg[k].2) (hwo : ∀ a, a < B.ak → worth a = nI (B.wo a)) (hmw : ∀ a, a < B.ak → asked (5 * a + 3) = nI (B.wo a)) (hwk : ∀ p, p < B.pe → work p = nI (B.wk p)) (hmk : ∀ p, p < B.pe → mwork p = nI (B.wk p)) :
    ∀ (n p fu fu' : Nat) (c : Core) (lf : Nat → Nat) (many : Nat → Int32) (slip : Nat → Nat → Int32) (became left : Nat → Int32) (won : Int32) (w : Nat → Int32) (k : Int32), p + n = B.pe → n < fu → n < fu' → DS B c lf many slip became left day won lost w →
      ∃ (k' : Int32) (c' : Core) (lf' : Nat → Nat) (many' : Nat → Int32) (slip' : Nat → Nat → Int32) (became' left' : Nat → Int32) (won' : Int32) (w' : Nat → Int32), x_day_L19 work worth under (nI B.pe) (nI B.ak) fu k (nI p) many slip became left won = some (k', many', slip', became', left', won') ∧ m_day_L18 (nI B.pe) mwork asked (nI B.hg.length) hung fu' k (nI p) w = some (k', w') ∧ DS B c' lf' many' slip' became' left' day won' lost w' ∧ ∀ j, 43 ≤ j → w' j = w j := by
  have b1 := hB.1
  intro n
  induction n with
  | zero =>
    intro p fu fu' c lf many slip became left won w k hp hf hf' D
    obtain ⟨fu, rfl⟩ : ∃ z, fu = z + 1 := ⟨fu - 1, by omega⟩
    obtain ⟨fu', rfl⟩ : ∃ z, fu' = z + 1 := ⟨fu' - 1, by omega⟩
    rw [x_day_L19_s, m_day_L18_s, if_pos (N_le (by omega) (by omega)), if_pos (N_le (by omega) (by omega))]
    exact ⟨_, _, _, _, _, _, _, _, _, rfl, rfl, D, fun _ _ => rfl⟩
  | succ n ih =>
    intro p fu fu' c lf many slip became left won w k hp hf hf' D
    obtain ⟨fu, rfl⟩ : ∃ z, fu = z + 1 := ⟨fu - 1, by omega⟩
    obtain ⟨fu', rfl⟩ : ∃ z, fu' = z + 1 := ⟨fu' - 1, by omega⟩
    have hwb := hB.2.2.1 p (by omega)
    rw [x_day_L19_s, m_day_L18_s, if_neg (N_nle (by omega) (by omega)), if_neg (N_nle (by omega) (by omega)), show (nI p + 1 : Int32) = nI (p + 1) from nI_1 p]
    obtain ⟨k1, c1, lf1, many1, slip1, became1, left1, won1, w1, I1, I2, I3, I4⟩ := works_eq (day := day) (lost := lost) hB hU hH hwo hmw (by omega) (hwk p (by omega)) (hmk p (by omega)) (B.wk p) 0 g_fuel g_fuel c lf many slip became left won w k (by omega) (by unfold g_fuel; omega) (by unfold g_fuel; omega) D
    have I1' := I1 k
    rw [Int32.sub_self] at I1'
    have hW : x_works work worth under (nI B.ak) many slip became left won (nI p) = some (k1 - k, many1, slip1, became1, left1, won1) := by
      unfold x_works
      simp (disch := omega) only [nI_cl, ck_nI]
      rw [show x_works_L15 (nI p) work worth under (nI B.ak) g_fuel 0 0 many slip became left won = _ from I1', bnd6_s]
    rw [hW, bnd6_s, show m_day_L28 (nI p) mwork asked (nI B.hg.length) hung g_fuel k 0 w = _ from I2, bnd2_s]
    have hk : k + (k1 - k) = k1 := by rw [Int32.add_comm, Int32.sub_add_cancel]
    rw [hk]
    obtain ⟨k', c', lf', many', slip', became', left', won', w', J1, J2, J3, J4⟩ := ih (p + 1) fu fu' c1 lf1 many1 slip1 became1 left1 won1 w1 k1 (by omega) (by omega) (by omega) I3
    exact ⟨k', c', lf', many', slip', became', left', won', w', J1, J2, J3, fun j hj => by rw [J4 j hj, I4 j hj]⟩
end PDAY2
