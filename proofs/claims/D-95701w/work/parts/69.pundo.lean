/-! PURE LAW: undo -/
section PUNDO
variable {B : Bk} {c : Core} {h : Hist} {lf : Nat → Nat} {worth : Nat → Int32} {asked : Nat → Int32}
variable {many : Nat → Int32} {slip : Nat → Nat → Int32} {became left what which whose place : Nat → Int32} {deeds day won lost : Int32} {w : Nat → Int32}
/-- the model's undo, its row once the last deed is off -/
def m_undo2 (w1 : Nat → Int32) (K : Nat) (people : Int32) (asked : Nat → Int32) (k a p i : Int32) : Option (Int32 × (Nat → Int32)) :=
  if k = 0 then bnd (m_remove w1 p a) fun w_67 => ck (3 + a) 300 <| ck (11 + a) 300 <| some ((upd (upd w_67 (3 + a).toNatClampNeg 0) (11 + a).toNatClampNeg 0) 43, upd (upd w_67 (3 + a).toNatClampNeg 0) (11 + a).toNatClampNeg 0) else
  bnd (if k = 3 then (bnd (m_sleeveOf w1 people a) fun r_105 => bnd (m_remove w1 r_105 a) fun w_109 => some (w_109)) else some w1) (fun (w_112 : Nat → Int32) =>
  bnd (m_insert w_112 (w_112 (46 + 4 * K)) (w_112 (47 + 4 * K)) a) fun w_130 =>
  bnd (if k = 2 then (ck ((5 * a) + 3) 40 <| some (asked ((5 * a) + 3).toNatClampNeg)) else some (0)) (fun (t_159 : Int32) =>
  some ((upd w_130 2 ((w_130 2) - t_159)) 43, upd w_130 2 ((w_130 2) - t_159))))
theorem m_undo_eq {K : Nat} (hK : K < 12) (h43 : w 43 = nI (K + 1)) (people : Int32) : m_undo w people asked = m_undo2 (upd w 43 (nI K)) K people asked (w (44 + 4 * K)) (w (45 + 4 * K)) (w (46 + 4 * K)) (w (47 + 4 * K)) := by
  unfold m_undo m_undo2
  rw [show (43 : Int32).toNatClampNeg = 43 from rfl, show (2 : Int32).toNatClampNeg = 2 from rfl, h43, if_neg (L_ne 0 (by omega) (by omega) (by omega)), show (nI (K + 1) - 1 : Int32) = nI K from nI_pred K, upd_s]
  have e0 : (44 + 4 * nI K : Int32) = nI (44 + 4 * K) := by simp only [nI_lit, nI_add, pk_mul, nI_cl, nI_leI, nI_ltI, nI_eq, nI_subN]
  rw [e0]
  have e1 : (nI (44 + 4 * K) + 1 : Int32) = nI (45 + 4 * K) := by
    rw [show (1 : Int32) = nI 1 from rfl, nI_add]; congr 1; omega
  have e2 : (nI (44 + 4 * K) + 2 : Int32) = nI (46 + 4 * K) := by
    rw [show (2 : Int32) = nI 2 from rfl, nI_add]; congr 1; omega
  have e3 : (nI (44 + 4 * K) + 3 : Int32) = nI (47 + 4 * K) := by
    rw [show (3 : Int32) = nI 3 from rfl, nI_add]; congr 1; omega
  rw [e1, e2, e3]
  simp (disch := omega) only [nI_cl, ck_nI, upd_n]
theorem P_undo (hB : B.ok) (hwo : ∀ a, a < B.ak → worth a = nI (B.wo a)) (hmw : ∀ a, a < B.ak → asked (5 * a + 3) = nI (B.wo a)) (T : TI B c h lf) (X : TX c h lf many slip became left what which whose place deeds day won lost) (M : TM c h lf w) : ∃ r many' slip' became' deeds' lost' w' c' h', x_undo worth many slip became what which whose place deeds lost = some (r, many', slip', became', deeds', lost') ∧ m_undo w (nI B.pe) asked = some (r, w') ∧ TI B c' h' lf ∧ TX c' h' lf many' slip' became' left what which whose place deeds' day won lost' ∧ TM c' h' lf w' ∧ ∀ j, 100 ≤ j → w' j = w j := by
  have b1 := hB.1
  have b2 := hB.2.1
  match h, T, X, M with
  | [], T, X, M =>
    refine ⟨-2, many, slip, became, deeds, lost, w, c, [], ?_, ?_, T, X, M, fun _ _ => rfl⟩
    · unfold x_undo; rw [X.2.1.1, if_pos (show nI ([] : Hist).length = (0 : Int32) from rfl)]
    · unfold m_undo; rw [show w (43 : Int32).toNatClampNeg = nI 0 from M.2.1.1, if_pos (show nI 0 = (0 : Int32) from rfl)]
  | (e, c0) :: h, T, X, M =>
    obtain ⟨XT, XH, XL⟩ := X
    obtain ⟨MT, MH, ML⟩ := M
    have T' := T.pop
    have XH' := XH.pop
    have XL' := XL.pop
    have ML' := ML.pop
    have MP := MH.pop
    obtain ⟨k, a, p, i⟩ := e
    obtain ⟨x1, x2, x3, x4, x5⟩ := id XT
    obtain ⟨m1, m2, m3, m4, m5⟩ := id MT
    have hl12 : h.length < 12 := XH.2.1
    have hd : deeds = nI (h.length + 1) := XH.1
    obtain ⟨j1, j2, j3, j4⟩ := XH.2.2 0 (by simp)
    have k1 : what h.length = nI k := j1
    have k2 : which h.length = nI a := j2
    have k3 : whose h.length = nI p := j3
    have k4 : place h.length = nI i := j4
    obtain ⟨v1, v2, v3, v4⟩ := MH.2 0 (by simp)
    have l1 : w (44 + 4 * h.length) = nI k := v1
    have l2 : w (45 + 4 * h.length) = nI a := v2
    have l3 : w (46 + 4 * h.length) = nI p := v3
    have l4 : k ≠ 0 → w (47 + 4 * h.length) = nI i := v4
    clear j1 j2 j3 j4 v1 v2 v3 v4
    have hmu := m_undo_eq (asked := asked) hl12 MH.1 (nI B.pe)
    rw [l1, l2, l3] at hmu
    obtain ⟨ha, hp, hcase⟩ := T.2.1.1
    replace ha : a < B.ak := ha
    replace hp : p < B.pe := hp
    have hp4 : p < 4 := by omega
    have ha8 : a < 8 := by omega
    have ho := T.1
    have ho0 := T'.1
    have hd1 : (nI (h.length + 1) - 1 : Int32) = nI h.length := nI_pred _
    -- w without the last deed
    have MT0 : MTown c (upd w 43 (nI h.length)) := MT.congr (fun j hj => upd_n (by omega))
    have O0 : ∀ j, j ≠ 43 → upd w 43 (nI h.length) j = w j := fun j hj => upd_n hj
    have MHw : ∀ w' : Nat → Int32, w' 43 = nI h.length → (∀ j, 44 ≤ j ∧ j < 92 → w' j = w j) → MHist h w' := by
      intro w' q1 q2
      refine ⟨q1, fun z hz => ?_⟩
      obtain ⟨y1, y2, y3, y4⟩ := MP z hz
      exact ⟨by rw [q2 _ (by omega)]; exact y1, by rw [q2 _ (by omega)]; exact y2, by rw [q2 _ (by omega)]; exact y3, fun y => by rw [q2 _ (by omega)]; exact y4 y⟩
    rcases hcase with ⟨rfl, f0, hlt, hi, rfl⟩ | hcase
    · -- a promise
      replace hi : i = (c0.sl p).length := hi
      subst hi
      replace f0 : c0.fate a = 0 := f0
      have hna : a ∉ c0.sl p := no_sleeve ho0 (by rw [f0]; decide) p
      have hsl : (c0.pin p (c0.sl p).length a).sl p = (c0.sl p).insertIdx (c0.sl p).length a := by rw [pin_sl, if_pos rfl]
      have hidx : ((c0.pin p (c0.sl p).length a).sl p).idxOf a = (c0.sl p).length := by rw [hsl]; exact idx_ins (ho0.2.2.1 p) hna (Nat.le_refl _)
      have hin : a ∈ (c0.pin p (c0.sl p).length a).sl p := by rw [hsl]; exact (List.mem_insertIdx (Nat.le_refl _)).mpr (Or.inl rfl)
      have hln : ((c0.pin p (c0.sl p).length a).sl p).length = (c0.sl p).length + 1 := by rw [hsl, List.length_insertIdx_of_le_length (Nat.le_refl _)]
      have hback : (c0.pin p (c0.sl p).length a).rem p a 0 = c0 := by
        have := pin_rem (p := p) (k := (c0.sl p).length) (a := a) ho0 (by rw [f0]; decide) (Nat.le_refl _)
        rw [f0] at this; exact this
      obtain ⟨g', uE, uS⟩ := x_unpin_eq (k := (c0.sl p).length) (x5 p hp4) (by rw [hln]; omega)
      have uS' : SlR g' (nI (((c0.pin p (c0.sl p).length a).sl p).length - 1)) (((c0.pin p (c0.sl p).length a).sl p).eraseIdx (((c0.pin p (c0.sl p).length a).sl p).idxOf a)) := by rw [hidx]; exact uS
      have XT2 := XT.rem (f := 0) uS'
      rw [hback] at XT2
      have rE := m_remove_eq (w := upd w 43 (nI h.length)) hp4 (MT0.2.2.2.2 p hp4) hin
      have MT2 := MT0.rem (f := 0) hp4 hin ha8
      rw [hback] at MT2
      have hl5 := (m5 p hp4).2.1
      refine ⟨nI h.length, _, _, _, nI h.length, lost, upd (upd (wRem (upd w 43 (nI h.length)) p (((c0.pin p (c0.sl p).length a).sl p).idxOf a) ((c0.pin p (c0.sl p).length a).sl p).length) (3 + a) (nI 0)) (11 + a) (nI 0), c0, h, ?_, ?_, T', ⟨XT2, XH', XL'⟩, ⟨MT2.congr (fun j hj => upd_n (by omega)), MHw _ ?_ ?_, ?_⟩, ?_⟩
      · unfold x_undo
        rw [hd, if_neg (L_ne 0 (by omega) (by omega) (by omega)), hd1]
        simp (disch := omega) only [nI_cl, ck_nI]
        rw [k1, if_pos (L_eq 0 rfl), k2, k3, k4]
        simp (disch := omega) only [nI_cl, ck_nI]
        rw [uE, bnd2_s]
        rfl
      · rw [hmu]
        unfold m_undo2
        rw [if_pos (L_eq 0 rfl), rE, bnd_s]
        simp (disch := omega) only [nI_lit, nI_add, pk_mul, nI_cl, nI_leI, nI_ltI, nI_eq, nI_subN, ck_nI]
        rw [upd_n (by omega), upd_n (by omega), wRem_o (by omega) (by omega) hl5, upd_s]
      · rw [upd_n (by omega), upd_n (by omega), wRem_o (by omega) (by omega) hl5, upd_s]
      · intro j hj
        rw [upd_n (by omega), upd_n (by omega), wRem_o (by omega) (by omega) hl5, upd_n (by omega)]
      · intro b hb hrb
        have hba : b ≠ a := by
          intro z
          rw [z] at hrb
          rcases hrb with z | ⟨q, hq, z⟩
          · rw [f0] at z; omega
          · have := T.2.1.2.2.fate0 f0 q hq; omega
        show upd _ (11 + a) _ (11 + b) = _
        rw [upd_n (by omega), upd_n (by omega), wRem_o (by omega) (by omega) hl5, upd_n (by omega)]
        exact ML' b hb hrb
      · intro j hj
        rw [upd_n (by omega), upd_n (by omega), wRem_o (by omega) (by omega) hl5, upd_n (by omega)]
    · -- it was taken off; k is 1, 2 or 3; first where it stands now is left
      have key : ∃ (c1 : Core) (many1 : Nat → Int32) (slip1 : Nat → Nat → Int32) (w1 : Nat → Int32) (t : Nat), k ≠ 0 ∧ k ≤ 3 ∧ a ∈ c0.sl p ∧ i = (c0.sl p).idxOf a ∧ (k = 2 ∧ t = B.wo a ∨ k ≠ 2 ∧ t = 0) ∧
          XTown c1 many1 slip1 (upd became a (nI 0)) day won lost ∧ (if nI k = 3 then (bnd (x_sleeveOf many slip (nI a)) fun r_117 =>
            ck r_117 4 <| ck r_117 4 <| bnd (x_placeOf (slip r_117.toNatClampNeg) (many r_117.toNatClampNeg) (nI a)) fun r_143 =>
            bnd2 (x_unpin (slip r_117.toNatClampNeg) (many r_117.toNatClampNeg) r_143) fun sl_146 mn_146 =>
            some (upd many r_117.toNatClampNeg mn_146, va_up slip r_117.toNatClampNeg sl_146)) else some (many, slip)) = some (many1, slip1) ∧
          MTown c1 (upd w1 (3 + a) (nI 0)) ∧ (if nI k = 3 then (bnd (m_sleeveOf (upd w 43 (nI h.length)) (nI B.pe) (nI a)) fun r_105 => bnd (m_remove (upd w 43 (nI h.length)) r_105 (nI a)) fun w_109 => some (w_109)) else some (upd w 43 (nI h.length))) = some w1 ∧
          (∀ j, j < 19 ∨ 43 ≤ j → w1 j = upd w 43 (nI h.length) j) ∧
          (∀ q, (c1.pin p i a).sl q = c0.sl q) ∧ (∀ b, (c1.pin p i a).fate b = c0.fate b) ∧ c1.day = c0.day ∧ c1.won = c0.won ∧ c1.lost = c0.lost + nI t ∧ i ≤ (c1.sl p).length ∧ (c1.sl p).length < 5 := by
        have hl0 : ∀ (hap : a ∈ c0.sl p), (c0.sl p).length ≤ 5 ∧ (c0.sl p).idxOf a < (c0.sl p).length := fun hap => by
          have q1 := ho0.2.2.2.1 p hp
          have q2 := (hB.2.2.1 p hp).2.1
          exact ⟨by omega, List.idxOf_lt_length_of_mem hap⟩
        have off : ∀ f, a ∈ c0.sl p → (∀ q, ((c0.rem p a f).pin p ((c0.sl p).idxOf a) a).sl q = c0.sl q) ∧ ∀ b, ((c0.rem p a f).pin p ((c0.sl p).idxOf a) a).fate b = c0.fate b := fun f hap => by
          rw [rem_pin ho0 hap]; exact ⟨fun _ => rfl, fun _ => rfl⟩
        have len1 : ∀ f, a ∈ c0.sl p → ((c0.rem p a f).sl p).length = (c0.sl p).length - 1 := fun f hap => by
          rw [rem_sl, if_pos rfl, List.length_eraseIdx_of_lt (hl0 hap).2]
        rcases hcase with ⟨hk, hap, hi, hc⟩ | ⟨hk, hap, hi, hc⟩ | ⟨hk, hap, hi, q, hq, hqp, hlt, hc⟩
        · replace hk : k = 1 := hk
          replace hap : a ∈ c0.sl p := hap
          replace hi : i = (c0.sl p).idxOf a := hi
          subst hk; subst hi
          replace hc : c = c0.rem p a 3 := hc
          subst hc
          obtain ⟨o1, o2⟩ := off 0 hap
          obtain ⟨L1, L2⟩ := hl0 hap
          refine ⟨c0.rem p a 0, many, slip, upd w 43 (nI h.length), 0, by decide, by decide, hap, rfl, Or.inr ⟨by decide, rfl⟩, ⟨x1, x2, x3, fun b hb => ?_, x5⟩, by rw [if_neg (by decide)], ⟨?_, ?_, ?_, fun b hb => ?_, fun q hq => ?_⟩, by rw [if_neg (by decide)], fun _ _ => rfl, o1, o2, rfl, rfl, (Int32.add_zero _).symm, ?_, ?_⟩
          · rw [rem_fate]
            by_cases e : b = a
            · rw [e, upd_s, if_pos rfl]
            · rw [upd_n e, if_neg e, x4 b hb, rem_fate, if_neg e]
          · rw [upd_n (by omega), upd_n (by omega)]; exact m1
          · rw [upd_n (by omega), upd_n (by omega)]; exact m2
          · rw [upd_n (by omega), upd_n (by omega)]; exact m3
          · rw [rem_fate]
            by_cases e : b = a
            · rw [e, upd_s, if_pos rfl]
            · rw [upd_n (by omega), upd_n (by omega), if_neg e, m4 b hb, rem_fate, if_neg e]
          · have z9 := (m5 q hq).2.1
            rw [upd_n (by omega), upd_n (by omega)]
            exact (m5 q hq).congr (fun i hi => by
              have hi2 : i < ((c0.rem p a 3).sl q).length := hi
              rw [upd_n (by omega), upd_n (by omega)])
          · rw [len1 0 hap]; omega
          · rw [len1 0 hap]; omega
        · replace hk : k = 2 := hk
          replace hap : a ∈ c0.sl p := hap
          replace hi : i = (c0.sl p).idxOf a := hi
          subst hk; subst hi
          replace hc : c = (c0.rem p a 3).lose (nI (B.wo a)) := hc
          subst hc
          obtain ⟨o1, o2⟩ := off 0 hap
          obtain ⟨L1, L2⟩ := hl0 hap
          refine ⟨(c0.rem p a 0).lose (nI (B.wo a)), many, slip, upd w 43 (nI h.length), B.wo a, by decide, by decide, hap, rfl, Or.inl ⟨rfl, rfl⟩, ⟨x1, x2, x3, fun b hb => ?_, x5⟩, by rw [if_neg (by decide)], ⟨?_, ?_, ?_, fun b hb => ?_, fun q hq => ?_⟩, by rw [if_neg (by decide)], fun _ _ => rfl, o1, o2, rfl, rfl, rfl, ?_, ?_⟩
          · show _ = nI ((c0.rem p a 0).fate b)
            rw [rem_fate]
            by_cases e : b = a
            · rw [e, upd_s, if_pos rfl]
            · rw [upd_n e, if_neg e, x4 b hb]
              show nI ((c0.rem p a 3).fate b) = _
              rw [rem_fate, if_neg e]
          · rw [upd_n (by omega), upd_n (by omega)]; exact m1
          · rw [upd_n (by omega), upd_n (by omega)]; exact m2
          · rw [upd_n (by omega), upd_n (by omega)]; exact m3
          · show _ = nI ((c0.rem p a 0).fate b)
            rw [rem_fate]
            by_cases e : b = a
            · rw [e, upd_s, if_pos rfl]
            · rw [upd_n (by omega), upd_n (by omega), if_neg e, m4 b hb]
              show nI ((c0.rem p a 3).fate b) = _
              rw [rem_fate, if_neg e]
          · have z9 := (m5 q hq).2.1
            rw [upd_n (by omega), upd_n (by omega)]
            exact (m5 q hq).congr (fun i hi => by
              have hi2 : i < ((c0.rem p a 3).sl q).length := hi
              have z8 : ((c0.rem p a 3).sl q).length ≤ 5 := z9
              rw [upd_n (by omega), upd_n (by omega)])
          · show _ ≤ ((c0.rem p a 0).sl p).length
            rw [len1 0 hap]; omega
          · show ((c0.rem p a 0).sl p).length < 5
            rw [len1 0 hap]; omega
        · replace hk : k = 3 := hk
          replace hap : a ∈ c0.sl p := hap
          replace hi : i = (c0.sl p).idxOf a := hi
          subst hk; subst hi
          replace hqp : q ≠ p := hqp
          replace hc : c = (c0.rem p a 0).pin q (c0.sl q).length a := hc
          have hok1 := rem_ok (f := 0) ho0 hap (by decide) (by decide)
          have hslq : (c0.rem p a 0).sl q = c0.sl q := by rw [rem_sl, if_neg hqp]
          have hfa : (c0.rem p a 0).fate a = 0 := by rw [rem_fate, if_pos rfl]
          have hna : a ∉ c0.sl q := fun z => hqp (ho0.2.2.2.2.2.2.2 q p a z hap)
          obtain ⟨o1, o2⟩ := off 0 hap
          obtain ⟨L1, L2⟩ := hl0 hap
          have hsl : c.sl q = (c0.sl q).insertIdx (c0.sl q).length a := by rw [hc, pin_sl, if_pos rfl, hslq]
          have hin : a ∈ c.sl q := by rw [hsl]; exact (List.mem_insertIdx (Nat.le_refl _)).mpr (Or.inl rfl)
          have hback : c.rem q a 0 = c0.rem p a 0 := by
            have := pin_rem (p := q) (k := (c0.sl q).length) (a := a) hok1 (by rw [hfa]; decide) (by rw [hslq]; exact Nat.le_refl _)
            rw [hfa] at this; rw [hc]; exact this
          have hq4 : q < 4 := by omega
          have hu : ∀ p q, a ∈ c.sl p → a ∈ c.sl q → p = q := fun p q h1 h2 => ho.2.2.2.2.2.2.2 p q a h1 h2
          have hS := (x_sleeveOf_eq x5 ho.2.2.1 ha8 hu).1 q hq4 hin
          have hP := x_placeOf_yes (x5 q hq4) ha8 hin (ho.2.2.1 q)
          obtain ⟨g', uE, uS⟩ := x_unpin_eq (x5 q hq4) (List.idxOf_lt_length_of_mem hin)
          have XT2 := XT.rem (f := 0) uS
          rw [hback] at XT2
          have hSm := (m_sleeveOf_eq b1 MT0.2.2.2.2 ha8 hu).1 q hq hin
          have rE := m_remove_eq (w := upd w 43 (nI h.length)) hq4 (MT0.2.2.2.2 q hq4) hin
          have MT2 := MT0.rem (f := 0) hq4 hin ha8
          rw [hback] at MT2
          have hl5 := (m5 q hq4).2.1
          refine ⟨c0.rem p a 0, _, _, _, 0, by decide, by decide, hap, rfl, Or.inr ⟨by decide, rfl⟩, XT2, ?_, MT2, ?_, ?_, o1, o2, rfl, rfl, (Int32.add_zero _).symm, ?_, ?_⟩
          · rw [if_pos (L_eq 3 rfl), hS, bnd_s]
            simp (disch := omega) only [nI_cl, ck_nI]
            rw [hP, bnd_s, uE, bnd2_s]
          · rw [if_pos (L_eq 3 rfl), hSm, bnd_s, rE, bnd_s]
          · intro j hj
            rw [wRem_o (by omega) (by omega) hl5]
          · rw [len1 0 hap]; omega
          · rw [len1 0 hap]; omega
      obtain ⟨c1, many1, slip1, w1, t, hk0, hk3, hap, hi, ht, XT1, xE, MT1, mE, O1, psl, pfa, pd, pw, pl, hil, hl5⟩ := key
      obtain ⟨g2, pE, pS⟩ := x_pin_eq (k := i) (a := a) (XT1.2.2.2.2 p hp4) hil hl5 ha8
      have XT2 := XT1.pin pS
      have hw1p : w1 (19 + p) = nI (c1.sl p).length := by
        have := (MT1.2.2.2.2 p hp4).1
        rw [upd_n (by omega)] at this; exact this
      have iE := m_insert_eq (w := w1) (p := p) (k := i) hp4 hw1p hl5 hil ha8
      have MT2 := MT1.pin (p := p) (k := i) hp4 hil hl5 ha8
      rw [wIns_u ha8] at MT2
      have hf0 := (ho0.2.2.2.2.2.1 p a hap).2
      have hlost : lost - nI t = c0.lost := by
        have : lost = c0.lost + nI t := by
          have := XT1.2.2.1; rw [this, pl]
        rw [this, Int32.add_sub_cancel]
      obtain ⟨y1, y2, y3, y4, y5⟩ := XT2
      obtain ⟨z1, z2, z3, z4, z5⟩ := MT2
      have hins : ∀ j, (j < 19 ∧ j ≠ 3 + a) ∨ 43 ≤ j → wIns w1 p i (c1.sl p).length a j = upd w 43 (nI h.length) j := by
        intro j hj
        rw [wIns_o (by omega) (by omega) (by omega) hl5 hil]; exact O1 j (by omega)
      have ht2 : (if nI k = 2 then (ck ((5 * nI a) + 3) 40 <| some (asked ((5 * nI a) + 3).toNatClampNeg)) else some (0 : Int32)) = some (nI t) := by
        rcases ht with ⟨q1, q2⟩ | ⟨q1, q2⟩
        · rw [q1, q2, if_pos (L_eq 2 rfl)]
          simp (disch := omega) only [nI_lit, nI_add, pk_mul, nI_cl, nI_leI, nI_ltI, nI_eq, nI_subN, ck_nI]
          rw [hmw a ha]
        · rw [if_neg (L_ne 2 q1 (by omega) (by omega)), q2]; rfl
      have ht1 : (if nI k = 2 then (ck (nI a) 8 <| some (worth (nI a).toNatClampNeg)) else some (0 : Int32)) = some (nI t) := by
        rcases ht with ⟨q1, q2⟩ | ⟨q1, q2⟩
        · rw [q1, q2, if_pos (L_eq 2 rfl)]
          simp (disch := omega) only [nI_lit, nI_add, pk_mul, nI_cl, nI_leI, nI_ltI, nI_eq, nI_subN, ck_nI]
          rw [hwo a ha]
        · rw [if_neg (L_ne 2 q1 (by omega) (by omega)), q2]; rfl
      have hw2 : wIns w1 p i (c1.sl p).length a 2 = lost := by rw [hins 2 (by omega), upd_n (by omega), m3, x3]
      refine ⟨nI h.length, upd many1 p (nI ((c1.sl p).length + 1)), va_up slip1 p g2, upd became a 1, nI h.length, lost - nI t, upd (wIns w1 p i (c1.sl p).length a) 2 (lost - nI t), c0, h, ?_, ?_, T', ⟨⟨by rw [y1]; show nI c1.day = _; rw [pd], by rw [y2]; exact pw, hlost, fun b hb => ?_, fun q hq => ?_⟩, XH', XL'⟩, ⟨⟨?_, ?_, ?_, fun b hb => ?_, fun q hq => ?_⟩, MHw _ ?_ ?_, ?_⟩, ?_⟩
      · unfold x_undo
        rw [hd, if_neg (L_ne 0 (by omega) (by omega) (by omega)), hd1]
        simp (disch := omega) only [nI_cl, ck_nI]
        rw [k1, if_neg (L_ne 0 hk0 (by omega) (by omega)), k2, k3, k4, xE, bnd2_s, ht1, bnd_s]
        simp (disch := omega) only [nI_cl, ck_nI]
        rw [pE, bnd2_s]
      · rw [hmu]
        unfold m_undo2
        rw [if_neg (L_ne 0 hk0 (by omega) (by omega)), mE, bnd_s, O1 _ (by omega), O1 _ (by omega), upd_n (by omega), upd_n (by omega), l3, l4 hk0, iE, bnd_s, ht2, bnd_s, hw2, upd_n (by omega), hins 43 (by omega), upd_s]
      · rw [← pfa b, ← y4 b hb]
        by_cases e : b = a
        · rw [e, upd_s, upd_s]
        · rw [upd_n e, upd_n e, upd_n e]
      · rw [← psl q]; exact y5 q hq
      · rw [upd_n (by omega), z1]; show nI c1.day = _; rw [pd]
      · rw [upd_n (by omega), z2]; exact pw
      · rw [upd_s]; exact hlost
      · rw [← pfa b, upd_n (by omega)]; exact z4 b hb
      · have z9 := (z5 q hq).2.1
        rw [← psl q, upd_n (by omega)]
        exact (z5 q hq).congr (fun i hi => upd_n (by omega))
      · rw [upd_n (by omega), hins 43 (by omega), upd_s]
      · intro j hj
        rw [upd_n (by omega), hins j (by omega), upd_n (by omega)]
      · intro b hb hrb
        show upd _ 2 _ (11 + b) = _
        rw [upd_n (by omega), hins _ (by omega), upd_n (by omega)]
        exact ML' b hb hrb
      · intro j hj
        rw [upd_n (by omega), hins j (by omega), upd_n (by omega)]
end PUNDO
