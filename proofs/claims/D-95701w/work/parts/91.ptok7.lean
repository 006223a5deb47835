/-! PURE LAW: the text 7: one round, all rounds -/
set_option maxRecDepth 100000
section PTOK7
theorem bndE16_l {ε β α0 α1 α2 α3 α4 α5 α6 α7 α8 α9 α10 α11 α12 α13 α14 α15 : Type} (x : ε) (f : α0 → α1 → α2 → α3 → α4 → α5 → α6 → α7 → α8 → α9 → α10 → α11 → α12 → α13 → α14 → α15 → Option (ε ⊕ β)) : bndE16 (some (.inl x)) f = some (.inl x) := rfl
theorem bndE16_r {ε β α0 α1 α2 α3 α4 α5 α6 α7 α8 α9 α10 α11 α12 α13 α14 α15 : Type} (a0 : α0) (a1 : α1) (a2 : α2) (a3 : α3) (a4 : α4) (a5 : α5) (a6 : α6) (a7 : α7) (a8 : α8) (a9 : α9) (a10 : α10) (a11 : α11) (a12 : α12) (a13 : α13) (a14 : α14) (a15 : α15) (f : α0 → α1 → α2 → α3 → α4 → α5 → α6 → α7 → α8 → α9 → α10 → α11 → α12 → α13 → α14 → α15 → Option (ε ⊕ β)) : bndE16 (some (.inr (a0, a1, a2, a3, a4, a5, a6, a7, a8, a9, a10, a11, a12, a13, a14, a15))) f = f a0 a1 a2 a3 a4 a5 a6 a7 a8 a9 a10 a11 a12 a13 a14 a15 := rfl
variable {n : Nat} {b : Nat → Nat} {text mtext : Nat → Int32} {B : Bk}
variable {room work price whom bday units worth due under : Nat → Int32} {people askings hangs rP : Int32} {rp : Nat → Int32} {rA : Int32} {ra : Nat → Int32} {rH : Int32} {rh : Nat → Int32}
def IT (n : Nat) (b : Nat → Nat) (text mtext : Nat → Int32) (B : Bk) (s e so v : Nat) (room work price whom bday units worth due under : Nat → Int32) (people askings hangs rP : Int32) (rp : Nat → Int32) (rA : Int32) (ra : Nat → Int32) (rH : Int32) (rh : Nat → Int32) : Prop :=
  (∃ p1 s1 e1 so1 v1 B1 room1 work1 price1 whom1 bday1 units1 worth1 due1 under1 people1 askings1 hangs1 rP1 rp1 rA1 ra1 rH1 rh1, TK n b text mtext p1 s1 e1 so1 v1 ∧ s < p1 ∧ p1 ≤ n ∧ RD B1 room1 work1 price1 whom1 bday1 units1 worth1 due1 under1 people1 askings1 hangs1 rP1 rp1 rA1 ra1 rH1 rh1 ∧ cntB B1 = cntB B + 1 ∧ (∀ fu items, r_read_L4 text (nI n) (fu + 1) (nI e) (nI s) (nI so) (nI v) room work price whom bday units worth due under people askings hangs items = r_read_L4 text (nI n) fu (nI e1) (nI s1) (nI so1) (nI v1) room1 work1 price1 whom1 bday1 units1 worth1 due1 under1 people1 askings1 hangs1 (items + 1)) ∧ m_takeItem mtext (nI n) (nI s) (-9) rP rp rA ra rH rh = some (nI p1, -9, rP1, rp1, rA1, ra1, rH1, rh1))
  ∨ (∃ st, st < 2 ^ 31 ∧ (∀ fu items, r_read_L4 text (nI n) (fu + 1) (nI e) (nI s) (nI so) (nI v) room work price whom bday units worth due under people askings hangs items = some (.inl (nI st))) ∧ ∃ a rP1 rp1 rA1 ra1 rH1 rh1, m_takeItem mtext (nI n) (nI s) (-9) rP rp rA ra rH rh = some (a, nI st, rP1, rp1, rA1, ra1, rH1, rh1))
theorem it_bad {s e so v : Nat} (h5 : so ≠ 5) (h7 : so < 7) (hs : s < 2 ^ 31) (hmay : r_may people askings hangs (nI so) = some 0) {at6 : Int32} (hm : m_takeItem mtext (nI n) (nI s) (-9) rP rp rA ra rH rh = TL mtext (nI n) at6 (nI s) rP rp rA ra rH rh) : IT n b text mtext B s e so v room work price whom bday units worth due under people askings hangs rP rp rA ra rH rh := by
  refine Or.inr ⟨s, hs, fun fu items => ?_, ?_⟩
  · rw [r_read_L4_s, if_neg (L_ne 5 h5 (by omega) (by omega)), hmay, bnd_s]; rfl
  · rw [hm, TL_bad hs]; exact ⟨_, _, _, _, _, _, _, rfl⟩
theorem it_go (X : Tx n b text mtext) {s e so v s0 e0 so0 v0 : Nat} (h5 : so ≠ 5) (h7 : so < 7) (hse : s < e) (hmay : r_may people askings hangs (nI so) = some 1) (T : TK n b text mtext e s0 e0 so0 v0) {R : Option M8} (hio : IO n b text mtext e B (r_item text (nI n) (nI e0) (nI s0) (nI so0) (nI v0) room work price whom bday units worth due under people askings hangs (nI so)) R) (hm : m_takeItem mtext (nI n) (nI s) (-9) rP rp rA ra rH rh = bnd8 R (TL mtext (nI n))) : IT n b text mtext B s e so v room work price whom bday units worth due under people askings hangs rP rp rA ra rH rh := by
  have hn := X.1
  have hL : ∀ fu items, r_read_L4 text (nI n) (fu + 1) (nI e) (nI s) (nI so) (nI v) room work price whom bday units worth due under people askings hangs items = r_read_L4 text (nI n) (fu + 1) (nI e) (nI s) (nI so) (nI v) room work price whom bday units worth due under people askings hangs items := fun _ _ => rfl
  have hd : r_due text (nI n) (nI e) (nI s) (nI v) 1 = some (.inr (nI v, nI e0, nI s0, nI so0, nI v0)) := by
    unfold r_due; rw [if_neg n10, T.1, bnd4_s]
  rcases hio with ⟨p1, s1, e1, so1, v1, B1, room1, work1, price1, whom1, bday1, units1, worth1, due1, under1, people1, askings1, hangs1, rP1, rp1, rA1, ra1, rH1, rh1, T1, hp, hR, hc, hx, hy⟩ | ⟨st, hst, hx, a, rP1, rp1, rA1, ra1, rH1, rh1, hy⟩
  · rw [hy, bnd8_s, TL_ok X T1] at hm
    obtain ⟨t1, t2, t3, t4, t5, t6, t7, t8, t9, t10, t11, t12, t13⟩ := T1
    by_cases q : so1 = 4
    · obtain ⟨s2, e2, so2, v2, T2⟩ := tok X (p := e1) t4
      rw [if_pos q] at hm
      have := t8 (by omega)
      refine Or.inl ⟨e1, s2, e2, so2, v2, B1, _, _, _, _, _, _, _, _, _, _, _, _, _, _, _, _, _, _, T2, by omega, t4, hR, hc, fun fu items => ?_, hm⟩
      rw [r_read_L4_s, if_neg (L_ne 5 h5 (by omega) (by omega)), hmay, bnd_s, hd, bndE5_r, hx, bndE16_r, if_pos (L_eq 4 q), ltv_v]
      unfold r_due
      rw [if_neg n10, T2.1, bnd4_s, bndE5_r]
    · rw [if_neg q] at hm
      refine Or.inr ⟨s1, by omega, fun fu items => ?_, _, _, _, _, _, _, _, hm⟩
      rw [r_read_L4_s, if_neg (L_ne 5 h5 (by omega) (by omega)), hmay, bnd_s, hd, bndE5_r, hx, bndE16_r, if_neg (L_ne 4 q (by omega) (by omega)), ltv_v]
      unfold r_due
      rw [if_pos rfl]; rfl
  · rw [hy, bnd8_s, TL_bad hst] at hm
    refine Or.inr ⟨st, hst, fun fu items => ?_, _, _, _, _, _, _, _, hm⟩
    rw [r_read_L4_s, if_neg (L_ne 5 h5 (by omega) (by omega)), hmay, bnd_s, hd, bndE5_r, hx, bndE16_l]
theorem iter (X : Tx n b text mtext) {p s e so v : Nat} (T : TK n b text mtext p s e so v) (h5 : so ≠ 5) (H : RD B room work price whom bday units worth due under people askings hangs rP rp rA ra rH rh) : IT n b text mtext B s e so v room work price whom bday units worth due under people askings hangs rP rp rA ra rH rh := by
  have hn := X.1
  have hB := H.1
  obtain ⟨e1, e2, e3, _⟩ := H.2.1
  obtain ⟨e4, e5, e6, _⟩ := H.2.2.2
  subst e1 e2 e3 e4 e5 e6
  have hb1 := hB.1
  have hb2 := hB.2.1
  have hb3 := hB.2.2.2.2.1
  obtain ⟨t1, t2, t3, t4, t5, t6, t7, t8, t9, t10, t11, t12, t13⟩ := T
  have hse := t8 h5
  obtain ⟨E, e', l1, l2, l3, l4, l5, l6, l7⟩ := t9 (by omega)
  obtain ⟨s0, e0, so0, v0, T0⟩ := tok X (p := e) t4
  by_cases c0 : so = 0
  · have hE := l4.mp c0
    subst c0 hE
    have he := l7 (by omega)
    subst he
    have hy : r_may (nI B.pe) (nI B.ak) (nI B.hg.length) (nI 0) = if (4 : Int32) ≤ nI B.pe then some 0 else some 1 := rfl
    by_cases q : B.pe < 4
    · exact it_go X h5 t5 hse (hy.trans (if_neg (L_nle 4 q (by omega)))) T0 (item0 X T0 H q) (ti0 l1 q)
    · exact it_bad h5 t5 (by omega) (hy.trans (if_pos (L_le 4 (by omega) (by omega)))) (ti0f l1 (by omega) (by omega))
  by_cases c1 : so = 1
  · have hE := l5.mp c1
    subst c1 hE
    have he := l7 (by omega)
    subst he
    have hy : r_may (nI B.pe) (nI B.ak) (nI B.hg.length) (nI 1) = if (8 : Int32) ≤ nI B.ak then some 0 else some 1 := rfl
    by_cases q : B.ak < 8
    · exact it_go X h5 t5 hse (hy.trans (if_neg (L_nle 8 q (by omega)))) T0 (item1 X T0 H q) (ti1 l1 q)
    · exact it_bad h5 t5 (by omega) (hy.trans (if_pos (L_le 8 (by omega) (by omega)))) (ti1f l1 (by omega) (by omega))
  by_cases c2 : so = 2
  · have hE := l6.mp c2
    subst c2 hE
    have he := l7 (by omega)
    subst he
    have hy : r_may (nI B.pe) (nI B.ak) (nI B.hg.length) (nI 2) = if (8 : Int32) ≤ nI B.hg.length then some 0 else some 1 := rfl
    by_cases q : B.hg.length < 8
    · exact it_go X h5 t5 hse (hy.trans (if_neg (L_nle 8 q (by omega)))) T0 (item2 X T0 H q) (ti2 l1 q)
    · exact it_bad h5 t5 (by omega) (hy.trans (if_pos (L_le 8 (by omega) (by omega)))) (ti2f l1 (by omega) (by omega))
  have hy : r_may (nI B.pe) (nI B.ak) (nI B.hg.length) (nI so) = some 0 := by
    unfold r_may
    rw [if_neg (L_ne 0 c0 (by omega) (by omega)), if_neg (L_ne 1 c1 (by omega) (by omega)), if_neg (L_ne 2 c2 (by omega) (by omega))]
  exact it_bad h5 t5 (by omega) hy (tin l1 l2 (fun z => c0 (l4.mpr z)) (fun z => c1 (l5.mpr z)) (fun z => c2 (l6.mpr z)))
/-- all rounds -/
theorem rounds (X : Tx n b text mtext) : ∀ (k p s e so v fu fu' items : Nat) (B : Bk) (room work price whom bday units worth due under : Nat → Int32) (people askings hangs rP : Int32) (rp : Nat → Int32) (rA : Int32) (ra : Nat → Int32) (rH : Int32) (rh : Nat → Int32), n - p < k → p ≤ n → k ≤ fu → k ≤ fu' → TK n b text mtext p s e so v → RD B room work price whom bday units worth due under people askings hangs rP rp rA ra rH rh → cntB B = items →
    (∃ s1 e1 v1 B1 room1 work1 price1 whom1 bday1 units1 worth1 due1 under1 people1 askings1 hangs1 rP1 rp1 rA1 ra1 rH1 rh1, RD B1 room1 work1 price1 whom1 bday1 units1 worth1 due1 under1 people1 askings1 hangs1 rP1 rp1 rA1 ra1 rH1 rh1 ∧ r_read_L4 text (nI n) fu (nI e) (nI s) (nI so) (nI v) room work price whom bday units worth due under people askings hangs (nI items) = some (.inr (nI e1, nI s1, 5, nI v1, room1, work1, price1, whom1, bday1, units1, worth1, due1, under1, people1, askings1, hangs1, nI (cntB B1))) ∧ m_town_L26 mtext (nI n) fu' (nI p) (-9) rP rp rA ra rH rh = some (nI n, -9, rP1, rp1, rA1, ra1, rH1, rh1))
    ∨ (∃ st, st < 2 ^ 31 ∧ r_read_L4 text (nI n) fu (nI e) (nI s) (nI so) (nI v) room work price whom bday units worth due under people askings hangs (nI items) = some (.inl (nI st)) ∧ ∃ a rP1 rp1 rA1 ra1 rH1 rh1, m_town_L26 mtext (nI n) fu' (nI p) (-9) rP rp rA ra rH rh = some (a, nI st, rP1, rp1, rA1, ra1, rH1, rh1)) := by
  have hn := X.1
  intro k
  induction k with
  | zero => intro p s e so v fu fu' items B _ _ _ _ _ _ _ _ _ _ _ _ _ _ _ _ _ _ h; omega
  | succ k ih =>
    intro p s e so v fu fu' items B room work price whom bday units worth due under people askings hangs rP rp rA ra rH rh hk hp hf hf' T H hc
    obtain ⟨fu, rfl⟩ : ∃ z, fu = z + 1 := ⟨fu - 1, by omega⟩
    obtain ⟨fu', rfl⟩ : ∃ z, fu' = z + 1 := ⟨fu' - 1, by omega⟩
    have hmm := m_town_L26_s mtext (nI n) fu' (nI p) (-9) rP rp rA ra rH rh
    rw [if_neg m9_0, T.2.2.2.2.2.1, bnd2_s] at hmm
    by_cases h5 : so = 5
    · subst h5
      have hsn := T.2.2.2.2.2.2.1.mp rfl
      rw [if_pos hsn, if_neg n10, hsn] at hmm
      refine Or.inl ⟨s, e, v, B, _, _, _, _, _, _, _, _, _, _, _, _, _, _, _, _, _, _, H, ?_, hmm⟩
      rw [r_read_L4_s, if_pos (L_eq 5 rfl), hc]; rfl
    · have hsn : s ≠ n := fun z => h5 (T.2.2.2.2.2.2.1.mpr z)
      have hps := T.2.1
      have hsn2 := T.2.2.1
      rw [if_neg hsn, if_pos rfl] at hmm
      rcases iter X T h5 H with ⟨p1, s1, e1, so1, v1, B1, room1, work1, price1, whom1, bday1, units1, worth1, due1, under1, people1, askings1, hangs1, rP1, rp1, rA1, ra1, rH1, rh1, T1, q1, q2, R1, c1, x1, m1⟩ | ⟨st, hst, x1, a, rP1, rp1, rA1, ra1, rH1, rh1, m1⟩
      · rw [m1, bnd8_s] at hmm
        rw [x1, hmm, show (nI items + 1 : Int32) = nI (items + 1) from nI_1 _]
        exact ih p1 s1 e1 so1 v1 fu fu' (items + 1) B1 _ _ _ _ _ _ _ _ _ _ _ _ _ _ _ _ _ _ (by omega) q2 (by omega) (by omega) T1 R1 (by omega)
      · rw [m1, bnd8_s] at hmm
        obtain ⟨fu', rfl⟩ : ∃ z, fu' = z + 1 := ⟨fu' - 1, by omega⟩
        have h2 := m_town_L26_s mtext (nI n) fu' a (nI st) rP1 rp1 rA1 ra1 rH1 rh1
        rw [if_pos (nI_0le hst)] at h2
        exact Or.inr ⟨st, hst, x1 _ _, _, _, _, _, _, _, _, hmm.trans h2⟩
end PTOK7
