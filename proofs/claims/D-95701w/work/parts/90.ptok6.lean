/-! PURE LAW: the text 6: the three kinds of item, one round of the reading -/
set_option maxRecDepth 100000
section PTOK6
def cntB (B : Bk) : Nat := B.pe + B.ak + B.hg.length
abbrev X16 : Type := Int32 × Int32 × Int32 × Int32 × (Nat → Int32) × (Nat → Int32) × (Nat → Int32) × (Nat → Int32) × (Nat → Int32) × (Nat → Int32) × (Nat → Int32) × (Nat → Int32) × (Nat → Int32) × Int32 × Int32 × Int32
def IO (n : Nat) (b : Nat → Nat) (text mtext : Nat → Int32) (p : Nat) (B : Bk) (rx : Option (Int32 ⊕ X16)) (rm : Option M8) : Prop :=
  (∃ p1 s1 e1 so1 v1 B1 room1 work1 price1 whom1 bday1 units1 worth1 due1 under1 people1 askings1 hangs1 rP1 rp1 rA1 ra1 rH1 rh1, TK n b text mtext p1 s1 e1 so1 v1 ∧ p < p1 ∧ RD B1 room1 work1 price1 whom1 bday1 units1 worth1 due1 under1 people1 askings1 hangs1 rP1 rp1 rA1 ra1 rH1 rh1 ∧ cntB B1 = cntB B + 1 ∧ rx = some (.inr (nI e1, nI s1, nI so1, nI v1, room1, work1, price1, whom1, bday1, units1, worth1, due1, under1, people1, askings1, hangs1)) ∧ rm = some (nI p1, -9, rP1, rp1, rA1, ra1, rH1, rh1))
  ∨ (∃ st, st < 2 ^ 31 ∧ rx = some (.inl (nI st)) ∧ ∃ a rP1 rp1 rA1 ra1 rH1 rh1, rm = some (a, nI st, rP1, rp1, rA1, ra1, rH1, rh1))
theorem in1 {c lo hi : Nat} (hc : c < 256) (h1 : lo < 300) (h2 : hi < 300) (h : x_in (nI c) (nI lo) (nI hi) = some 1) : lo ≤ c ∧ c ≤ hi := by
  rw [in_lit hc lo hi h1 h2] at h
  by_cases z : lo ≤ c ∧ c ≤ hi
  · exact z
  · rw [if_neg z] at h; exact absurd h (by decide)
theorem inB {c m : Nat} (hc : c < 256) (hm : m ≤ 8) (h : x_in (nI c) 0 (nI m - 1) = some 1) : c < m := by
  rcases x_inB (v := nI c) hm with ⟨a, h1, h2, _⟩ | ⟨_, h2⟩
  · have := (nI_eq (by omega) (by omega)).mp h2; omega
  · rw [h2] at h; exact absurd h (by decide)
theorem hi_lt : ∀ k, k < 9 → (nI k - 1 : Int32) < 100 := by decide
variable {n : Nat} {b : Nat → Nat} {text mtext : Nat → Int32} {B : Bk}
variable {room work price whom bday units worth due under : Nat → Int32} {people askings hangs rP : Int32} {rp : Nat → Int32} {rA : Int32} {ra : Nat → Int32} {rH : Int32} {rh : Nat → Int32}
theorem item0 (X : Tx n b text mtext) {p s e so v : Nat} (T : TK n b text mtext p s e so v) (H : RD B room work price whom bday units worth due under people askings hangs rP rp rA ra rH rh) (hk : B.pe < 4) : IO n b text mtext p B (r_item text (nI n) (nI e) (nI s) (nI so) (nI v) room work price whom bday units worth due under people askings hangs 0) (N0 mtext (nI n) (nI p) (-9) B.pe rp rA ra rH rh) := by
  have hn := X.1
  have hB := H.1
  obtain ⟨e1, e2, e3, _⟩ := H.2.1
  obtain ⟨e4, e5, e6, _⟩ := H.2.2.2
  subst e1 e2 e3 e4 e5 e6
  have hb1 := hB.1
  have hb2 := hB.2.1
  unfold r_item N0
  rw [if_pos rfl]
  rcases num_step X T (lo := 1) (hi := 5) (by decide) with ⟨s1, e1, so1, v1, T1, hso1, hv1, hp1, hi1, hx1, hm1⟩ | ⟨hs, hx, v', e', hm⟩
  rotate_left
  · refine Or.inr ⟨s, hs, by rw [hx]; rfl, ?_⟩
    rw [hm, bnd3_s, stk hs, bnd3_s, stk hs, bnd3_s]; exact ⟨_, _, _, _, _, _, _, rfl⟩
  rw [hx1, hm1, bndE5_r, bnd3_s, ck_nI (by omega) (by omega)]
  rcases num_step X T1 (lo := 1) (hi := 3) (by decide) with ⟨s2, e2, so2, v2, T2, hso2, hv2, hp2, hi2, hx2, hm2⟩ | ⟨hs, hx, v', e', hm⟩
  rotate_left
  · refine Or.inr ⟨s1, hs, by rw [hx]; rfl, ?_⟩
    rw [hm, bnd3_s, stk hs, bnd3_s]; exact ⟨_, _, _, _, _, _, _, rfl⟩
  rw [hx2, hm2, bndE5_r, bnd3_s, ck_nI (by omega) (by omega)]
  rcases num_step X T2 (lo := 0) (hi := 9) (by decide) with ⟨s3, e3, so3, v3, T3, hso3, hv3, hp3, hi3, hx3, hm3⟩ | ⟨hs, hx, v', e', hm⟩
  rotate_left
  · refine Or.inr ⟨s2, hs, by rw [hx]; rfl, ?_⟩
    rw [hm, bnd3_s]; exact ⟨_, _, _, _, _, _, _, rfl⟩
  rw [hx3, hm3, bndE5_r, bnd3_s, ck_nI (by omega) (by omega)]
  have q1 := in1 (lo := 1) (hi := 5) (by omega) (by omega) (by omega) hi1
  have q2 := in1 (lo := 1) (hi := 3) (by omega) (by omega) (by omega) hi2
  have q3 := in1 (lo := 0) (hi := 9) (by omega) (by omega) (by omega) hi3
  rw [nI_cl (by omega), show (nI B.pe + 1 : Int32) = nI (B.pe + 1) from nI_1 _]
  exact Or.inl ⟨_, _, _, _, _, _, _, _, _, _, _, _, _, _, _, _, _, _, _, _, _, _, _, _, T3, by omega, H.addP hk q1 q2 q3.2, by show B.pe + 1 + B.ak + B.hg.length = B.pe + B.ak + B.hg.length + 1; omega, rfl, rfl⟩
theorem item1 (X : Tx n b text mtext) {p s e so v : Nat} (T : TK n b text mtext p s e so v) (H : RD B room work price whom bday units worth due under people askings hangs rP rp rA ra rH rh) (hk : B.ak < 8) : IO n b text mtext p B (r_item text (nI n) (nI e) (nI s) (nI so) (nI v) room work price whom bday units worth due under people askings hangs 1) (N1 mtext (nI n) (nI p) (-9) rP rp B.ak ra rH rh) := by
  have hn := X.1
  have hB := H.1
  obtain ⟨e1, e2, e3, _⟩ := H.2.1
  obtain ⟨e4, e5, e6, _⟩ := H.2.2.2
  subst e1 e2 e3 e4 e5 e6
  have hb1 := hB.1
  have hb2 := hB.2.1
  unfold r_item N1
  rw [if_neg (by decide), if_pos rfl]
  rcases num_step X T (lo := 0) (hi := nI B.pe - 1) (hi_lt _ (by omega)) with ⟨s1, e1, so1, v1, T1, hso1, hv1, hp1, hi1, hx1, hm1⟩ | ⟨hs, hx, v', e', hm⟩
  rotate_left
  · refine Or.inr ⟨s, hs, by rw [hx]; rfl, ?_⟩
    rw [hm, bnd3_s, stk hs, bnd3_s, stk hs, bnd3_s, stk hs, bnd3_s, stk hs, bnd3_s]; exact ⟨_, _, _, _, _, _, _, rfl⟩
  rw [hx1, hm1, bndE5_r, bnd3_s, ck_nI (by omega) (by omega)]
  rcases num_step X T1 (lo := 0) (hi := 9) (by decide) with ⟨s2, e2, so2, v2, T2, hso2, hv2, hp2, hi2, hx2, hm2⟩ | ⟨hs, hx, v', e', hm⟩
  rotate_left
  · refine Or.inr ⟨s1, hs, by rw [hx]; rfl, ?_⟩
    rw [hm, bnd3_s, stk hs, bnd3_s, stk hs, bnd3_s, stk hs, bnd3_s]; exact ⟨_, _, _, _, _, _, _, rfl⟩
  rw [hx2, hm2, bndE5_r, bnd3_s, ck_nI (by omega) (by omega)]
  rcases num_step X T2 (lo := 1) (hi := 9) (by decide) with ⟨s3, e3, so3, v3, T3, hso3, hv3, hp3, hi3, hx3, hm3⟩ | ⟨hs, hx, v', e', hm⟩
  rotate_left
  · refine Or.inr ⟨s2, hs, by rw [hx]; rfl, ?_⟩
    rw [hm, bnd3_s, stk hs, bnd3_s, stk hs, bnd3_s]; exact ⟨_, _, _, _, _, _, _, rfl⟩
  rw [hx3, hm3, bndE5_r, bnd3_s, ck_nI (by omega) (by omega)]
  rcases num_step X T3 (lo := 1) (hi := 99) (by decide) with ⟨s4, e4, so4, v4, T4, hso4, hv4, hp4, hi4, hx4, hm4⟩ | ⟨hs, hx, v', e', hm⟩
  rotate_left
  · refine Or.inr ⟨s3, hs, by rw [hx]; rfl, ?_⟩
    rw [hm, bnd3_s, stk hs, bnd3_s]; exact ⟨_, _, _, _, _, _, _, rfl⟩
  rw [hx4, hm4, bndE5_r, bnd3_s, ck_nI (by omega) (by omega), ck_nI (by omega) (by omega), nI_cl (by omega), upd_s]
  rcases num_step X T4 (lo := nI v1) (hi := 9) (by decide) with ⟨s5, e5, so5, v5, T5, hso5, hv5, hp5, hi5, hx5, hm5⟩ | ⟨hs, hx, v', e', hm⟩
  rotate_left
  · refine Or.inr ⟨s4, hs, by rw [hx]; rfl, ?_⟩
    rw [hm, bnd3_s]; exact ⟨_, _, _, _, _, _, _, rfl⟩
  rw [hx5, hm5, bndE5_r, bnd3_s, ck_nI (by omega) (by omega)]
  have q1 := inB (by omega) (by omega) hi1
  have q2 := in1 (lo := 0) (hi := 9) (by omega) (by omega) (by omega) hi2
  have q3 := in1 (lo := 1) (hi := 9) (by omega) (by omega) (by omega) hi3
  have q4 := in1 (lo := 1) (hi := 99) (by omega) (by omega) (by omega) hi4
  have q5 := in1 (lo := v1) (hi := 9) (by omega) (by omega) (by omega) hi5
  rw [show (nI B.ak + 1 : Int32) = nI (B.ak + 1) from nI_1 _]
  exact Or.inl ⟨_, _, _, _, _, _, _, _, _, _, _, _, _, _, _, _, _, _, _, _, _, _, _, _, T5, by omega, H.addA hk q1 q5 q3 q4, by show B.pe + (B.ak + 1) + B.hg.length = B.pe + B.ak + B.hg.length + 1; omega, rfl, rfl⟩
theorem item2 (X : Tx n b text mtext) {p s e so v : Nat} (T : TK n b text mtext p s e so v) (H : RD B room work price whom bday units worth due under people askings hangs rP rp rA ra rH rh) (hk : B.hg.length < 8) : IO n b text mtext p B (r_item text (nI n) (nI e) (nI s) (nI so) (nI v) room work price whom bday units worth due under people askings hangs 2) (N2 mtext (nI n) (nI p) (-9) rP rp rA ra B.hg.length rh) := by
  have hn := X.1
  have hB := H.1
  obtain ⟨e1, e2, e3, _⟩ := H.2.1
  obtain ⟨e4, e5, e6, _⟩ := H.2.2.2
  subst e1 e2 e3 e4 e5 e6
  have hb1 := hB.1
  have hb2 := hB.2.1
  unfold r_item N2
  rw [if_neg (by decide), if_neg (by decide)]
  rcases num_step X T (lo := 0) (hi := nI B.ak - 1) (hi_lt _ (by omega)) with ⟨s1, e1, so1, v1, T1, hso1, hv1, hp1, hi1, hx1, hm1⟩ | ⟨hs, hx, v', e', hm⟩
  rotate_left
  · refine Or.inr ⟨s, hs, by rw [hx]; rfl, ?_⟩
    rw [hm, bnd3_s, stk hs, bnd3_s]; exact ⟨_, _, _, _, _, _, _, rfl⟩
  rw [hx1, hm1, bndE5_r, bnd3_s, ltv_v]
  have q1 := inB (by omega) (by omega) hi1
  obtain ⟨t1, t2, t3, t4, t5, t6, t7, t8, t9, t10, t11, t12, t13⟩ := T1
  obtain ⟨v', e', m1, m2, m3⟩ := t13 0 (nI B.ak - 1) (nI v) (hi_lt _ (by omega))
  have hc : (if nI so1 = 3 then (if nI B.ak ≤ nI v1 then (0 : Int32) else if nI v1 = nI v then 0 else 1) else 0) = if so1 = 3 ∧ x_in (nI v1) 0 (nI B.ak - 1) = some 1 ∧ nI v1 ≠ nI v then 1 else 0 := by
    by_cases z : so1 = 3
    · have hv1 := t12 z
      rw [if_pos (L_eq 3 z)]
      rcases x_inB (v := nI v1) (n := B.ak) (by omega) with ⟨a, h1, h2, h3⟩ | ⟨h2, h3⟩
      · have ha := (nI_eq (by omega) (by omega)).mp h2
        rw [if_neg (N_nle (by omega) (by omega))]
        by_cases y : nI v1 = nI v
        · rw [if_pos y, if_neg (fun w => w.2.2 y)]
        · rw [if_neg y, if_pos ⟨z, h3, y⟩]
      · have hge : B.ak ≤ v1 := by
          by_cases w : B.ak ≤ v1
          · exact w
          · exact absurd rfl (h2 v1 (by omega))
        rw [if_pos (N_le hge (by omega)), if_neg (fun w => by rw [h3] at w; exact absurd w.2.1 (by decide))]
    · rw [if_neg (L_ne 3 z (by omega) (by omega)), if_neg (fun w => z w.1)]
  rw [hc, m1]
  by_cases z : so1 = 3 ∧ x_in (nI v1) 0 (nI B.ak - 1) = some 1 ∧ nI v1 ≠ nI v
  · rw [if_pos z, if_pos z]
    have hv1 := t12 z.1
    obtain ⟨rfl, rfl⟩ := m3 z.1
    have q2 := inB (by omega) (by omega) z.2.1
    obtain ⟨s2, e2, so2, v2, T2⟩ := tok X (p := e') t4
    unfold r_due
    rw [if_neg n10, T2.1, bnd4_s, bndE5_r, ck_nI (by omega) (by omega), ck_nI (by omega) (by omega), nI_cl (by omega), bnd3_s, show (nI B.hg.length + 1 : Int32) = nI (B.hg.length + 1) from nI_1 _]
    have hne : v ≠ v' := fun y => z.2.2 (by rw [y])
    have hse := t8 (by omega)
    refine Or.inl ⟨_, _, _, _, _, _, _, _, _, _, _, _, _, _, _, _, _, _, _, _, _, _, _, _, T2, by omega, H.addH hk q1 q2 hne, ?_, rfl, rfl⟩
    show B.pe + B.ak + (B.hg ++ [(v, v')]).length = B.pe + B.ak + B.hg.length + 1
    rw [List.length_append]; show B.pe + B.ak + (B.hg.length + 1) = _; omega
  · rw [if_neg z, if_neg z]
    unfold r_due
    rw [if_pos rfl, bndE5_l, bnd3_s]
    exact Or.inr ⟨s1, by omega, rfl, _, _, _, _, _, _, _, rfl⟩
end PTOK6
