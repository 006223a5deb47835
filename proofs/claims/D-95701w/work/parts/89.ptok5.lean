/-! PURE LAW: the text 5: one item -/
set_option maxRecDepth 100000
section PTOK5
abbrev M8 : Type := Int32 × Int32 × Int32 × (Nat → Int32) × Int32 × (Nat → Int32) × Int32 × (Nat → Int32)
def N0 (mt : Nat → Int32) (N at_ f : Int32) (pe : Nat) (rp : Nat → Int32) (rA : Int32) (ra : Nat → Int32) (rH : Int32) (rh : Nat → Int32) : Option M8 :=
  bnd3 (m_takeNumber mt N at_ f 1 5 (-1)) fun r1 a1 f1 =>
  bnd3 (m_takeNumber mt N a1 f1 1 3 (-1)) fun r2 a2 f2 =>
  bnd3 (m_takeNumber mt N a2 f2 0 9 (-1)) fun r3 a3 f3 =>
  some (a3, f3, nI (pe + 1), upd (upd (upd rp (3 * pe) r1) (3 * pe + 1) r2) (3 * pe + 2) r3, rA, ra, rH, rh)
def N1 (mt : Nat → Int32) (N at_ f : Int32) (rP : Int32) (rp : Nat → Int32) (ak : Nat) (ra : Nat → Int32) (rH : Int32) (rh : Nat → Int32) : Option M8 :=
  bnd3 (m_takeNumber mt N at_ f 0 (rP - 1) (-1)) fun r1 a1 f1 =>
  bnd3 (m_takeNumber mt N a1 f1 0 9 (-1)) fun r2 a2 f2 =>
  bnd3 (m_takeNumber mt N a2 f2 1 9 (-1)) fun r3 a3 f3 =>
  bnd3 (m_takeNumber mt N a3 f3 1 99 (-1)) fun r4 a4 f4 =>
  bnd3 (m_takeNumber mt N a4 f4 r2 9 (-1)) fun r5 a5 f5 =>
  some (a5, f5, rP, rp, nI (ak + 1), upd (upd (upd (upd (upd ra (5 * ak) r1) (5 * ak + 1) r2) (5 * ak + 2) r3) (5 * ak + 3) r4) (5 * ak + 4) r5, rH, rh)
def N2 (mt : Nat → Int32) (N at_ f : Int32) (rP : Int32) (rp : Nat → Int32) (rA : Int32) (ra : Nat → Int32) (hg : Nat) (rh : Nat → Int32) : Option M8 :=
  bnd3 (m_takeNumber mt N at_ f 0 (rA - 1) (-1)) fun r1 a1 f1 =>
  bnd3 (m_takeNumber mt N a1 f1 0 (rA - 1) r1) fun r2 a2 f2 =>
  some (a2, f2, rP, rp, rA, ra, nI (hg + 1), upd (upd rh (2 * hg) r1) (2 * hg + 1) r2)
def TL (mt : Nat → Int32) (N : Int32) (at_ f P : Int32) (p : Nat → Int32) (A : Int32) (a : Nat → Int32) (H : Int32) (h : Nat → Int32) : Option M8 :=
  bnd2 (if 0 ≤ f then (some (at_, f)) else
  bnd2 (m_isEnd mt N at_) fun r at2 =>
  if r = 0 then (ck at2 300 <| if (mt at2.toNatClampNeg) = 59 then (some (at2, f)) else
  some (at2, at2)) else
  some (at2, at2)) (fun (at3 : Int32) (f3 : Int32) =>
  some (at3 + 1, f3, P, p, A, a, H, h))
variable {n : Nat} {b : Nat → Nat} {text mtext : Nat → Int32}
variable {room work price whom bday units worth due under : Nat → Int32} {people askings hangs rP : Int32} {rp : Nat → Int32} {rA : Int32} {ra : Nat → Int32} {rH : Int32} {rh : Nat → Int32}
theorem TL_bad {N at_ : Int32} {st : Nat} (h : st < 2 ^ 31) : TL mtext N at_ (nI st) rP rp rA ra rH rh = some (at_ + 1, nI st, rP, rp, rA, ra, rH, rh) := by
  unfold TL
  rw [if_pos (nI_0le h), bnd2_s]
theorem TL_ok (X : Tx n b text mtext) {p s e so v : Nat} (T : TK n b text mtext p s e so v) : TL mtext (nI n) (nI p) (-9) rP rp rA ra rH rh = if so = 4 then some (nI e, -9, rP, rp, rA, ra, rH, rh) else some (nI s + 1, nI s, rP, rp, rA, ra, rH, rh) := by
  have hn := X.1
  obtain ⟨t1, t2, t3, t4, t5, t6, t7, t8, t9, t10, t11, t12, t13⟩ := T
  unfold TL
  rw [if_neg m9_0, t6, bnd2_s]
  by_cases q : s = n
  · rw [if_pos q, if_neg n10, bnd2_s, if_neg (by omega)]
  · rw [if_neg q, if_pos rfl, ck_nI (by omega) (by omega), nI_cl (by omega), (X.2 s (by omega)).2.1]
    have h1 := (X.2 s (by omega)).1
    have := t10 (by omega)
    by_cases z : b s = 59
    · rw [if_pos (L_eq 59 z), bnd2_s, if_pos (this.mpr z), t11 (this.mpr z), show (nI s + 1 : Int32) = nI (s + 1) from nI_1 s]
    · rw [if_neg (L_ne 59 z (by omega) (by omega)), bnd2_s, if_neg (fun y => z (this.mp y))]
theorem lgc0 {a b : Nat} (h : a = b) : lg_cmp (lN a) (lN b) = 0 := (lg_cmp_eq _ _).mpr (by rw [h])
theorem lgc1 {a b : Nat} (h : a ≠ b) (ha : a < 2 ^ 40) (hb : b < 2 ^ 40) : ¬ lg_cmp (lN a) (lN b) = 0 := fun z => by
  have e := (lg_cmp_eq _ _).mp z
  rcases Nat.lt_or_gt_of_ne h with q | q
  · have := (pk_lLT (by omega) (by omega)).mpr q
    rw [e] at this
    exact absurd ((pk_lLT (by omega) (by omega)).mp this) (by omega)
  · have := (pk_lLT (by omega) (by omega)).mpr q
    rw [e] at this
    exact absurd ((pk_lLT (by omega) (by omega)).mp this) (by omega)
theorem ckM {i m : Nat} (h : i < m) (hm : m < 2 ^ 31) (k : Option M8) : ck (nI i) m k = k := ck_nI h hm
theorem ti0 {N at_ at6 f : Int32} {pe : Nat} (hL : m_takeLetters mtext N at_ = some (lN 542723566, at6)) (hp : pe < 4) : m_takeItem mtext N at_ f (nI pe) rp rA ra rH rh = bnd8 (N0 mtext N at6 f pe rp rA ra rH rh) (TL mtext N) := by
  unfold m_takeItem
  rw [hL, bnd2_s, if_pos (show lg_cmp (lN 542723566) 542723566 = 0 from lgc0 rfl), if_neg (show ¬ (4 : Int32) ≤ nI pe from L_nle 4 (by omega) (by omega)), show (3 * nI pe : Int32) = nI (3 * pe) from pk_mul 3 pe]
  simp only [show (nI (3 * pe) + 1 : Int32) = nI (3 * pe + 1) from nI_1 _, show (nI (3 * pe) + 2 : Int32) = nI (3 * pe + 2) from nI_add _ _, show (nI pe + 1 : Int32) = nI (pe + 1) from nI_1 _, ckM (i := 3 * pe) (m := 12) (by omega) (by omega), ckM (i := 3 * pe + 1) (m := 12) (by omega) (by omega), ckM (i := 3 * pe + 2) (m := 12) (by omega) (by omega), nI_cl (n := 3 * pe) (by omega), nI_cl (n := 3 * pe + 1) (by omega), nI_cl (n := 3 * pe + 2) (by omega)]
  rfl
theorem ti0f {N at_ at6 f : Int32} {pe : Nat} (hL : m_takeLetters mtext N at_ = some (lN 542723566, at6)) (hp : 4 ≤ pe) (hp2 : pe < 2 ^ 31) : m_takeItem mtext N at_ f (nI pe) rp rA ra rH rh = TL mtext N at6 at_ (nI pe) rp rA ra rH rh := by
  unfold m_takeItem
  rw [hL, bnd2_s, if_pos (show lg_cmp (lN 542723566) 542723566 = 0 from lgc0 rfl), if_pos (show (4 : Int32) ≤ nI pe from L_le 4 (by omega) (by omega)), if_neg (show ¬ lg_cmp (lN 542723566) 1643 = 0 from lgc1 (b := 1643) (by decide) (by decide) (by decide)), if_neg (show ¬ lg_cmp (lN 542723566) 8435955 = 0 from lgc1 (b := 8435955) (by decide) (by decide) (by decide)), bnd8_s]
  rfl
theorem ti1 {N at_ at6 f : Int32} {ak : Nat} (hL : m_takeLetters mtext N at_ = some (lN 1643, at6)) (hp : ak < 8) : m_takeItem mtext N at_ f rP rp (nI ak) ra rH rh = bnd8 (N1 mtext N at6 f rP rp ak ra rH rh) (TL mtext N) := by
  unfold m_takeItem
  rw [hL, bnd2_s, if_neg (show ¬ lg_cmp (lN 1643) 542723566 = 0 from lgc1 (b := 542723566) (by decide) (by decide) (by decide)), if_pos (show lg_cmp (lN 1643) 1643 = 0 from lgc0 rfl), if_neg (show ¬ (8 : Int32) ≤ nI ak from L_nle 8 (by omega) (by omega)), show (5 * nI ak : Int32) = nI (5 * ak) from pk_mul 5 ak]
  simp only [show (nI (5 * ak) + 1 : Int32) = nI (5 * ak + 1) from nI_1 _, show (nI (5 * ak) + 2 : Int32) = nI (5 * ak + 2) from nI_add _ _, show (nI (5 * ak) + 3 : Int32) = nI (5 * ak + 3) from nI_add _ _, show (nI (5 * ak) + 4 : Int32) = nI (5 * ak + 4) from nI_add _ _, show (nI ak + 1 : Int32) = nI (ak + 1) from nI_1 _, ckM (i := 5 * ak) (m := 40) (by omega) (by omega), ckM (i := 5 * ak + 1) (m := 40) (by omega) (by omega), ckM (i := 5 * ak + 2) (m := 40) (by omega) (by omega), ckM (i := 5 * ak + 3) (m := 40) (by omega) (by omega), ckM (i := 5 * ak + 4) (m := 40) (by omega) (by omega), nI_cl (n := 5 * ak) (by omega), nI_cl (n := 5 * ak + 1) (by omega), nI_cl (n := 5 * ak + 2) (by omega), nI_cl (n := 5 * ak + 3) (by omega), nI_cl (n := 5 * ak + 4) (by omega), upd_n (show 5 * ak + 1 ≠ 5 * ak + 3 by omega), upd_n (show 5 * ak + 1 ≠ 5 * ak + 2 by omega), upd_s]
  rfl
theorem ti1f {N at_ at6 f : Int32} {ak : Nat} (hL : m_takeLetters mtext N at_ = some (lN 1643, at6)) (hp : 8 ≤ ak) (hp2 : ak < 2 ^ 31) : m_takeItem mtext N at_ f rP rp (nI ak) ra rH rh = TL mtext N at6 at_ rP rp (nI ak) ra rH rh := by
  unfold m_takeItem
  rw [hL, bnd2_s, if_neg (show ¬ lg_cmp (lN 1643) 542723566 = 0 from lgc1 (b := 542723566) (by decide) (by decide) (by decide)), if_pos (show lg_cmp (lN 1643) 1643 = 0 from lgc0 rfl), if_pos (show (8 : Int32) ≤ nI ak from L_le 8 (by omega) (by omega)), if_neg (show ¬ lg_cmp (lN 1643) 8435955 = 0 from lgc1 (b := 8435955) (by decide) (by decide) (by decide)), bnd8_s]
  rfl
theorem ti2 {N at_ at6 f : Int32} {hg : Nat} (hL : m_takeLetters mtext N at_ = some (lN 8435955, at6)) (hp : hg < 8) : m_takeItem mtext N at_ f rP rp rA ra (nI hg) rh = bnd8 (N2 mtext N at6 f rP rp rA ra hg rh) (TL mtext N) := by
  unfold m_takeItem
  rw [hL, bnd2_s, if_neg (show ¬ lg_cmp (lN 8435955) 542723566 = 0 from lgc1 (b := 542723566) (by decide) (by decide) (by decide)), if_neg (show ¬ lg_cmp (lN 8435955) 1643 = 0 from lgc1 (b := 1643) (by decide) (by decide) (by decide)), if_pos (show lg_cmp (lN 8435955) 8435955 = 0 from lgc0 rfl), if_neg (show ¬ (8 : Int32) ≤ nI hg from L_nle 8 (by omega) (by omega)), show (2 * nI hg : Int32) = nI (2 * hg) from pk_mul 2 hg]
  simp only [show (nI (2 * hg) + 1 : Int32) = nI (2 * hg + 1) from nI_1 _, show (nI hg + 1 : Int32) = nI (hg + 1) from nI_1 _, ckM (i := 2 * hg) (m := 16) (by omega) (by omega), ckM (i := 2 * hg + 1) (m := 16) (by omega) (by omega), nI_cl (n := 2 * hg) (by omega), nI_cl (n := 2 * hg + 1) (by omega), upd_s]
  rfl
theorem ti2f {N at_ at6 f : Int32} {hg : Nat} (hL : m_takeLetters mtext N at_ = some (lN 8435955, at6)) (hp : 8 ≤ hg) (hp2 : hg < 2 ^ 31) : m_takeItem mtext N at_ f rP rp rA ra (nI hg) rh = TL mtext N at6 at_ rP rp rA ra (nI hg) rh := by
  unfold m_takeItem
  rw [hL, bnd2_s, if_neg (show ¬ lg_cmp (lN 8435955) 542723566 = 0 from lgc1 (b := 542723566) (by decide) (by decide) (by decide)), if_neg (show ¬ lg_cmp (lN 8435955) 1643 = 0 from lgc1 (b := 1643) (by decide) (by decide) (by decide)), if_pos (show lg_cmp (lN 8435955) 8435955 = 0 from lgc0 rfl), if_pos (show (8 : Int32) ≤ nI hg from L_le 8 (by omega) (by omega)), bnd8_s]
  rfl
theorem tin {N at_ at6 f : Int32} {E : Nat} (hL : m_takeLetters mtext N at_ = some (lN E, at6)) (hE : E < 2 ^ 40) (h1 : E ≠ 542723566) (h2 : E ≠ 1643) (h3 : E ≠ 8435955) : m_takeItem mtext N at_ f rP rp rA ra rH rh = TL mtext N at6 at_ rP rp rA ra rH rh := by
  unfold m_takeItem
  rw [hL, bnd2_s, if_neg (show ¬ lg_cmp (lN E) 542723566 = 0 from lgc1 (b := 542723566) h1 hE (by decide)), if_neg (show ¬ lg_cmp (lN E) 1643 = 0 from lgc1 (b := 1643) h2 hE (by decide)), if_neg (show ¬ lg_cmp (lN E) 8435955 = 0 from lgc1 (b := 8435955) h3 hE (by decide)), bnd8_s]
  rfl
end PTOK5
