/-! PURE LAW: keep, back -/
set_option maxRecDepth 100000
theorem TX.congr {c : Core} {h : Hist} {lf : Nat → Nat} {many many' : Nat → Int32} {slip slip' : Nat → Nat → Int32} {became left what which whose place became' left' what' which' whose' place' : Nat → Int32} {deeds day won lost : Int32} (X : TX c h lf many slip became left what which whose place deeds day won lost) (e1 : ∀ p, p < 4 → many' p = many p ∧ ∀ i, i < 5 → slip' p i = slip p i) (e2 : ∀ a, a < 8 → became' a = became a ∧ left' a = left a) (e3 : ∀ k, k < 12 → what' k = what k ∧ which' k = which k ∧ whose' k = whose k ∧ place' k = place k) : TX c h lf many' slip' became' left' what' which' whose' place' deeds day won lost := by
  obtain ⟨⟨x1, x2, x3, x4, x5⟩, ⟨y1, y2, y3⟩, z⟩ := X
  refine ⟨⟨x1, x2, x3, fun a ha => by rw [(e2 a ha).1]; exact x4 a ha, fun p hp => ?_⟩, ⟨y1, y2, fun k hk => ?_⟩, fun a ha hr => by rw [(e2 a ha).2]; exact z a ha hr⟩
  · rw [(e1 p hp).1]
    have := (x5 p hp).2.1
    exact (x5 p hp).congr (fun i hi => (e1 p hp).2 i (by omega))
  · obtain ⟨q1, q2, q3, q4⟩ := e3 (h.length - 1 - k) (by omega)
    rw [q1, q2, q3, q4]; exact y3 k hk
theorem TM.congr {c : Core} {h : Hist} {lf : Nat → Nat} {w w' : Nat → Int32} (hl : h.length ≤ 12) (M : TM c h lf w) (e : ∀ j, j < 100 → w' j = w j) : TM c h lf w' :=
  ⟨M.1.congr (fun j hj => e j (by omega)), M.2.1.congr hl (fun j hj => e j (by omega)), fun a ha hr => by show w' (11 + a) = _; rw [e _ (by omega)]; exact M.2.2 a ha hr⟩
def u4 (f g : Nat → Int32) : Nat → Int32 := upd (upd (upd (upd f 0 (g 0)) 1 (g 1)) 2 (g 2)) 3 (g 3)
def v4 (f g : Nat → Nat → Int32) : Nat → Nat → Int32 := va_up (va_up (va_up (va_up f 0 (va_cpy (g 0) (f 0) 0 0 5)) 1 (va_cpy (g 1) (f 1) 0 0 5)) 2 (va_cpy (g 2) (f 2) 0 0 5)) 3 (va_cpy (g 3) (f 3) 0 0 5)
theorem x_tcopy_eq {many : Nat → Int32} {slip : Nat → Nat → Int32} {became left what which whose place : Nat → Int32} {bm : Nat → Int32} {bs : Nat → Nat → Int32} {bb bl b1 b2 b3 b4 : Nat → Int32} {d1 d2 d3 d4 : Int32} : x_tcopy many slip became left what which whose place bm bs bb bl b1 b2 b3 b4 d1 d2 d3 d4 = some (u4 many bm, v4 slip bs, va_cpy bb became 0 0 8, va_cpy bl left 0 0 8, va_cpy b1 what 0 0 12, va_cpy b2 which 0 0 12, va_cpy b3 whose 0 0 12, va_cpy b4 place 0 0 12, d1, d2, d3, d4) := by
  rfl
theorem cpy0 {f g : Nat → Int32} {n j : Nat} (h : j < n) : va_cpy f g 0 0 n j = f j := by
  rw [pk_cpy_in (by omega) (by omega), Nat.sub_zero, Nat.zero_add]
theorem TX.copy {c : Core} {h : Hist} {lf : Nat → Nat} {many bm : Nat → Int32} {slip bs : Nat → Nat → Int32} {became left what which whose place bb bl b1 b2 b3 b4 : Nat → Int32} {deeds day won lost : Int32} (X : TX c h lf bm bs bb bl b1 b2 b3 b4 deeds day won lost) : TX c h lf (u4 many bm) (v4 slip bs) (va_cpy bb became 0 0 8) (va_cpy bl left 0 0 8) (va_cpy b1 what 0 0 12) (va_cpy b2 which 0 0 12) (va_cpy b3 whose 0 0 12) (va_cpy b4 place 0 0 12) deeds day won lost := by
  refine X.congr (fun p hp => ?_) (fun a ha => ⟨cpy0 ha, cpy0 ha⟩) (fun k hk => ⟨cpy0 hk, cpy0 hk, cpy0 hk, cpy0 hk⟩)
  match p, hp with
  | 0, _ => exact ⟨rfl, fun i hi => cpy0 hi⟩
  | 1, _ => exact ⟨rfl, fun i hi => cpy0 hi⟩
  | 2, _ => exact ⟨rfl, fun i hi => cpy0 hi⟩
  | 3, _ => exact ⟨rfl, fun i hi => cpy0 hi⟩
theorem m_copy_eq {s d : Nat} (hs : s ≤ 200) (hd : d ≤ 200) (hsd : s + 100 ≤ d ∨ d + 100 ≤ s) (w : Nat → Int32) : m_copy w (nI s) (nI d) = some (fun j => if d ≤ j ∧ j < d + 100 then w (s + (j - d)) else w j) := by
  have key : ∀ (fu i : Nat) (v : Nat → Int32), i ≤ 100 → 100 - i < fu → m_copy_L2 (nI s) (nI d) fu (nI i) v = some (fun j => if d + i ≤ j ∧ j < d + 100 then v (s + (j - d)) else v j) := by
    intro fu
    induction fu with
    | zero => intro i v _ h; omega
    | succ fu ih =>
      intro i v hi hf
      rw [m_copy_L2_s]
      by_cases hc : 100 ≤ i
      · rw [if_pos (L_le 100 hc (by omega))]
        congr 1; funext j
        rw [if_neg (by omega)]
      · rw [if_neg (L_nle 100 (by omega) (by omega))]
        simp (disch := omega) only [nI_lit, nI_add, pk_mul, nI_cl, nI_leI, nI_ltI, nI_eq, nI_subN, ck_nI]
        rw [ih (i + 1) _ (by omega) (by omega)]
        congr 1; funext j
        by_cases e1 : d + (i + 1) ≤ j ∧ j < d + 100
        · rw [if_pos e1, if_pos (by omega), upd_n (by omega)]
        · rw [if_neg e1]
          by_cases e2 : j = d + i
          · subst e2; rw [upd_s, if_pos (by omega)]; congr 1; omega
          · rw [upd_n e2, if_neg (by omega)]
  unfold m_copy
  rw [show (0 : Int32) = nI 0 from rfl, key g_fuel 0 w (by omega) (by unfold g_fuel; omega), bnd_s]
  rfl
/-- an image: not kept, or a town of the book as it is -/
def IR (B : Bk) (kept mk : Int32) (many : Nat → Int32) (slip : Nat → Nat → Int32) (became left what which whose place : Nat → Int32) (deeds day won lost : Int32) (v : Nat → Int32) : Prop := (kept = 0 ∧ mk = 0) ∨ (kept = 1 ∧ mk = 1 ∧ ∃ c h lf, TI B c h lf ∧ TX c h lf many slip became left what which whose place deeds day won lost ∧ TM c h lf v)
theorem IR.congr {B : Bk} {kept mk : Int32} {many : Nat → Int32} {slip : Nat → Nat → Int32} {became left what which whose place : Nat → Int32} {deeds day won lost : Int32} {v v' : Nat → Int32} (H : IR B kept mk many slip became left what which whose place deeds day won lost v) (e : ∀ j, j < 100 → v' j = v j) : IR B kept mk many slip became left what which whose place deeds day won lost v' := by
  rcases H with H | ⟨h1, h2, c, h, lf, h3, h4, h5⟩
  · exact Or.inl H
  · exact Or.inr ⟨h1, h2, c, h, lf, h3, h4, h5.congr h4.2.1.2.1 e⟩
section PIMG
variable {B : Bk} {c : Core} {h : Hist} {lf : Nat → Nat} {w isKept : Nat → Int32}
variable {many : Nat → Int32} {slip : Nat → Nat → Int32} {became left what which whose place : Nat → Int32} {deeds day won lost : Int32}
variable {many0 : Nat → Int32} {slip0 : Nat → Nat → Int32} {became0 left0 what0 which0 whose0 place0 : Nat → Int32} {deeds0 day0 won0 lost0 kept0 : Int32}
variable {many1 : Nat → Int32} {slip1 : Nat → Nat → Int32} {became1 left1 what1 which1 whose1 place1 : Nat → Int32} {deeds1 day1 won1 lost1 kept1 : Int32}
theorem P_keep (T : TI B c h lf) (X : TX c h lf many slip became left what which whose place deeds day won lost) (M : TM c h lf w) (I0 : IR B kept0 (isKept 0) many0 slip0 became0 left0 what0 which0 whose0 place0 deeds0 day0 won0 lost0 (fun j => w (100 + j))) (I1 : IR B kept1 (isKept 1) many1 slip1 became1 left1 what1 which1 whose1 place1 deeds1 day1 won1 lost1 (fun j => w (200 + j))) (v : Int32) : ∃ r many0' slip0' became0' left0' what0' which0' whose0' place0' deeds0' day0' won0' lost0' kept0' many1' slip1' became1' left1' what1' which1' whose1' place1' deeds1' day1' won1' lost1' kept1' w' isKept', x_keep many slip became left what which whose place deeds day won lost many0 slip0 became0 left0 what0 which0 whose0 place0 deeds0 day0 won0 lost0 kept0 many1 slip1 became1 left1 what1 which1 whose1 place1 deeds1 day1 won1 lost1 kept1 v = some (r, many0', slip0', became0', left0', what0', which0', whose0', place0', deeds0', day0', won0', lost0', kept0', many1', slip1', became1', left1', what1', which1', whose1', place1', deeds1', day1', won1', lost1', kept1') ∧ m_keep w isKept v = some (r, w', isKept') ∧ TM c h lf w' ∧ IR B kept0' (isKept' 0) many0' slip0' became0' left0' what0' which0' whose0' place0' deeds0' day0' won0' lost0' (fun j => w' (100 + j)) ∧ IR B kept1' (isKept' 1) many1' slip1' became1' left1' what1' which1' whose1' place1' deeds1' day1' won1' lost1' (fun j => w' (200 + j)) := by
  unfold x_keep m_keep
  rw [show m_in v.toInt64 0 1 = x_in v 0 1 from m_in_eq v 0 1]
  have h1 : x_in v 0 1 = x_in v 0 (nI 1) := rfl
  rcases x_in0 (v := v) 1 (by omega) with ⟨j, hj, rfl, z⟩ | ⟨hno, z⟩
  rotate_left
  · rw [h1, z, bnd_s, bnd_s, if_pos rfl, if_pos rfl]
    exact ⟨_, _, _, _, _, _, _, _, _, _, _, _, _, _, _, _, _, _, _, _, _, _, _, _, _, _, _, _, _, rfl, rfl, M, I0, I1⟩
  rw [h1, z, bnd_s, bnd_s, if_neg n10, if_neg n10]
  have hday : w 0 = day := M.1.1.trans X.1.1.symm
  match j, hj with
  | 0, _ =>
    rw [if_pos (show nI 0 = (0 : Int32) from rfl), x_tcopy_eq, show (100 * (1 + nI 0) : Int32) = nI 100 from rfl, show (0 : Int32) = nI 0 from rfl, m_copy_eq (by omega) (by omega) (by omega), bnd_s]
    simp (disch := omega) only [nI_cl, ck_nI]
    rw [if_neg (by omega), hday]
    refine ⟨_, _, _, _, _, _, _, _, _, _, _, _, _, _, _, _, _, _, _, _, _, _, _, _, _, _, _, _, _, rfl, rfl, M.congr X.2.1.2.1 (fun j hj => if_neg (by omega)), Or.inr ⟨rfl, upd_s, c, h, lf, T, X.copy, M.congr X.2.1.2.1 (fun j hj => ?_)⟩, ?_⟩
    · rw [if_pos (by omega)]; congr 1; omega
    · rw [upd_n (by decide)]
      exact I1.congr (fun j hj => if_neg (by omega))
  | 1, _ =>
    rw [if_neg (show ¬ nI 1 = (0 : Int32) by decide), if_pos (show nI 1 = (1 : Int32) from rfl), x_tcopy_eq, show (100 * (1 + nI 1) : Int32) = nI 200 from rfl, show (0 : Int32) = nI 0 from rfl, m_copy_eq (by omega) (by omega) (by omega), bnd_s]
    simp (disch := omega) only [nI_cl, ck_nI]
    rw [if_neg (by omega), hday]
    refine ⟨_, _, _, _, _, _, _, _, _, _, _, _, _, _, _, _, _, _, _, _, _, _, _, _, _, _, _, _, _, rfl, rfl, M.congr X.2.1.2.1 (fun j hj => if_neg (by omega)), ?_, Or.inr ⟨rfl, upd_s, c, h, lf, T, X.copy, M.congr X.2.1.2.1 (fun j hj => ?_)⟩⟩
    · rw [upd_n (by decide)]
      exact I0.congr (fun j hj => if_neg (by omega))
    · rw [if_pos (by omega)]; congr 1; omega
theorem P_back (T : TI B c h lf) (X : TX c h lf many slip became left what which whose place deeds day won lost) (M : TM c h lf w) (I0 : IR B kept0 (isKept 0) many0 slip0 became0 left0 what0 which0 whose0 place0 deeds0 day0 won0 lost0 (fun j => w (100 + j))) (I1 : IR B kept1 (isKept 1) many1 slip1 became1 left1 what1 which1 whose1 place1 deeds1 day1 won1 lost1 (fun j => w (200 + j))) (v : Int32) : ∃ r many' slip' became' left' what' which' whose' place' deeds' day' won' lost' w' c' h' lf', x_back many slip became left what which whose place deeds day won lost many0 slip0 became0 left0 what0 which0 whose0 place0 deeds0 day0 won0 lost0 kept0 many1 slip1 became1 left1 what1 which1 whose1 place1 deeds1 day1 won1 lost1 kept1 v = some (r, many', slip', became', left', what', which', whose', place', deeds', day', won', lost') ∧ m_back w isKept v = some (r, w') ∧ TI B c' h' lf' ∧ TX c' h' lf' many' slip' became' left' what' which' whose' place' deeds' day' won' lost' ∧ TM c' h' lf' w' ∧ ∀ j, 100 ≤ j → w' j = w j := by
  unfold x_back m_back
  rw [show m_in v.toInt64 0 1 = x_in v 0 1 from m_in_eq v 0 1]
  have h1 : x_in v 0 1 = x_in v 0 (nI 1) := rfl
  rcases x_in0 (v := v) 1 (by omega) with ⟨j, hj, rfl, z⟩ | ⟨hno, z⟩
  rotate_left
  · rw [h1, z, bnd_s, bnd_s, if_pos rfl, if_pos rfl]
    exact ⟨_, _, _, _, _, _, _, _, _, _, _, _, _, _, c, h, lf, rfl, rfl, T, X, M, fun _ _ => rfl⟩
  rw [h1, z, bnd_s, bnd_s, if_neg n10, if_neg n10]
  match j, hj with
  | 0, _ =>
    rw [if_pos (show nI 0 = (0 : Int32) from rfl)]
    simp (disch := omega) only [nI_cl, ck_nI]
    rcases I0 with ⟨k1, k2⟩ | ⟨k1, k2, c', h', lf', T', X', M'⟩
    · rw [if_pos k1, if_pos k2]
      exact ⟨_, _, _, _, _, _, _, _, _, _, _, _, _, _, c, h, lf, rfl, rfl, T, X, M, fun _ _ => rfl⟩
    · have hday : w 100 = day0 := M'.1.1.trans X'.1.1.symm
      rw [if_neg (by rw [k1]; decide), if_neg (by rw [k2]; decide), x_tcopy_eq, show (100 * (1 + nI 0) : Int32) = nI 100 from rfl, show (0 : Int32) = nI 0 from rfl, m_copy_eq (by omega) (by omega) (by omega), bnd_s]
      simp (disch := omega) only [nI_cl, ck_nI]
      rw [if_pos (by omega), show 100 + (0 - 0) = 100 from rfl, hday]
      exact ⟨_, _, _, _, _, _, _, _, _, _, _, _, _, _, c', h', lf', rfl, rfl, T', X'.copy, M'.congr X'.2.1.2.1 (fun j hj => by rw [if_pos (by omega)]; congr 1), fun j hj => if_neg (by omega)⟩
  | 1, _ =>
    rw [if_neg (show ¬ nI 1 = (0 : Int32) by decide), if_pos (show nI 1 = (1 : Int32) from rfl)]
    simp (disch := omega) only [nI_cl, ck_nI]
    rcases I1 with ⟨k1, k2⟩ | ⟨k1, k2, c', h', lf', T', X', M'⟩
    · rw [if_pos k1, if_pos k2]
      exact ⟨_, _, _, _, _, _, _, _, _, _, _, _, _, _, c, h, lf, rfl, rfl, T, X, M, fun _ _ => rfl⟩
    · have hday : w 200 = day1 := M'.1.1.trans X'.1.1.symm
      rw [if_neg (by rw [k1]; decide), if_neg (by rw [k2]; decide), x_tcopy_eq, show (100 * (1 + nI 1) : Int32) = nI 200 from rfl, show (0 : Int32) = nI 0 from rfl, m_copy_eq (by omega) (by omega) (by omega), bnd_s]
      simp (disch := omega) only [nI_cl, ck_nI]
      rw [if_pos (by omega), show 200 + (0 - 0) = 200 from rfl, hday]
      exact ⟨_, _, _, _, _, _, _, _, _, _, _, _, _, _, c', h', lf', rfl, rfl, T', X'.copy, M'.congr X'.2.1.2.1 (fun j hj => by rw [if_pos (by omega)]; congr 1), fun j hj => if_neg (by omega)⟩
end PIMG
