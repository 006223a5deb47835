/-! PURE LAW: the text 8: the town read -/
set_option maxRecDepth 100000
section PTOK8
theorem cp72 {pe : Nat} (hp : pe ≤ 4) (rp : Nat → Int32) : ∀ (m i fu : Nat) (r w p : Nat → Int32), i + m = pe → m < fu → (∀ j, j < i → r j = rp (3 * j) ∧ w j = rp (3 * j + 1) ∧ p j = rp (3 * j + 2)) → ∃ r' w' p', m_town_L72 (nI pe) rp fu (nI i) r w p = some (r', w', p') ∧ ∀ j, j < pe → r' j = rp (3 * j) ∧ w' j = rp (3 * j + 1) ∧ p' j = rp (3 * j + 2) := by
  intro m
  induction m with
  | zero =>
    intro i fu r w p hi hf h
    obtain ⟨fu, rfl⟩ : ∃ z, fu = z + 1 := ⟨fu - 1, by omega⟩
    rw [m_town_L72_s, if_pos (N_le (by omega) (by omega))]
    exact ⟨r, w, p, rfl, fun j hj => h j (by omega)⟩
  | succ m ih =>
    intro i fu r w p hi hf h
    obtain ⟨fu, rfl⟩ : ∃ z, fu = z + 1 := ⟨fu - 1, by omega⟩
    rw [m_town_L72_s, if_neg (N_nle (by omega) (by omega)), show (3 * nI i : Int32) = nI (3 * i) from pk_mul 3 i, show (nI (3 * i) + 1 : Int32) = nI (3 * i + 1) from nI_1 _, show (nI (3 * i) + 2 : Int32) = nI (3 * i + 2) from nI_add _ _, show (nI i + 1 : Int32) = nI (i + 1) from nI_1 _, ck_nI (by omega) (by omega), ck_nI (by omega) (by omega), ck_nI (by omega) (by omega), ck_nI (by omega) (by omega), ck_nI (by omega) (by omega), ck_nI (by omega) (by omega), nI_cl (n := i) (by omega), nI_cl (by omega), nI_cl (by omega), nI_cl (by omega)]
    refine ih (i + 1) fu _ _ _ (by omega) (by omega) (fun j hj => ?_)
    by_cases e : j = i
    · subst e; rw [upd_s, upd_s, upd_s]; exact ⟨rfl, rfl, rfl⟩
    · rw [upd_n e, upd_n e, upd_n e]; exact h j (by omega)
theorem cp142 {ak : Nat} (hp : ak ≤ 8) (ra : Nat → Int32) : ∀ (m i fu : Nat) (r : Nat → Int32), i + m = 5 * ak → m < fu → (∀ j, j < i → r j = ra j) → ∃ r', m_town_L142 (nI ak) ra fu (nI i) r = some r' ∧ ∀ j, j < 5 * ak → r' j = ra j := by
  intro m
  induction m with
  | zero =>
    intro i fu r hi hf h
    obtain ⟨fu, rfl⟩ : ∃ z, fu = z + 1 := ⟨fu - 1, by omega⟩
    rw [m_town_L142_s, show (5 * nI ak : Int32) = nI (5 * ak) from pk_mul 5 ak, if_pos (N_le (by omega) (by omega))]
    exact ⟨r, rfl, fun j hj => h j (by omega)⟩
  | succ m ih =>
    intro i fu r hi hf h
    obtain ⟨fu, rfl⟩ : ∃ z, fu = z + 1 := ⟨fu - 1, by omega⟩
    rw [m_town_L142_s, show (5 * nI ak : Int32) = nI (5 * ak) from pk_mul 5 ak, if_neg (N_nle (by omega) (by omega)), show (nI i + 1 : Int32) = nI (i + 1) from nI_1 _, ck_nI (by omega) (by omega), ck_nI (by omega) (by omega), nI_cl (n := i) (by omega)]
    refine ih (i + 1) fu _ (by omega) (by omega) (fun j hj => ?_)
    by_cases e : j = i
    · subst e; rw [upd_s]
    · rw [upd_n e]; exact h j (by omega)
theorem cp180 {hg : Nat} (hp : hg ≤ 8) (rh : Nat → Int32) : ∀ (m i fu : Nat) (r : Nat → Int32), i + m = 2 * hg → m < fu → (∀ j, j < i → r j = rh j) → ∃ r', m_town_L180 (nI hg) rh fu (nI i) r = some r' ∧ ∀ j, j < 2 * hg → r' j = rh j := by
  intro m
  induction m with
  | zero =>
    intro i fu r hi hf h
    obtain ⟨fu, rfl⟩ : ∃ z, fu = z + 1 := ⟨fu - 1, by omega⟩
    rw [m_town_L180_s, show (2 * nI hg : Int32) = nI (2 * hg) from pk_mul 2 hg, if_pos (N_le (by omega) (by omega))]
    exact ⟨r, rfl, fun j hj => h j (by omega)⟩
  | succ m ih =>
    intro i fu r hi hf h
    obtain ⟨fu, rfl⟩ : ∃ z, fu = z + 1 := ⟨fu - 1, by omega⟩
    rw [m_town_L180_s, show (2 * nI hg : Int32) = nI (2 * hg) from pk_mul 2 hg, if_neg (N_nle (by omega) (by omega)), show (nI i + 1 : Int32) = nI (i + 1) from nI_1 _, ck_nI (by omega) (by omega), ck_nI (by omega) (by omega), nI_cl (n := i) (by omega)]
    refine ih (i + 1) fu _ (by omega) (by omega) (fun j hj => ?_)
    by_cases e : j = i
    · subst e; rw [upd_s]
    · rw [upd_n e]; exact h j (by omega)
theorem z210 : ∀ (m i fu : Nat) (w : Nat → Int32), i + m = 100 → m < fu → (∀ j, j < i → w j = 0) → ∃ w', m_town_L210 fu (nI i) w = some w' ∧ (∀ j, j < 100 → w' j = 0) ∧ ∀ j, 100 ≤ j → w' j = w j := by
  intro m
  induction m with
  | zero =>
    intro i fu r hi hf h
    obtain ⟨fu, rfl⟩ : ∃ z, fu = z + 1 := ⟨fu - 1, by omega⟩
    rw [m_town_L210_s, if_pos (L_le 100 (by omega) (by omega))]
    exact ⟨r, rfl, fun j hj => h j (by omega), fun _ _ => rfl⟩
  | succ m ih =>
    intro i fu r hi hf h
    obtain ⟨fu, rfl⟩ : ∃ z, fu = z + 1 := ⟨fu - 1, by omega⟩
    rw [m_town_L210_s, if_neg (L_nle 100 (by omega) (by omega)), show (nI i + 1 : Int32) = nI (i + 1) from nI_1 _, ck_nI (by omega) (by omega), nI_cl (n := i) (by omega)]
    obtain ⟨w', h1, h2, h3⟩ := ih (i + 1) fu (upd r i 0) (by omega) (by omega) (fun j hj => by
      by_cases e : j = i
      · subst e; rw [upd_s]
      · rw [upd_n e]; exact h j (by omega))
    exact ⟨w', h1, h2, fun j hj => by rw [h3 j hj, upd_n (by omega)]⟩
def B0 : Bk := (0, 0, fun _ => 0, fun _ => 0, fun _ => 0, fun _ => 0, fun _ => 0, fun _ => 0, fun _ => 0, fun _ => 0, [])
theorem B0_ok : B0.ok := ⟨by decide, by decide, fun p h => absurd h (Nat.not_lt_zero _), fun p h => absurd h (Nat.not_lt_zero _), by decide, fun q h => absurd h List.not_mem_nil⟩
theorem RBX0 {room work price whom bday units worth due under : Nat → Int32} : RBX B0 room work price whom bday units worth due under 0 0 0 := ⟨rfl, rfl, rfl, fun p h => absurd h (Nat.not_lt_zero _), fun p h => absurd h (Nat.not_lt_zero _), fun p h => absurd h (Nat.not_lt_zero _)⟩
theorem RBM0 {room work price asked hung : Nat → Int32} : RBM B0 0 room work price 0 asked 0 hung := ⟨rfl, rfl, rfl, fun p h => absurd h (Nat.not_lt_zero _), fun p h => absurd h (Nat.not_lt_zero _), fun p h => absurd h (Nat.not_lt_zero _)⟩
def C0c : Core := (0, 0, 0, fun _ => 0, fun _ => [])
/-- a town nobody has done anything in -/
theorem town0 (B : Bk) : TI B C0c [] (fun _ => 0) := by
  refine ⟨⟨Nat.zero_le _, fun a => Nat.zero_le _, fun p => List.nodup_nil, fun p _ => Nat.zero_le _, fun p _ => rfl, fun p a h => absurd h List.not_mem_nil, fun a _ h => absurd h (by show ¬ (0 : Nat) = 1; decide), fun p q a h => absurd h List.not_mem_nil⟩, trivial, fun a ha hr => ?_⟩
  rcases hr with z | ⟨q, z, _⟩
  · exact absurd z (by show ¬ (0 : Nat) = 1; decide)
  · exact absurd z List.not_mem_nil
theorem town0_X {many : Nat → Int32} {slip : Nat → Nat → Int32} {became left what which whose place : Nat → Int32} (h1 : ∀ p, p < 4 → many p = 0) (h2 : ∀ a, a < 8 → became a = 0) : TX C0c [] (fun _ => 0) many slip became left what which whose place 0 0 0 0 := by
  refine ⟨⟨rfl, rfl, rfl, fun a ha => h2 a ha, fun p hp => ?_⟩, ⟨rfl, Nat.zero_le _, fun k hk => absurd hk (Nat.not_lt_zero _)⟩, fun a ha hr => ?_⟩
  · exact ⟨by rw [h1 p hp]; rfl, Nat.zero_le _, fun k hk => absurd hk (Nat.not_lt_zero _), fun a h => absurd h List.not_mem_nil⟩
  · rcases hr with z | ⟨q, z, _⟩
    · exact absurd z (by show ¬ (0 : Nat) = 1; decide)
    · exact absurd z List.not_mem_nil
theorem town0_M {w : Nat → Int32} (h : ∀ j, j < 100 → w j = 0) : TM C0c [] (fun _ => 0) w := by
  refine ⟨⟨h 0 (by omega), h 1 (by omega), h 2 (by omega), fun a ha => h _ (by omega), fun p hp => ?_⟩, ⟨h 43 (by omega), fun k hk => absurd hk (Nat.not_lt_zero _)⟩, fun a ha hr => ?_⟩
  · exact ⟨by rw [h _ (by omega)]; rfl, Nat.zero_le _, fun k hk => absurd hk (Nat.not_lt_zero _), fun a h => absurd h List.not_mem_nil⟩
  · rcases hr with z | ⟨q, z, _⟩
    · exact absurd z (by show ¬ (0 : Nat) = 1; decide)
    · exact absurd z List.not_mem_nil
theorem bndE17_l {ε β α0 α1 α2 α3 α4 α5 α6 α7 α8 α9 α10 α11 α12 α13 α14 α15 α16 : Type} (x : ε) (f : α0 → α1 → α2 → α3 → α4 → α5 → α6 → α7 → α8 → α9 → α10 → α11 → α12 → α13 → α14 → α15 → α16 → Option (ε ⊕ β)) : bndE17 (some (.inl x)) f = some (.inl x) := rfl
theorem P_town {text mtext : Nat → Int32} {typed texted : Int32} (R : RTx text typed mtext texted) (w isKept : Nat → Int32) (mpe : Int32) (mroom mwork mprice : Nat → Int32) (mak : Int32) (asked : Nat → Int32) (mhg : Int32) (hung rp ra rh : Nat → Int32) :
    (∃ (st : Nat) (at_ rP1 : Int32) (rp1 : Nat → Int32) (rA1 : Int32) (ra1 : Nat → Int32) (rH1 : Int32) (rh1 : Nat → Int32), r_read text typed 0 (fun _ => 0) (fun _ => 0) (fun _ => 0) (fun _ => 0) (fun _ => 0) (fun _ => 0) (fun _ => 0) (fun _ => 0) (fun _ => 0) 0 0 0 0 = some (.inl (nI st)) ∧ m_town w isKept mpe mroom mwork mprice mak asked mhg hung mtext texted rp ra rh = some ((-10) - nI st, w, isKept, mpe, mroom, mwork, mprice, mak, asked, mhg, hung, texted, at_, nI st, rP1, rp1, rA1, ra1, rH1, rh1))
    ∨ (∃ (e s so v : Int32) (B : Bk) (room1 work1 price1 whom1 bday1 units1 worth1 due1 under1 : Nat → Int32) (people1 askings1 hangs1 : Int32) (w' room' work' price' asked' hung' : Nat → Int32) (at_ rP1 : Int32) (rp1 : Nat → Int32) (rA1 : Int32) (ra1 : Nat → Int32) (rH1 : Int32) (rh1 : Nat → Int32), r_read text typed 0 (fun _ => 0) (fun _ => 0) (fun _ => 0) (fun _ => 0) (fun _ => 0) (fun _ => 0) (fun _ => 0) (fun _ => 0) (fun _ => 0) 0 0 0 0 = some (.inr (e, s, so, v, room1, work1, price1, whom1, bday1, units1, worth1, due1, under1, people1, askings1, hangs1, nI (cntB B))) ∧ m_town w isKept mpe mroom mwork mprice mak asked mhg hung mtext texted rp ra rh = some (nI (cntB B), w', upd (upd isKept 0 0) 1 0, rP1, room', work', price', rA1, asked', rH1, hung', 0, at_, -9, rP1, rp1, rA1, ra1, rH1, rh1) ∧ B.ok ∧ RBX B room1 work1 price1 whom1 bday1 units1 worth1 due1 under1 people1 askings1 hangs1 ∧ RBM B rP1 room' work' price' rA1 asked' rH1 hung' ∧ (∀ j, j < 100 → w' j = 0) ∧ ∀ j, 100 ≤ j → w' j = w j) := by
  obtain ⟨n, b, rfl, rfl, X⟩ := R
  have X : Tx n b text mtext := X
  have hn := X.1
  obtain ⟨s, e, so, v, T⟩ := tok X (p := 0) (by omega)
  have H0 : RD B0 (fun _ => 0) (fun _ => 0) (fun _ => 0) (fun _ => 0) (fun _ => 0) (fun _ => 0) (fun _ => 0) (fun _ => 0) (fun _ => 0) 0 0 0 0 rp 0 ra 0 rh := ⟨B0_ok, RBX0, fun _ _ _ => rfl, RBM0⟩
  have hr := rounds X 500 0 s e so v 1000 1000 0 B0 (fun _ => 0) (fun _ => 0) (fun _ => 0) (fun _ => 0) (fun _ => 0) (fun _ => 0) (fun _ => 0) (fun _ => 0) (fun _ => 0) 0 0 0 0 rp 0 ra 0 rh (by omega) (by omega) (by omega) (by omega) T H0 rfl
  unfold r_read m_town
  rw [show r_next text (nI n) 0 = _ from T.1, bnd4_s]
  rcases hr with ⟨s1, e1, v1, B, room1, work1, price1, whom1, bday1, units1, worth1, due1, under1, people1, askings1, hangs1, rP1, rp1, rA1, ra1, rH1, rh1, H, hx, hm⟩ | ⟨st, hst, hx, a, rP1, rp1, rA1, ra1, rH1, rh1, hm⟩
  · refine Or.inr ?_
    rw [show r_read_L4 text (nI n) g_fuel (nI e) (nI s) (nI so) (nI v) (fun _ => 0) (fun _ => 0) (fun _ => 0) (fun _ => 0) (fun _ => 0) (fun _ => 0) (fun _ => 0) (fun _ => 0) (fun _ => 0) 0 0 0 0 = _ from hx, show m_town_L26 mtext (nI n) g_fuel 0 (-9) 0 rp 0 ra 0 rh = _ from hm, bnd8_s, if_pos m9_lt]
    obtain ⟨hB, hX, _, hM⟩ := H
    have hb1 := hB.1
    have hb2 := hB.2.1
    have hb3 := hB.2.2.2.2.1
    obtain ⟨m1, m2, m3, m4, m5, m6⟩ := hM
    subst m1 m2 m3
    obtain ⟨r', w', p', q1, q2⟩ := cp72 hb1 rp1 B.pe 0 1000 mroom mwork mprice (by omega) (by omega) (fun j hj => absurd hj (Nat.not_lt_zero _))
    obtain ⟨a', q3, q4⟩ := cp142 hb2 ra1 (5 * B.ak) 0 1000 asked (by omega) (by omega) (fun j hj => absurd hj (Nat.not_lt_zero _))
    obtain ⟨h', q5, q6⟩ := cp180 hb3 rh1 (2 * B.hg.length) 0 1000 hung (by omega) (by omega) (fun j hj => absurd hj (Nat.not_lt_zero _))
    obtain ⟨w2, q7, q8, q9⟩ := z210 100 0 1000 w (by omega) (by omega) (fun j hj => absurd hj (Nat.not_lt_zero _))
    rw [show m_town_L72 (nI B.pe) rp1 g_fuel 0 mroom mwork mprice = _ from q1, bnd3_s, show m_town_L142 (nI B.ak) ra1 g_fuel 0 asked = _ from q3, bnd_s, show m_town_L180 (nI B.hg.length) rh1 g_fuel 0 hung = _ from q5, bnd_s, show m_town_L210 g_fuel 0 w = _ from q7, bnd_s, nI_add, nI_add]
    refine ⟨_, _, _, _, B, _, _, _, _, _, _, _, _, _, _, _, _, w2, r', w', p', a', h', _, _, _, _, _, _, _, rfl, rfl, hB, hX, ⟨rfl, rfl, rfl, fun p hp => ?_, fun a ha => ?_, fun k hk => ?_⟩, q8, q9⟩
    · obtain ⟨z1, z2, z3⟩ := q2 p hp
      rw [z1, z2, z3]; exact m4 p hp
    · rw [q4 _ (by omega), q4 _ (by omega), q4 _ (by omega), q4 _ (by omega), q4 _ (by omega)]; exact m5 a ha
    · rw [q6 _ (by omega), q6 _ (by omega)]; exact m6 k hk
  · refine Or.inl ?_
    rw [show r_read_L4 text (nI n) g_fuel (nI e) (nI s) (nI so) (nI v) (fun _ => 0) (fun _ => 0) (fun _ => 0) (fun _ => 0) (fun _ => 0) (fun _ => 0) (fun _ => 0) (fun _ => 0) (fun _ => 0) 0 0 0 0 = _ from hx, show m_town_L26 mtext (nI n) g_fuel 0 (-9) 0 rp 0 ra 0 rh = _ from hm, bnd8_s, if_neg (nI_nlt0 hst), bndE17_l]
    exact ⟨st, _, _, _, _, _, _, _, rfl, rfl⟩
end PTOK8
