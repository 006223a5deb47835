/-! PURE LAW: the text 4: numbers, the items -/
set_option maxRecDepth 100000
section PTOK4
variable {n : Nat} {b : Nat → Nat} {text mtext : Nat → Int32}
theorem bndE5_r {ε α0 α1 α2 α3 α4 β : Type} (a0 : α0) (a1 : α1) (a2 : α2) (a3 : α3) (a4 : α4) (f : α0 → α1 → α2 → α3 → α4 → Option (ε ⊕ β)) : bndE5 (some (.inr (a0, a1, a2, a3, a4))) f = f a0 a1 a2 a3 a4 := rfl
theorem bndE5_l {ε α0 α1 α2 α3 α4 β : Type} (x : ε) (f : α0 → α1 → α2 → α3 → α4 → Option (ε ⊕ β)) : bndE5 (some (.inl x)) f = some (.inl x) := rfl
theorem m1_nI {v : Nat} (h : v < 2 ^ 31) : nI v ≠ -1 := fun z => m1_ne h z.symm
/-- a number that must come -/
theorem num_step (X : Tx n b text mtext) {p s e so v : Nat} (T : TK n b text mtext p s e so v) {lo hi : Int32} (hh : hi < 100) :
    (∃ s2 e2 so2 v2, TK n b text mtext e s2 e2 so2 v2 ∧ so = 3 ∧ v ≤ 99 ∧ p < e ∧ x_in (nI v) lo hi = some 1 ∧ r_number text (nI n) (nI e) (nI s) (nI so) (nI v) lo hi = some (.inr (nI v, nI e2, nI s2, nI so2, nI v2)) ∧ m_takeNumber mtext (nI n) (nI p) (-9) lo hi (-1) = some (nI v, nI e, -9))
    ∨ (s < 2 ^ 31 ∧ r_number text (nI n) (nI e) (nI s) (nI so) (nI v) lo hi = some (.inl (nI s)) ∧ ∃ v' e', m_takeNumber mtext (nI n) (nI p) (-9) lo hi (-1) = some (nI v', nI e', nI s)) := by
  have hn := X.1
  obtain ⟨t1, t2, t3, t4, t5, t6, t7, t8, t9, t10, t11, t12, t13⟩ := T
  obtain ⟨v', e', m1, m2, m3⟩ := t13 lo hi (-1) hh
  unfold r_number
  by_cases h3 : so = 3
  · have hv := t12 h3
    obtain ⟨rfl, rfl⟩ := m3 h3
    rw [if_pos (L_eq 3 h3)]
    rcases in01 (nI v') lo hi with z | z
    · rw [z, bnd_s, if_pos rfl, bnd_s]
      rw [if_neg (by rw [z]; simp)] at m1
      exact Or.inr ⟨by omega, rfl, _, _, m1⟩
    · rw [z, bnd_s, if_neg n10, bnd_s]
      rw [if_pos ⟨h3, z, m1_nI (by omega)⟩] at m1
      obtain ⟨s2, e2, so2, v2, T2⟩ := tok X (p := e') t4
      refine Or.inl ⟨s2, e2, so2, v2, T2, h3, hv, by have := t8 (by omega); omega, rfl, ?_, m1⟩
      unfold r_due
      rw [if_neg n10, T2.1, bnd4_s]; rfl
  · rw [if_neg (L_ne 3 h3 (by omega) (by omega)), bnd_s]
    rw [if_neg (fun y => h3 y.1)] at m1
    exact Or.inr ⟨by omega, rfl, _, _, m1⟩
theorem stk {s : Nat} (h : s < 2 ^ 31) {N at_ lo hi x3 : Int32} : m_takeNumber mtext N at_ (nI s) lo hi x3 = some (0, at_, nI s) := by
  unfold m_takeNumber
  rw [if_pos (nI_0le h), bnd2_s, if_neg (nI_nlt0 h)]
/-! ### the book under way -/
def Bk.addP (B : Bk) (r w p : Nat) : Bk := (B.pe + 1, B.ak, va_up B.rm B.pe r, va_up B.wk B.pe w, va_up B.pr B.pe p, B.wh, B.bd, B.un, B.wo, B.du, B.hg)
def Bk.addA (B : Bk) (wh bd un wo du : Nat) : Bk := (B.pe, B.ak + 1, B.rm, B.wk, B.pr, va_up B.wh B.ak wh, va_up B.bd B.ak bd, va_up B.un B.ak un, va_up B.wo B.ak wo, va_up B.du B.ak du, B.hg)
def Bk.addH (B : Bk) (q : Nat × Nat) : Bk := (B.pe, B.ak, B.rm, B.wk, B.pr, B.wh, B.bd, B.un, B.wo, B.du, B.hg ++ [q])
def RD (B : Bk) (room work price whom bday units worth due under : Nat → Int32) (people askings hangs rP : Int32) (rp : Nat → Int32) (rA : Int32) (ra : Nat → Int32) (rH : Int32) (rh : Nat → Int32) : Prop :=
  B.ok ∧ RBX B room work price whom bday units worth due under people askings hangs ∧ (∀ a, B.ak ≤ a → a < 8 → under a = 0) ∧ RBM B rP (fun p => rp (3 * p)) (fun p => rp (3 * p + 1)) (fun p => rp (3 * p + 2)) rA ra rH rh
variable {B : Bk} {room work price whom bday units worth due under : Nat → Int32} {people askings hangs rP : Int32} {rp : Nat → Int32} {rA : Int32} {ra : Nat → Int32} {rH : Int32} {rh : Nat → Int32}
theorem RD.addP (H : RD B room work price whom bday units worth due under people askings hangs rP rp rA ra rH rh) {r w p : Nat} (h4 : B.pe < 4) (hr : 1 ≤ r ∧ r ≤ 5) (hw : 1 ≤ w ∧ w ≤ 3) (hp : p ≤ 9) :
    RD (B.addP r w p) (upd room B.pe (nI r)) (upd work B.pe (nI w)) (upd price B.pe (nI p)) whom bday units worth due under (nI (B.pe + 1)) askings hangs (nI (B.pe + 1)) (upd (upd (upd rp (3 * B.pe) (nI r)) (3 * B.pe + 1) (nI w)) (3 * B.pe + 2) (nI p)) rA ra rH rh := by
  obtain ⟨⟨o1, o2, o3, o4, o5, o6⟩, ⟨x1, x2, x3, x4, x5, x6⟩, hu, ⟨m1, m2, m3, m4, m5, m6⟩⟩ := H
  refine ⟨⟨?_, o2, ?_, ?_, o5, o6⟩, ⟨rfl, x2, x3, ?_, x5, x6⟩, hu, ⟨rfl, m2, m3, ?_, m5, m6⟩⟩
  · show B.pe + 1 ≤ 4; omega
  · intro q hq
    have hq : q < B.pe + 1 := hq
    by_cases e : q = B.pe
    · subst e
      show 1 ≤ va_up B.rm B.pe r B.pe ∧ va_up B.rm B.pe r B.pe ≤ 5 ∧ 1 ≤ va_up B.wk B.pe w B.pe ∧ va_up B.wk B.pe w B.pe ≤ 3 ∧ va_up B.pr B.pe p B.pe ≤ 9
      rw [va_up_self, va_up_self, va_up_self]; exact ⟨hr.1, hr.2, hw.1, hw.2, hp⟩
    · show 1 ≤ va_up B.rm B.pe r q ∧ va_up B.rm B.pe r q ≤ 5 ∧ 1 ≤ va_up B.wk B.pe w q ∧ va_up B.wk B.pe w q ≤ 3 ∧ va_up B.pr B.pe p q ≤ 9
      rw [va_up_ne _ _ e, va_up_ne _ _ e, va_up_ne _ _ e]; exact o3 q (by omega)
  · intro a ha
    have := o4 a ha
    exact ⟨Nat.lt_succ_of_lt this.1, this.2⟩
  · intro q hq
    have hq : q < B.pe + 1 := hq
    by_cases e : q = B.pe
    · subst e
      show upd room B.pe (nI r) B.pe = nI (va_up B.rm B.pe r B.pe) ∧ upd work B.pe (nI w) B.pe = nI (va_up B.wk B.pe w B.pe) ∧ upd price B.pe (nI p) B.pe = nI (va_up B.pr B.pe p B.pe)
      rw [va_up_self, va_up_self, va_up_self, upd_s, upd_s, upd_s]; exact ⟨rfl, rfl, rfl⟩
    · show upd room B.pe (nI r) q = nI (va_up B.rm B.pe r q) ∧ upd work B.pe (nI w) q = nI (va_up B.wk B.pe w q) ∧ upd price B.pe (nI p) q = nI (va_up B.pr B.pe p q)
      rw [va_up_ne _ _ e, va_up_ne _ _ e, va_up_ne _ _ e, upd_n e, upd_n e, upd_n e]; exact x4 q (by omega)
  · intro q hq
    have hq : q < B.pe + 1 := hq
    by_cases e : q = B.pe
    · subst e
      show upd (upd (upd rp (3 * B.pe) (nI r)) (3 * B.pe + 1) (nI w)) (3 * B.pe + 2) (nI p) (3 * B.pe) = nI (va_up B.rm B.pe r B.pe) ∧ upd (upd (upd rp (3 * B.pe) (nI r)) (3 * B.pe + 1) (nI w)) (3 * B.pe + 2) (nI p) (3 * B.pe + 1) = nI (va_up B.wk B.pe w B.pe) ∧ upd (upd (upd rp (3 * B.pe) (nI r)) (3 * B.pe + 1) (nI w)) (3 * B.pe + 2) (nI p) (3 * B.pe + 2) = nI (va_up B.pr B.pe p B.pe)
      rw [va_up_self, va_up_self, va_up_self, upd_s, upd_n (by omega), upd_n (by omega), upd_s, upd_n (by omega), upd_s]; exact ⟨rfl, rfl, rfl⟩
    · show upd (upd (upd rp (3 * B.pe) (nI r)) (3 * B.pe + 1) (nI w)) (3 * B.pe + 2) (nI p) (3 * q) = nI (va_up B.rm B.pe r q) ∧ upd (upd (upd rp (3 * B.pe) (nI r)) (3 * B.pe + 1) (nI w)) (3 * B.pe + 2) (nI p) (3 * q + 1) = nI (va_up B.wk B.pe w q) ∧ upd (upd (upd rp (3 * B.pe) (nI r)) (3 * B.pe + 1) (nI w)) (3 * B.pe + 2) (nI p) (3 * q + 2) = nI (va_up B.pr B.pe p q)
      rw [va_up_ne _ _ e, va_up_ne _ _ e, va_up_ne _ _ e, upd_n (by omega), upd_n (by omega), upd_n (by omega), upd_n (by omega), upd_n (by omega), upd_n (by omega), upd_n (by omega), upd_n (by omega), upd_n (by omega)]; exact m4 q (by omega)
theorem RD.addA (H : RD B room work price whom bday units worth due under people askings hangs rP rp rA ra rH rh) {wh bd un wo du : Nat} (h8 : B.ak < 8) (h1 : wh < B.pe) (h2 : bd ≤ du ∧ du ≤ 9) (h3 : 1 ≤ un ∧ un ≤ 9) (h4 : 1 ≤ wo ∧ wo ≤ 99) :
    RD (B.addA wh bd un wo du) room work price (upd whom B.ak (nI wh)) (upd bday B.ak (nI bd)) (upd units B.ak (nI un)) (upd worth B.ak (nI wo)) (upd due B.ak (nI du)) under people (nI (B.ak + 1)) hangs rP rp (nI (B.ak + 1)) (upd (upd (upd (upd (upd ra (5 * B.ak) (nI wh)) (5 * B.ak + 1) (nI bd)) (5 * B.ak + 2) (nI un)) (5 * B.ak + 3) (nI wo)) (5 * B.ak + 4) (nI du)) rH rh := by
  obtain ⟨⟨o1, o2, o3, o4, o5, o6⟩, ⟨x1, x2, x3, x4, x5, x6⟩, hu, ⟨m1, m2, m3, m4, m5, m6⟩⟩ := H
  refine ⟨⟨o1, ?_, o3, ?_, o5, ?_⟩, ⟨x1, rfl, x3, x4, ?_, ?_⟩, ?_, ⟨m1, rfl, m3, m4, ?_, m6⟩⟩
  · show B.ak + 1 ≤ 8; omega
  · intro q hq
    have hq : q < B.ak + 1 := hq
    show va_up B.wh B.ak wh q < B.pe ∧ va_up B.bd B.ak bd q ≤ va_up B.du B.ak du q ∧ va_up B.du B.ak du q ≤ 9 ∧ 1 ≤ va_up B.un B.ak un q ∧ va_up B.un B.ak un q ≤ 9 ∧ 1 ≤ va_up B.wo B.ak wo q ∧ va_up B.wo B.ak wo q ≤ 99
    by_cases e : q = B.ak
    · subst e
      rw [va_up_self, va_up_self, va_up_self, va_up_self, va_up_self]; exact ⟨h1, h2.1, h2.2, h3.1, h3.2, h4.1, h4.2⟩
    · rw [va_up_ne _ _ e, va_up_ne _ _ e, va_up_ne _ _ e, va_up_ne _ _ e, va_up_ne _ _ e]; exact o4 q (by omega)
  · intro q hq
    have := o6 q hq
    exact ⟨Nat.lt_succ_of_lt this.1, Nat.lt_succ_of_lt this.2.1, this.2.2⟩
  · intro q hq
    have hq : q < B.ak + 1 := hq
    show upd whom B.ak (nI wh) q = nI (va_up B.wh B.ak wh q) ∧ upd bday B.ak (nI bd) q = nI (va_up B.bd B.ak bd q) ∧ upd units B.ak (nI un) q = nI (va_up B.un B.ak un q) ∧ upd worth B.ak (nI wo) q = nI (va_up B.wo B.ak wo q) ∧ upd due B.ak (nI du) q = nI (va_up B.du B.ak du q)
    by_cases e : q = B.ak
    · subst e
      rw [va_up_self, va_up_self, va_up_self, va_up_self, va_up_self, upd_s, upd_s, upd_s, upd_s, upd_s]; exact ⟨rfl, rfl, rfl, rfl, rfl⟩
    · rw [va_up_ne _ _ e, va_up_ne _ _ e, va_up_ne _ _ e, va_up_ne _ _ e, va_up_ne _ _ e, upd_n e, upd_n e, upd_n e, upd_n e, upd_n e]; exact x5 q (by omega)
  · intro q hq
    have hq : q < B.ak + 1 := hq
    by_cases e : q = B.ak
    · subst e
      refine ⟨0, hu _ (Nat.le_refl _) h8, by omega, fun c => ?_⟩
      rw [Nat.zero_testBit]
      refine (decide_eq_false (fun z => ?_)).symm
      have := (o6 _ z).1
      exact absurd this (by show ¬ B.ak < B.ak; omega)
    · exact x6 q (by omega)
  · intro q hq h
    exact hu q (by have hq : B.ak + 1 ≤ q := hq; omega) h
  · intro q hq
    have hq : q < B.ak + 1 := hq
    show upd (upd (upd (upd (upd ra (5 * B.ak) (nI wh)) (5 * B.ak + 1) (nI bd)) (5 * B.ak + 2) (nI un)) (5 * B.ak + 3) (nI wo)) (5 * B.ak + 4) (nI du) (5 * q) = nI (va_up B.wh B.ak wh q) ∧ upd (upd (upd (upd (upd ra (5 * B.ak) (nI wh)) (5 * B.ak + 1) (nI bd)) (5 * B.ak + 2) (nI un)) (5 * B.ak + 3) (nI wo)) (5 * B.ak + 4) (nI du) (5 * q + 1) = nI (va_up B.bd B.ak bd q) ∧ upd (upd (upd (upd (upd ra (5 * B.ak) (nI wh)) (5 * B.ak + 1) (nI bd)) (5 * B.ak + 2) (nI un)) (5 * B.ak + 3) (nI wo)) (5 * B.ak + 4) (nI du) (5 * q + 2) = nI (va_up B.un B.ak un q) ∧ upd (upd (upd (upd (upd ra (5 * B.ak) (nI wh)) (5 * B.ak + 1) (nI bd)) (5 * B.ak + 2) (nI un)) (5 * B.ak + 3) (nI wo)) (5 * B.ak + 4) (nI du) (5 * q + 3) = nI (va_up B.wo B.ak wo q) ∧ upd (upd (upd (upd (upd ra (5 * B.ak) (nI wh)) (5 * B.ak + 1) (nI bd)) (5 * B.ak + 2) (nI un)) (5 * B.ak + 3) (nI wo)) (5 * B.ak + 4) (nI du) (5 * q + 4) = nI (va_up B.du B.ak du q)
    by_cases e : q = B.ak
    · subst e
      rw [va_up_self, va_up_self, va_up_self, va_up_self, va_up_self]
      refine ⟨?_, ?_, ?_, ?_, ?_⟩
      · rw [upd_n (by omega), upd_n (by omega), upd_n (by omega), upd_n (by omega), upd_s]
      · rw [upd_n (by omega), upd_n (by omega), upd_n (by omega), upd_s]
      · rw [upd_n (by omega), upd_n (by omega), upd_s]
      · rw [upd_n (by omega), upd_s]
      · rw [upd_s]
    · have hk : ∀ j, j < 5 → upd (upd (upd (upd (upd ra (5 * B.ak) (nI wh)) (5 * B.ak + 1) (nI bd)) (5 * B.ak + 2) (nI un)) (5 * B.ak + 3) (nI wo)) (5 * B.ak + 4) (nI du) (5 * q + j) = ra (5 * q + j) := by
        intro j hj
        rw [upd_n (by omega), upd_n (by omega), upd_n (by omega), upd_n (by omega), upd_n (by omega)]
      rw [va_up_ne _ _ e, va_up_ne _ _ e, va_up_ne _ _ e, va_up_ne _ _ e, va_up_ne _ _ e, hk 1 (by omega), hk 2 (by omega), hk 3 (by omega), hk 4 (by omega), show upd (upd (upd (upd (upd ra (5 * B.ak) (nI wh)) (5 * B.ak + 1) (nI bd)) (5 * B.ak + 2) (nI un)) (5 * B.ak + 3) (nI wo)) (5 * B.ak + 4) (nI du) (5 * q) = _ from hk 0 (by omega)]
      exact m5 q (by omega)
theorem app_get (l : List (Nat × Nat)) (q : Nat × Nat) (k : Nat) (h : k < (l ++ [q]).length) : (l ++ [q])[k] = if h2 : k < l.length then l[k] else q := by
  by_cases z : k < l.length
  · rw [dif_pos z, List.getElem_append_left z]
  · rw [dif_neg z, List.getElem_append_right (by omega)]
    rw [List.length_append] at h
    have : k - l.length = 0 := by have : [q].length = 1 := rfl; omega
    simp [this]
theorem RD.addH (H : RD B room work price whom bday units worth due under people askings hangs rP rp rA ra rH rh) {a c : Nat} (h8 : B.hg.length < 8) (ha : a < B.ak) (hc : c < B.ak) (hac : a ≠ c) :
    RD (B.addH (a, c)) room work price whom bday units worth due (upd under a (under a ||| ((1 : Int32) <<< (nI c &&& 31)))) people askings (nI (B.hg.length + 1)) rP rp rA ra (nI (B.hg.length + 1)) (upd (upd rh (2 * B.hg.length) (nI a)) (2 * B.hg.length + 1) (nI c)) := by
  obtain ⟨⟨o1, o2, o3, o4, o5, o6⟩, ⟨x1, x2, x3, x4, x5, x6⟩, hu, ⟨m1, m2, m3, m4, m5, m6⟩⟩ := H
  have hl : (B.addH (a, c)).hg.length = B.hg.length + 1 := by
    show (B.hg ++ [(a, c)]).length = _
    rw [List.length_append]; rfl
  refine ⟨⟨o1, o2, o3, o4, by omega, ?_⟩, ⟨x1, x2, by rw [hl], x4, x5, ?_⟩, ?_, ⟨m1, m2, by rw [hl], m4, m5, ?_⟩⟩
  · intro q hq
    have hq : q ∈ B.hg ++ [(a, c)] := hq
    rcases List.mem_append.mp hq with z | z
    · exact o6 q z
    · rw [List.mem_singleton] at z
      subst z; exact ⟨ha, hc, hac⟩
  · intro q hq
    have hq : q < B.ak := hq
    obtain ⟨u, u1, u2, u3⟩ := x6 q hq
    have hmem : ∀ d, (q, d) ∈ (B.addH (a, c)).hg ↔ (q, d) ∈ B.hg ∨ (q = a ∧ d = c) := by
      intro d
      show (q, d) ∈ B.hg ++ [(a, c)] ↔ _
      rw [List.mem_append, List.mem_singleton, Prod.mk.injEq]
    by_cases e : q = a
    · subst e
      refine ⟨setb u c, ?_, setb_lt u u2 c (by omega), fun d => ?_⟩
      · rw [upd_s, u1, or_bit u u2 c (by omega)]
      · rw [setb_bit, u3 d]
        have := hmem d
        by_cases z1 : (q, d) ∈ B.hg
        · rw [decide_eq_true z1, decide_eq_true (this.mpr (Or.inl z1))]; rfl
        · rw [decide_eq_false z1]
          by_cases z2 : d = c
          · rw [decide_eq_true z2, decide_eq_true (this.mpr (Or.inr ⟨rfl, z2⟩))]; rfl
          · rw [decide_eq_false z2, decide_eq_false (fun y => (this.mp y).elim z1 (fun z => z2 z.2))]; rfl
    · refine ⟨u, by rw [upd_n e]; exact u1, u2, fun d => ?_⟩
      rw [u3 d]
      exact decide_eq_decide.mpr ((hmem d).trans ⟨fun z => z.elim id (fun y => absurd y.1 e), Or.inl⟩).symm
  · intro q hq h
    have hq : B.ak ≤ q := hq
    rw [upd_n (by omega)]; exact hu q hq h
  · intro k hk
    rw [hl] at hk
    have hg : ∀ (h : k < (B.addH (a, c)).hg.length), (B.addH (a, c)).hg[k] = if h2 : k < B.hg.length then B.hg[k] else (a, c) := by
      exact fun h => app_get B.hg (a, c) k h
    rw [hg]
    by_cases z : k < B.hg.length
    · rw [dif_pos z, upd_n (by omega), upd_n (by omega), upd_n (by omega), upd_n (by omega)]
      exact m6 k z
    · have : k = B.hg.length := by omega
      subst this
      rw [dif_neg z, upd_s, upd_n (by omega), upd_s]; exact ⟨rfl, rfl⟩
end PTOK4
