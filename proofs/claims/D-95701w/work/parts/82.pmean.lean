/-! PURE LAW: sorts, the mean -/
set_option maxRecDepth 100000
def bb (d k : Nat) : Nat := if d = k then 1 else 0
def Tk (wo dy : Nat → Nat) (g : Nat → Nat → Nat → Nat) (n f o w j : Nat) : Nat := if f = 0 then 0 else wo j * 10 ^ n + g (f - 1 + o + bb (dy j) 1) (w + bb (dy j) 2) (bb (dy j) 3)
def Mn (t wo dy : Nat → Nat) : Nat → Nat → Nat → Nat → Nat
  | 0, _, _, _ => 0
  | n + 1, f, o, w => (10 - (t 0 + t 1 + t 2)) * Mn t wo dy n (f + o) w 0 + t 0 * max (Mn t wo dy n (f + o) w 0) (Tk wo dy (Mn t wo dy n) n f o w 0) + t 1 * max (Mn t wo dy n (f + o) w 0) (Tk wo dy (Mn t wo dy n) n f o w 1) + t 2 * max (Mn t wo dy n (f + o) w 0) (Tk wo dy (Mn t wo dy n) n f o w 2)
def SD (tenths sortWorth sortDays : Nat → Int32) (t wo dy : Nat → Nat) : Prop := (∀ j, j < 3 → tenths j = nI (t j) ∧ sortWorth j = nI (wo j) ∧ sortDays j = nI (dy j) ∧ wo j ≤ 99 ∧ dy j ≤ 3 ∧ (dy j = 0 → t j = 0)) ∧ t 0 + t 1 + t 2 ≤ 10
theorem Mn_le {t wo dy : Nat → Nat} (hw : ∀ j, j < 3 → wo j ≤ 99) (hT : t 0 + t 1 + t 2 ≤ 10) : ∀ n f o w, Mn t wo dy n f o w ≤ 99 * n * 10 ^ n := by
  intro n
  induction n with
  | zero => intro f o w; exact Nat.zero_le _
  | succ n ih =>
    intro f o w
    have hX : ∀ j, j < 3 → max (Mn t wo dy n (f + o) w 0) (Tk wo dy (Mn t wo dy n) n f o w j) ≤ 99 * 10 ^ n + 99 * n * 10 ^ n := by
      intro j hj
      refine Nat.max_le.mpr ⟨Nat.le_trans (ih _ _ _) (Nat.le_add_left _ _), ?_⟩
      unfold Tk
      split
      · exact Nat.zero_le _
      · exact Nat.add_le_add (Nat.mul_le_mul_right _ (hw j hj)) (ih _ _ _)
    have hN : Mn t wo dy n (f + o) w 0 ≤ 99 * 10 ^ n + 99 * n * 10 ^ n := Nat.le_trans (ih _ _ _) (Nat.le_add_left _ _)
    have hXe : 99 * (n + 1) * 10 ^ (n + 1) = 10 * (99 * 10 ^ n + 99 * n * 10 ^ n) := by
      rw [Nat.pow_succ, ← Nat.add_mul, show 99 + 99 * n = 99 * (n + 1) by omega, ← Nat.mul_assoc, Nat.mul_comm (99 * (n + 1) * 10 ^ n) 10]
    rw [hXe]
    generalize 99 * 10 ^ n + 99 * n * 10 ^ n = X at hX hN
    show (10 - (t 0 + t 1 + t 2)) * Mn t wo dy n (f + o) w 0 + t 0 * max (Mn t wo dy n (f + o) w 0) (Tk wo dy (Mn t wo dy n) n f o w 0) + t 1 * max (Mn t wo dy n (f + o) w 0) (Tk wo dy (Mn t wo dy n) n f o w 1) + t 2 * max (Mn t wo dy n (f + o) w 0) (Tk wo dy (Mn t wo dy n) n f o w 2) ≤ 10 * X
    have e : 10 * X = (10 - (t 0 + t 1 + t 2)) * X + t 0 * X + t 1 * X + t 2 * X := by
      rw [← Nat.add_mul, ← Nat.add_mul, ← Nat.add_mul]
      congr 1; omega
    rw [e]
    exact Nat.add_le_add (Nat.add_le_add (Nat.add_le_add (Nat.mul_le_mul_left _ hN) (Nat.mul_le_mul_left _ (hX 0 (by omega)))) (Nat.mul_le_mul_left _ (hX 1 (by omega)))) (Nat.mul_le_mul_left _ (hX 2 (by omega)))
theorem pow_le6 : ∀ n, n ≤ 6 → 99 * n * 10 ^ n < 2 ^ 31 ∧ 10 ^ n ≤ 1000000 := by decide
section PMEAN
variable {tenths sortWorth sortDays : Nat → Int32} {t wo dy : Nat → Nat}
theorem allT_eq (h : SD tenths sortWorth sortDays t wo dy) : x_allTenths tenths = some (nI (t 0 + t 1 + t 2)) ∧ m_allTenths tenths = some (nI (t 0 + t 1 + t 2)) := by
  unfold x_allTenths m_allTenths
  rw [show tenths (0 : Int32).toNatClampNeg = nI (t 0) from (h.1 0 (by omega)).1, show tenths (1 : Int32).toNatClampNeg = nI (t 1) from (h.1 1 (by omega)).1, show tenths (2 : Int32).toNatClampNeg = nI (t 2) from (h.1 2 (by omega)).1, nI_add, nI_add]
  exact ⟨rfl, rfl⟩
theorem power_eq : ∀ n, n ≤ 6 → x_power (nI n) = some (lN (10 ^ n)) := by decide +kernel
theorem b_ltv {d k : Nat} (hd : d ≤ 3) (hk : k ≤ 3) : (if nI d = nI k then (1 : Int32) else 0) = nI (bb d k) := by
  unfold bb
  by_cases e : d = k
  · rw [if_pos (by rw [e]), if_pos e]; rfl
  · rw [if_neg (N_ne e (by omega) (by omega)), if_neg e]; rfl
theorem bb_sum (d : Nat) : bb d 1 + bb d 2 + bb d 3 ≤ 1 := by
  unfold bb
  split <;> split <;> split <;> omega
theorem taken_eq (h : SD tenths sortWorth sortDays t wo dy) {fm : Int32 → Int32 → Int32 → Int32 → Option Int64} {g : Nat → Nat → Nat → Nat} {n f o w : Nat} (hn : n ≤ 5) (hf : 1 ≤ f) (hs : f + o + w ≤ 5) (hfm : ∀ f o w, f + o + w ≤ 5 → fm (nI n) (nI f) (nI o) (nI w) = some (lN (g f o w))) {j : Nat} (hj : j < 3) : x_taken fm sortWorth sortDays (nI j) (nI (n + 1)) (nI f) (nI o) (nI w) = some (lN (Tk wo dy g n f o w j)) := by
  obtain ⟨-, h2, h3, h4, h5, -⟩ := h.1 j hj
  have hb := bb_sum (dy j)
  unfold x_taken ltv
  simp (disch := omega) only [nI_cl, ck_nI]
  rw [h2, h3, show (if nI (dy j) = 1 then (1 : Int32) else 0) = nI (bb (dy j) 1) from b_ltv (k := 1) h5 (by omega), show (if nI (dy j) = 2 then (1 : Int32) else 0) = nI (bb (dy j) 2) from b_ltv (k := 2) h5 (by omega), show (if nI (dy j) = 3 then (1 : Int32) else 0) = nI (bb (dy j) 3) from b_ltv (k := 3) h5 (by omega), show (nI (n + 1) - 1 : Int32) = nI n from nI_pred n, show (nI f - 1 : Int32) = nI (f - 1) from nI_subN (b := 1) hf, nI_add, nI_add, nI_add, hfm _ _ _ (by omega), bnd_s, power_eq n (by omega), bnd_s, nI_l (by omega), lN_mul, lN_add]
  unfold Tk
  rw [if_neg (by omega)]
theorem max_x {a b : Nat} (ha : a < 2 ^ 63) (hb : b < 2 ^ 63) : (if lN b < lN a then lN a else lN b) = lN (max a b) := by
  by_cases e : b < a
  · rw [if_pos ((pk_lLT hb ha).mpr e), Nat.max_eq_left (by omega)]
  · rw [if_neg (fun z => e ((pk_lLT hb ha).mp z)), Nat.max_eq_right (by omega)]
theorem Tk_le (h : SD tenths sortWorth sortDays t wo dy) {n f o w j : Nat} (hn : n ≤ 6) (hj : j < 3) : Tk wo dy (Mn t wo dy n) n f o w j < 2 ^ 32 := by
  obtain ⟨p1, p2⟩ := pow_le6 n hn
  have hM := Mn_le (dy := dy) (fun j hj => (h.1 j hj).2.2.2.1) h.2 n (f - 1 + o + bb (dy j) 1) (w + bb (dy j) 2) (bb (dy j) 3)
  have hw := (h.1 j hj).2.2.2.1
  unfold Tk
  split
  · decide
  · have := Nat.mul_le_mul hw p2
    omega
theorem mean_eq (h : SD tenths sortWorth sortDays t wo dy) : ∀ k n f o w, n < k → n ≤ 6 → f + o + w ≤ 5 → x_mean tenths sortWorth sortDays k (nI n) (nI f) (nI o) (nI w) = some (lN (Mn t wo dy n f o w)) := by
  intro k
  induction k with
  | zero => intro n f o w h; omega
  | succ k ih =>
    intro n f o w hn h6 hs
    show x_mean_step (x_mean tenths sortWorth sortDays k) (x_taken (x_mean tenths sortWorth sortDays k) sortWorth sortDays) tenths (nI n) (nI f) (nI o) (nI w) = _
    unfold x_mean_step
    match n, hn, h6 with
    | 0, _, _ => rw [if_pos (L_eq 0 rfl)]; rfl
    | n + 1, hn, h6 =>
      have hfm : ∀ f o w, f + o + w ≤ 5 → x_mean tenths sortWorth sortDays k (nI n) (nI f) (nI o) (nI w) = some (lN (Mn t wo dy n f o w)) := fun f o w hs => ih n f o w (by omega) (by omega) hs
      obtain ⟨p1, p2⟩ := pow_le6 n (by omega)
      have hM := Mn_le (dy := dy) (fun j hj => (h.1 j hj).2.2.2.1) h.2 n (f + o) w 0
      have hT := h.2
      rw [if_neg (L_ne 0 (by omega) (by omega) (by omega)), show (nI (n + 1) - 1 : Int32) = nI n from nI_pred n, nI_add, show x_mean tenths sortWorth sortDays k (nI n) (nI (f + o)) (nI w) 0 = _ from hfm (f + o) w 0 (by omega), bnd_s, (allT_eq h).1, bnd_s, show (10 - nI (t 0 + t 1 + t 2) : Int32) = nI (10 - (t 0 + t 1 + t 2)) from nI_subN (a := 10) hT, nI_l (by omega), lN_mul]
      have hj : ∀ (j fu : Nat) (s : Nat), j < 3 → x_mean_step_L37 (nI (n + 1)) (nI f) (nI o) (nI w) (lN (Mn t wo dy n (f + o) w 0)) tenths (x_taken (x_mean tenths sortWorth sortDays k) sortWorth sortDays) (fu + 1) (lN s) (nI j) = x_mean_step_L37 (nI (n + 1)) (nI f) (nI o) (nI w) (lN (Mn t wo dy n (f + o) w 0)) tenths (x_taken (x_mean tenths sortWorth sortDays k) sortWorth sortDays) fu (lN (s + t j * max (Mn t wo dy n (f + o) w 0) (Tk wo dy (Mn t wo dy n) n f o w j))) (nI (j + 1)) := by
        intro j fu s hj
        have hTk := Tk_le h (n := n) (f := f) (o := o) (w := w) (by omega) hj
        have htj : t j ≤ 10 := by
          match j, hj with
          | 0, _ => omega
          | 1, _ => omega
          | 2, _ => omega
        rw [x_mean_step_L37_s, if_neg (L_nle 3 (by omega) (by omega)), show (nI j + 1 : Int32) = nI (j + 1) from nI_1 j]
        simp (disch := omega) only [nI_cl, ck_nI]
        have hin : (if nI f = 0 then some (0 : Int64) else bnd (x_taken (x_mean tenths sortWorth sortDays k) sortWorth sortDays (nI j) (nI (n + 1)) (nI f) (nI o) (nI w)) fun r_71 => some r_71) = some (lN (Tk wo dy (Mn t wo dy n) n f o w j)) := by
          by_cases e : f = 0
          · rw [if_pos (L_eq 0 e)]; unfold Tk; rw [if_pos e]; rfl
          · rw [if_neg (L_ne 0 e (by omega) (by omega)), taken_eq h (by omega) (by omega) hs hfm hj, bnd_s]
        rw [hin, bnd_s, (h.1 j hj).1, nI_l (by omega), max_x (by omega) (by omega), lN_mul, lN_add]
      show bnd (x_mean_step_L37 (nI (n + 1)) (nI f) (nI o) (nI w) (lN (Mn t wo dy n (f + o) w 0)) tenths (x_taken (x_mean tenths sortWorth sortDays k) sortWorth sortDays) (996 + 1 + 1 + 1 + 1) (lN ((10 - (t 0 + t 1 + t 2)) * Mn t wo dy n (f + o) w 0)) (nI 0)) _ = _
      rw [hj 0 _ _ (by omega), hj 1 _ _ (by omega), hj 2 _ _ (by omega), x_mean_step_L37_s, if_pos (L_le 3 (by omega) (by omega)), bnd_s]
      rfl
theorem behind_eq (h : SD tenths sortWorth sortDays t wo dy) {w j : Nat} (hw : w ≤ 1) (hj : j < 3) : m_behind sortDays (nI w) (nI j) = some (nI (2 * (w + bb (dy j) 2) + bb (dy j) 3)) := by
  obtain ⟨-, -, h3, -, h5, -⟩ := h.1 j hj
  unfold m_behind ltv
  simp (disch := omega) only [nI_cl, ck_nI]
  rw [h3, show (if nI (dy j) = 2 then (1 : Int32) else 0) = nI (bb (dy j) 2) from b_ltv (k := 2) h5 (by omega)]
  by_cases e : dy j = 3
  · rw [if_pos (L_eq 3 e)]
    simp only [nI_lit, nI_add, pk_mul]
    unfold bb; rw [if_pos e]
  · rw [if_neg (L_ne 3 e (by omega) (by omega))]
    simp only [nI_lit, nI_add, pk_mul]
    unfold bb; rw [if_neg e]
/-- what the model's table says -/
def Tb (t wo dy : Nat → Nat) (P n : Nat) (b : Nat → Int64) : Prop := ∀ o w, o < 6 → w < 2 → o + w ≤ P → b (2 * o + w) = lN (Mn t wo dy n (P - o - w) o w)
theorem max_m {a b : Nat} (ha : a < 2 ^ 63) (hb : b < 2 ^ 63) : (if lg_cmp (lN b) (lN a) ≤ 0 then lN a else lN b) = lN (max a b) := by
  by_cases e : b ≤ a
  · rw [if_pos ((lg_cmp_le _ _).mpr ((pk_lLE hb ha).mpr e)), Nat.max_eq_left e]
  · rw [if_neg (fun z => e ((pk_lLE hb ha).mp ((lg_cmp_le _ _).mp z))), Nat.max_eq_right (by omega)]
theorem cell_eq (h : SD tenths sortWorth sortDays t wo dy) {P n o w : Nat} (hP1 : 1 ≤ P) (hP : P ≤ 5) (hn : n ≤ 5) (ho : o < 6) (hw : w < 2) {la : Nat → Int64} (hla : Tb t wo dy P n la) : ∃ v, m_findBrings_L108 (nI P) (lN (10 ^ n)) (nI o) (nI w) (la (2 * w)) tenths sortWorth sortDays la g_fuel ((nI (10 - (t 0 + t 1 + t 2))).toInt64 * la (2 * w)) 0 = some v ∧ (o + w ≤ P → v = lN (Mn t wo dy (n + 1) (P - o - w) o w)) := by
  obtain ⟨p1, p2⟩ := pow_le6 n (by omega)
  have hT := h.2
  have hM := Mn_le (dy := dy) (fun j hj => (h.1 j hj).2.2.2.1) h.2 n (P - w) w 0
  have hk : la (2 * w) = lN (Mn t wo dy n (P - w) w 0) := by
    have := hla w 0 (by omega) (by omega) (by omega)
    rw [Nat.add_zero, Nat.sub_zero] at this
    exact this
  rw [hk, nI_l (by omega), lN_mul]
  -- one sort
  have hj : ∀ (j fu s : Nat), j < 3 → ∃ s', m_findBrings_L108 (nI P) (lN (10 ^ n)) (nI o) (nI w) (lN (Mn t wo dy n (P - w) w 0)) tenths sortWorth sortDays la (fu + 1) (lN s) (nI j) = m_findBrings_L108 (nI P) (lN (10 ^ n)) (nI o) (nI w) (lN (Mn t wo dy n (P - w) w 0)) tenths sortWorth sortDays la fu (lN s') (nI (j + 1)) ∧ (o + w ≤ P → s' = s + t j * max (Mn t wo dy n (P - w) w 0) (Tk wo dy (Mn t wo dy n) n (P - o - w) o w j)) := by
    intro j fu s hj
    obtain ⟨h1, h2, h3, h4, h5, h6⟩ := h.1 j hj
    have hb := bb_sum (dy j)
    have htj : t j ≤ 10 := by
      match j, hj with
      | 0, _ => omega
      | 1, _ => omega
      | 2, _ => omega
    rw [m_findBrings_L108_s, if_neg (L_nle 3 (by omega) (by omega)), show (nI j + 1 : Int32) = nI (j + 1) from nI_1 j, nI_add]
    unfold ltv
    simp (disch := omega) only [nI_cl, ck_nI]
    rw [behind_eq h (by omega) hj, bnd_s, ck_nI (by omega) (by omega), nI_cl (by omega), h1, h2, nI_l (by omega), nI_l (by omega)]
    -- what it brings to take one
    have hin : ∃ x, x < 2 ^ 40 ∧ (if (if nI P ≤ nI (o + w) then (0 : Int32) else 1) = 0 then some (0 : Int64) else some (lN (wo j) * lN (10 ^ n) + la (2 * (w + bb (dy j) 2) + bb (dy j) 3))) = some (lN x) ∧ (t j = 0 ∨ (o + w ≤ P → x = Tk wo dy (Mn t wo dy n) n (P - o - w) o w j)) := by
      by_cases e : P ≤ o + w
      · refine ⟨0, by decide, by rw [if_pos (N_le e (by omega)), if_pos rfl]; rfl, Or.inr (fun q => ?_)⟩
        unfold Tk; rw [if_pos (by omega)]
      · have hl := hla (w + bb (dy j) 2) (bb (dy j) 3) (by omega) (by omega) (by omega)
        have hM2 := Mn_le (dy := dy) (fun j hj => (h.1 j hj).2.2.2.1) h.2 n (P - (w + bb (dy j) 2) - bb (dy j) 3) (w + bb (dy j) 2) (bb (dy j) 3)
        have := Nat.mul_le_mul h4 p2
        refine ⟨wo j * 10 ^ n + Mn t wo dy n (P - (w + bb (dy j) 2) - bb (dy j) 3) (w + bb (dy j) 2) (bb (dy j) 3), by omega, by rw [if_neg (N_nle (by omega) (by omega)), if_neg n10, hl, lN_mul, lN_add], ?_⟩
        by_cases d0 : dy j = 0
        · exact Or.inl (h6 d0)
        · refine Or.inr (fun q => ?_)
          have hb1 : bb (dy j) 1 + bb (dy j) 2 + bb (dy j) 3 = 1 := by
            unfold bb
            have : dy j = 1 ∨ dy j = 2 ∨ dy j = 3 := by omega
            rcases this with e | e | e <;> rw [e] <;> rfl
          unfold Tk
          rw [if_neg (by omega)]
          congr 2; omega
    obtain ⟨x, x1, x2, x3⟩ := hin
    have hTk := Tk_le h (n := n) (f := P - o - w) (o := o) (w := w) (by omega) hj
    refine ⟨s + t j * max (Mn t wo dy n (P - w) w 0) x, ?_, fun q => ?_⟩
    · rw [x2, bnd_s]
      have hmm := max_m (a := Mn t wo dy n (P - w) w 0) (b := x) (by omega) (by omega)
      by_cases hc : lg_cmp (lN x) (lN (Mn t wo dy n (P - w) w 0)) ≤ 0
      · rw [if_pos hc] at hmm ⊢
        rw [hmm, lN_mul, lN_add, ← hmm]
      · rw [if_neg hc] at hmm ⊢
        rw [hmm, lN_mul, lN_add]
    · rcases x3 with z | z
      · rw [z, Nat.zero_mul, Nat.zero_mul]
      · rw [z q]
  obtain ⟨s1, a1, c1⟩ := hj 0 999 ((10 - (t 0 + t 1 + t 2)) * Mn t wo dy n (P - w) w 0) (by omega)
  obtain ⟨s2, a2, c2⟩ := hj 1 998 s1 (by omega)
  obtain ⟨s3, a3, c3⟩ := hj 2 997 s2 (by omega)
  refine ⟨lN s3, ?_, fun q => ?_⟩
  · show m_findBrings_L108 (nI P) (lN (10 ^ n)) (nI o) (nI w) (lN (Mn t wo dy n (P - w) w 0)) tenths sortWorth sortDays la (999 + 1) (lN ((10 - (t 0 + t 1 + t 2)) * Mn t wo dy n (P - w) w 0)) (nI 0) = _
    rw [a1, a2, a3, show (997 : Nat) = 996 + 1 from rfl, m_findBrings_L108_s, if_pos (L_le 3 (by omega) (by omega))]
  · rw [c3 q, c2 q, c1 q]
    show _ = lN ((10 - (t 0 + t 1 + t 2)) * Mn t wo dy n (P - o - w + o) w 0 + t 0 * max (Mn t wo dy n (P - o - w + o) w 0) (Tk wo dy (Mn t wo dy n) n (P - o - w) o w 0) + t 1 * max (Mn t wo dy n (P - o - w + o) w 0) (Tk wo dy (Mn t wo dy n) n (P - o - w) o w 1) + t 2 * max (Mn t wo dy n (P - o - w + o) w 0) (Tk wo dy (Mn t wo dy n) n (P - o - w) o w 2))
    rw [show P - o - w + o = P - w by omega]
end PMEAN
