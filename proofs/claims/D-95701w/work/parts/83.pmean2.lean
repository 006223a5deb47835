/-! PURE LAW: findBrings, expected, wise, sort -/
set_option maxRecDepth 100000
theorem ul_s {f : Nat → Int64} {k : Nat} {v : Int64} : vp_updL f k v k = v := by simp [vp_updL]
theorem ul_n {f : Nat → Int64} {k j : Nat} {v : Int64} (h : j ≠ k) : vp_updL f k v j = f j := by simp [vp_updL, h]
section PMEAN2
variable {tenths sortWorth sortDays : Nat → Int32} {t wo dy : Nat → Nat}
theorem clear_eq : ∀ (n i fu : Nat) (b : Nat → Int64), i + n = 12 → n < fu → (∀ k, k < i → b k = 0) → ∃ b', m_findBrings_L2 fu (nI i) b = some b' ∧ ∀ k, k < 12 → b' k = 0 := by
  intro n
  induction n with
  | zero =>
    intro i fu b hi hf hb
    obtain ⟨fu, rfl⟩ : ∃ z, fu = z + 1 := ⟨fu - 1, by omega⟩
    exact ⟨b, by rw [m_findBrings_L2_s, if_pos (L_le 12 (by omega) (by omega))], fun k hk => hb k (by omega)⟩
  | succ n ih =>
    intro i fu b hi hf hb
    obtain ⟨fu, rfl⟩ : ∃ z, fu = z + 1 := ⟨fu - 1, by omega⟩
    rw [m_findBrings_L2_s, if_neg (L_nle 12 (by omega) (by omega)), show (nI i + 1 : Int32) = nI (i + 1) from nI_1 i]
    simp (disch := omega) only [nI_cl, ck_nI]
    refine ih (i + 1) fu _ (by omega) (by omega) (fun k hk => ?_)
    by_cases e : k = i
    · rw [e, ul_s]
    · rw [ul_n e]; exact hb k (by omega)
theorem copyL_eq (b : Nat → Int64) : ∀ (n i fu : Nat) (l : Nat → Int64), i + n = 12 → n < fu → (∀ k, k < i → l k = b k) → ∃ l', m_findBrings_L35 b fu (nI i) l = some l' ∧ ∀ k, k < 12 → l' k = b k := by
  intro n
  induction n with
  | zero =>
    intro i fu l hi hf hb
    obtain ⟨fu, rfl⟩ : ∃ z, fu = z + 1 := ⟨fu - 1, by omega⟩
    exact ⟨l, by rw [m_findBrings_L35_s, if_pos (L_le 12 (by omega) (by omega))], fun k hk => hb k (by omega)⟩
  | succ n ih =>
    intro i fu l hi hf hb
    obtain ⟨fu, rfl⟩ : ∃ z, fu = z + 1 := ⟨fu - 1, by omega⟩
    rw [m_findBrings_L35_s, if_neg (L_nle 12 (by omega) (by omega)), show (nI i + 1 : Int32) = nI (i + 1) from nI_1 i]
    simp (disch := omega) only [nI_cl, ck_nI]
    refine ih (i + 1) fu _ (by omega) (by omega) (fun k hk => ?_)
    by_cases e : k = i
    · rw [e, ul_s]
    · rw [ul_n e]; exact hb k (by omega)
theorem inner2_eq (h : SD tenths sortWorth sortDays t wo dy) {P n o : Nat} (hP1 : 1 ≤ P) (hP : P ≤ 5) (hn : n ≤ 5) (ho : o < 6) {la : Nat → Int64} (hla : Tb t wo dy P n la) : ∀ (m w fu : Nat) (b : Nat → Int64), w + m = 2 → m < fu → (∀ w', w' < w → o + w' ≤ P → b (2 * o + w') = lN (Mn t wo dy (n + 1) (P - o - w') o w')) → ∃ b', m_findBrings_L75 (nI P) (lN (10 ^ n)) (nI o) tenths sortWorth sortDays la fu (nI w) b = some b' ∧ (∀ w', w' < 2 → o + w' ≤ P → b' (2 * o + w') = lN (Mn t wo dy (n + 1) (P - o - w') o w')) ∧ ∀ k, k < 2 * o → b' k = b k := by
  intro m
  induction m with
  | zero =>
    intro w fu b hw hf hb
    obtain ⟨fu, rfl⟩ : ∃ z, fu = z + 1 := ⟨fu - 1, by omega⟩
    exact ⟨b, by rw [m_findBrings_L75_s, if_pos (L_le 2 (by omega) (by omega))], fun w' hw' => hb w' (by omega), fun _ _ => rfl⟩
  | succ m ih =>
    intro w fu b hw hf hb
    obtain ⟨fu, rfl⟩ : ∃ z, fu = z + 1 := ⟨fu - 1, by omega⟩
    have hT := h.2
    obtain ⟨v, v1, v2⟩ := cell_eq h (o := o) (w := w) hP1 hP hn ho (by omega) hla
    rw [m_findBrings_L75_s, if_neg (L_nle 2 (by omega) (by omega)), show (nI w + 1 : Int32) = nI (w + 1) from nI_1 w, show (2 * nI w : Int32) = nI (2 * w) from pk_mul 2 w, show (2 * nI o : Int32) = nI (2 * o) from pk_mul 2 o, nI_add]
    unfold ltv
    simp (disch := omega) only [nI_cl, ck_nI]
    rw [(allT_eq h).2, bnd_s, show (10 - nI (t 0 + t 1 + t 2) : Int32) = nI (10 - (t 0 + t 1 + t 2)) from nI_subN (a := 10) hT, v1, bnd_s]
    obtain ⟨b', b1, b2, b3⟩ := ih (w + 1) fu (vp_updL b (2 * o + w) v) (by omega) (by omega) (fun w' hw' hp => by
      by_cases e : w' = w
      · rw [e, ul_s]; rw [e] at hp; exact v2 hp
      · rw [ul_n (by omega)]; exact hb w' (by omega) hp)
    exact ⟨b', b1, b2, fun k hk => by rw [b3 k hk, ul_n (by omega)]⟩
theorem outer2_eq (h : SD tenths sortWorth sortDays t wo dy) {P n : Nat} (hP1 : 1 ≤ P) (hP : P ≤ 5) (hn : n ≤ 5) {la : Nat → Int64} (hla : Tb t wo dy P n la) : ∀ (m o fu : Nat) (b : Nat → Int64), o + m = 6 → m < fu → (∀ o' w', o' < o → w' < 2 → o' + w' ≤ P → b (2 * o' + w') = lN (Mn t wo dy (n + 1) (P - o' - w') o' w')) → ∃ b', m_findBrings_L65 (nI P) (lN (10 ^ n)) tenths sortWorth sortDays la fu (nI o) b = some b' ∧ Tb t wo dy P (n + 1) b' := by
  intro m
  induction m with
  | zero =>
    intro o fu b ho hf hb
    obtain ⟨fu, rfl⟩ : ∃ z, fu = z + 1 := ⟨fu - 1, by omega⟩
    exact ⟨b, by rw [m_findBrings_L65_s, if_pos (L_le 6 (by omega) (by omega))], fun o' w' h1 h2 h3 => hb o' w' (by omega) h2 h3⟩
  | succ m ih =>
    intro o fu b ho hf hb
    obtain ⟨fu, rfl⟩ : ∃ z, fu = z + 1 := ⟨fu - 1, by omega⟩
    obtain ⟨b1, e1, e2, e3⟩ := inner2_eq h (o := o) hP1 hP hn (by omega) hla 2 0 g_fuel b (by omega) (by unfold g_fuel; omega) (fun w' hw' => by omega)
    rw [m_findBrings_L65_s, if_neg (L_nle 6 (by omega) (by omega)), show (nI o + 1 : Int32) = nI (o + 1) from nI_1 o, show m_findBrings_L75 (nI P) (lN (10 ^ n)) (nI o) tenths sortWorth sortDays la g_fuel 0 b = _ from e1, bnd_s]
    refine ih (o + 1) fu b1 (by omega) (by omega) (fun o' w' h1 h2 h3 => ?_)
    by_cases e : o' = o
    · rw [e] at h3 ⊢; exact e2 w' h2 h3
    · rw [e3 _ (by omega)]; exact hb o' w' (by omega) h2 h3
theorem brings_eq (h : SD tenths sortWorth sortDays t wo dy) {P N : Nat} (hP1 : 1 ≤ P) (hP : P ≤ 5) (hN : N ≤ 6) (b la : Nat → Int64) : ∃ b' la', m_findBrings tenths sortWorth sortDays b la (nI N) (nI P) = some (b', la') ∧ Tb t wo dy P N b' := by
  have key : ∀ (m i fu : Nat) (b la : Nat → Int64), i + m = N → m < fu → Tb t wo dy P i b → ∃ b' la', m_findBrings_L26 (nI N) (nI P) tenths sortWorth sortDays fu (lN (10 ^ i)) (nI (i + 1)) b la = some (b', la') ∧ Tb t wo dy P N b' := by
    intro m
    induction m with
    | zero =>
      intro i fu b la hi hf hb
      obtain ⟨fu, rfl⟩ : ∃ z, fu = z + 1 := ⟨fu - 1, by omega⟩
      have : i = N := by omega
      subst this
      exact ⟨b, la, by rw [m_findBrings_L26_s, if_pos ((nI_ltI (by omega) (by omega)).mpr (by omega))], hb⟩
    | succ m ih =>
      intro i fu b la hi hf hb
      obtain ⟨fu, rfl⟩ : ∃ z, fu = z + 1 := ⟨fu - 1, by omega⟩
      obtain ⟨l1, e1, e2⟩ := copyL_eq b 12 0 g_fuel la (by omega) (by unfold g_fuel; omega) (fun k hk => by omega)
      have hl : Tb t wo dy P i l1 := fun o w h1 h2 h3 => by rw [e2 _ (by omega)]; exact hb o w h1 h2 h3
      obtain ⟨b1, f1, f2⟩ := outer2_eq h (n := i) hP1 hP (by omega) hl 6 0 g_fuel b (by omega) (by unfold g_fuel; omega) (fun o' w' h1 => by omega)
      rw [m_findBrings_L26_s, if_neg (fun z => absurd ((nI_ltI (by omega) (by omega)).mp z) (by omega)), show m_findBrings_L35 b g_fuel 0 la = _ from e1, bnd_s, show m_findBrings_L65 (nI P) (lN (10 ^ i)) tenths sortWorth sortDays l1 g_fuel 0 b = _ from f1, bnd_s, show (nI (i + 1) + 1 : Int32) = nI (i + 1 + 1) from nI_1 _, show (lN (10 ^ i) * 10 : Int64) = lN (10 ^ (i + 1)) by rw [Nat.pow_succ]; exact lN_mul _ 10]
      exact ih (i + 1) fu b1 l1 (by omega) (by omega) f2
  obtain ⟨b0, c1, c2⟩ := clear_eq 12 0 g_fuel b (by omega) (by unfold g_fuel; omega) (fun k hk => by omega)
  obtain ⟨b', la', d1, d2⟩ := key N 0 g_fuel b0 la (by omega) (by unfold g_fuel; omega) (fun o w h1 h2 h3 => by rw [c2 _ (by omega)]; rfl)
  refine ⟨b', la', ?_, d2⟩
  unfold m_findBrings
  rw [show m_findBrings_L2 g_fuel 0 b = _ from c1, bnd_s, show m_findBrings_L26 (nI N) (nI P) tenths sortWorth sortDays g_fuel 1 1 b0 la = _ from d1, bnd2_s]
theorem cz0 : lg_cmp (lN 0) 0 = 0 := (lg_cmp_eq _ _).mpr rfl
/-- the greatest common divisor -/
theorem common_eq : ∀ (k a b : Nat), b < 2 ^ k → a < 2 ^ 62 → b < 2 ^ 62 → (0 < a ∨ 0 < b) → ∃ g, 0 < g ∧ g < 2 ^ 62 ∧ x_common (2 * k + 2) (lN a) (lN b) = some (lN g) ∧ ∀ fu, 2 * k + 2 ≤ fu → m_expected_L83 fu (lN a) (lN b) = some (lN g) := by
  intro k
  induction k with
  | zero =>
    intro a b hb ha hb2 hp
    have : b = 0 := by omega
    subst this
    refine ⟨a, by omega, ha, ?_, fun fu hf => ?_⟩
    · show x_common_step (x_common 1) (lN a) (lN 0) = _
      unfold x_common_step
      rw [if_pos cz0]
    · obtain ⟨fu, rfl⟩ : ∃ z, fu = z + 1 := ⟨fu - 1, by omega⟩
      rw [m_expected_L83_s, if_pos cz0]
  | succ k ih =>
    intro a b hb ha hb2 hp
    by_cases b0 : b = 0
    · subst b0
      refine ⟨a, by omega, ha, ?_, fun fu hf => ?_⟩
      · show x_common_step (x_common (2 * (k + 1) + 1)) (lN a) (lN 0) = _
        unfold x_common_step
        rw [if_pos cz0]
      · obtain ⟨fu, rfl⟩ : ∃ z, fu = z + 1 := ⟨fu - 1, by omega⟩
        rw [m_expected_L83_s, if_pos cz0]
    · have hne : ∀ c, c ≠ 0 → c < 2 ^ 62 → ¬ lN c = 0 := fun c hc hc2 z => hc ((pk_lEQ (b := 0) (by omega) (by omega)).mp z)
      have hr1 : a % b < b := Nat.mod_lt _ (by omega)
      by_cases r0 : a % b = 0
      · refine ⟨b, by omega, hb2, ?_, fun fu hf => ?_⟩
        · show x_common_step (x_common_step (x_common (2 * k + 2))) (lN a) (lN b) = _
          unfold x_common_step
          rw [if_neg (fun z => hne b b0 hb2 ((lg_cmp_eq _ _).mp z)), pk_lRem (by omega) (by omega) (by omega), r0]
          unfold ckd
          rw [if_neg (hne b b0 hb2), if_pos cz0, bnd_s]
        · obtain ⟨fu, rfl⟩ : ∃ z, fu = z + 2 := ⟨fu - 2, by omega⟩
          rw [m_expected_L83_s, if_neg (fun z => hne b b0 hb2 ((lg_cmp_eq _ _).mp z)), pk_lRem (by omega) (by omega) (by omega), r0]
          unfold ckd
          rw [if_neg (hne b b0 hb2), m_expected_L83_s, if_pos cz0]
      · have hr2 : b % (a % b) < 2 ^ k := by
          have h1 : b % (a % b) < a % b := Nat.mod_lt _ (by omega)
          have h2 : 2 ^ (k + 1) = 2 * 2 ^ k := by rw [Nat.pow_succ]; omega
          rcases Nat.lt_or_ge (a % b) (2 ^ k) with q | q
          · omega
          · have : b % (a % b) ≤ b - (a % b) := by
              rw [Nat.mod_eq_sub_mod (by omega)]
              exact Nat.mod_le _ _
            omega
        have h3 := Nat.mod_le b (a % b)
        obtain ⟨g, g1, g2, g3, g4⟩ := ih (a % b) (b % (a % b)) hr2 (by omega) (by omega) (Or.inl (by omega))
        refine ⟨g, g1, g2, ?_, fun fu hf => ?_⟩
        · show x_common_step (x_common_step (x_common (2 * k + 2))) (lN a) (lN b) = _
          unfold x_common_step
          rw [if_neg (fun z => hne b b0 hb2 ((lg_cmp_eq _ _).mp z)), pk_lRem (by omega) (by omega) (by omega), if_neg (fun z => hne (a % b) r0 (by omega) ((lg_cmp_eq _ _).mp z)), pk_lRem (by omega) (by omega) (by omega), g3]
          unfold ckd
          rw [if_neg (hne b b0 hb2), if_neg (hne (a % b) r0 (by omega)), bnd_s, bnd_s]
        · obtain ⟨fu, rfl⟩ : ∃ z, fu = z + 2 := ⟨fu - 2, by omega⟩
          rw [m_expected_L83_s, if_neg (fun z => hne b b0 hb2 ((lg_cmp_eq _ _).mp z)), pk_lRem (by omega) (by omega) (by omega)]
          unfold ckd
          rw [if_neg (hne b b0 hb2), m_expected_L83_s, if_neg (fun z => hne (a % b) r0 (by omega) ((lg_cmp_eq _ _).mp z)), pk_lRem (by omega) (by omega) (by omega)]
          unfold ckd
          rw [if_neg (hne (a % b) r0 (by omega))]
          exact g4 fu (by omega)
theorem down_eq : ∀ n, n ≤ 6 → m_expected_L51 (nI n) g_fuel 1 0 = some (lN (10 ^ n)) := by decide +kernel
theorem unit_eq : ∀ n, n ≤ 5 → m_wise_L63 (nI (n + 1)) g_fuel 1 1 = some (lN (10 ^ n)) := by decide +kernel
theorem P_expected {B : Bk} (hB : B.ok) {room mroom : Nat → Int32} (hX : ∀ p, p < B.pe → room p = nI (B.rm p)) (hM : ∀ p, p < B.pe → mroom p = nI (B.rm p)) (h : SD tenths sortWorth sortDays t wo dy) (b la : Nat → Int64) (v n u : Int32) : ∃ r b' la', x_expected room (nI B.pe) tenths sortWorth sortDays v n u = some r ∧ m_expected (nI B.pe) mroom tenths sortWorth sortDays b la v n u = some (r, b', la') := by
  have b1 := hB.1
  unfold x_expected m_expected
  rcases isA_cases (v := v) (Nat.le_trans b1 (by decide)) with ⟨p, hp, rfl, -, -, e3, e4⟩ | ⟨-, -, -, e3, e4⟩
  rotate_left
  · rw [e3, e4, bnd_s, bnd_s, if_pos rfl, if_pos rfl]; exact ⟨_, _, _, rfl, rfl⟩
  rw [e3, e4, bnd_s, bnd_s, if_neg n10, if_neg n10, show m_in n.toInt64 0 6 = x_in n 0 6 from m_in_eq n 0 6, show m_in u.toInt64 0 1 = x_in u 0 1 from m_in_eq u 0 1]
  have h6 : x_in n 0 6 = x_in n 0 (nI 6) := rfl
  rcases x_in0 (v := n) 6 (by omega) with ⟨N, hN, rfl, z⟩ | ⟨-, z⟩
  rotate_left
  · rw [h6, z, bnd_s, bnd_s, if_pos rfl, if_pos rfl]; exact ⟨_, _, _, rfl, rfl⟩
  rw [h6, z, bnd_s, bnd_s, if_neg n10, if_neg n10]
  rcases in01 u 0 1 with z | z
  · rw [z, bnd_s, bnd_s, if_pos rfl, if_pos rfl]; exact ⟨_, _, _, rfl, rfl⟩
  rw [z, bnd_s, bnd_s, if_neg n10, if_neg n10]
  simp (disch := omega) only [nI_cl, ck_nI]
  obtain ⟨c1, c2, -, -, -⟩ := hB.2.2.1 p hp
  obtain ⟨p1, p2⟩ := pow_le6 N hN
  have hMl := Mn_le (dy := dy) (fun j hj => (h.1 j hj).2.2.2.1) h.2 N (B.rm p) 0 0
  obtain ⟨b', la', d1, d2⟩ := brings_eq h (P := B.rm p) (N := N) c1 c2 hN b la
  have hb0 : b' (0 : Int32).toNatClampNeg = lN (Mn t wo dy N (B.rm p) 0 0) := d2 0 0 (by omega) (by omega) (by omega)
  have hpos : 0 < 10 ^ N := Nat.pow_pos (by omega)
  obtain ⟨g, g1, g2, g3, g4⟩ := common_eq 20 (Mn t wo dy N (B.rm p) 0 0) (10 ^ N) (by omega) (by omega) (by omega) (Or.inr hpos)
  have hm := mean_eq h 7 N (B.rm p) 0 0 (by omega) hN (by omega)
  have hmono : ∀ (k : Nat) (a b r : Int64), x_common k a b = some r → x_common (k + 1) a b = some r := by
    intro k
    induction k with
    | zero => intro a b r hh; cases hh
    | succ k ih =>
      intro a b r hh
      have hh : x_common_step (x_common k) a b = some r := hh
      show x_common_step (x_common (k + 1)) a b = some r
      unfold x_common_step at hh ⊢
      by_cases q : lg_cmp b 0 = 0
      · rw [if_pos q] at hh ⊢; exact hh
      · rw [if_neg q] at hh ⊢
        obtain ⟨q1, q2⟩ := ckd_some hh
        obtain ⟨r2, q3, q4⟩ := bnd_some q2
        unfold ckd
        rw [if_neg q1, ih _ _ _ q3]
        exact q4
  have hup : ∀ (d k : Nat) (a b r : Int64), x_common k a b = some r → x_common (k + d) a b = some r := by
    intro d
    induction d with
    | zero => intro k a b r hh; exact hh
    | succ d ih => intro k a b r hh; exact hmono _ _ _ _ (ih k a b r hh)
  have g3' : x_common64 (lN (Mn t wo dy N (B.rm p) 0 0)) (lN (10 ^ N)) = some (lN g) := hup 22 42 _ _ _ g3
  have hg0 : ¬ lN g = 0 := fun z => by
    have := (pk_lEQ (b := 0) (by omega) (by omega)).mp z
    omega
  rw [hX p hp, hM p hp, show x_mean7 tenths sortWorth sortDays (nI N) (nI (B.rm p)) 0 0 = _ from hm, bnd_s, power_eq N hN, bnd_s, g3', bnd_s, d1, bnd2_s, down_eq N hN, bnd_s, hb0, g4 g_fuel (by unfold g_fuel; omega), bnd_s]
  unfold ckd
  rw [if_neg hg0, if_neg hg0, if_neg hg0, if_neg hg0]
  split
  · exact ⟨_, _, _, rfl, rfl⟩
  · exact ⟨_, _, _, rfl, rfl⟩
theorem P_wise (h : SD tenths sortWorth sortDays t wo dy) {s : Nat} (hs : s < 8) (hsb : ∀ j, j < 3 → s.testBit j = decide (dy j ≠ 0)) (b la : Nat → Int64) (v n f : Int32) : ∃ r b' la', x_wise tenths sortWorth sortDays v n f = some r ∧ m_wise tenths sortWorth sortDays (nI s) b la v n f = some (r, b', la') := by
  unfold x_wise m_wise
  rw [show m_in v.toInt64 0 2 = x_in v 0 2 from m_in_eq v 0 2, show m_in n.toInt64 1 6 = x_in n 1 6 from m_in_eq n 1 6, show m_in f.toInt64 1 5 = x_in f 1 5 from m_in_eq f 1 5]
  have h2 : x_in v 0 2 = x_in v 0 (nI 2) := rfl
  rcases x_in0 (v := v) 2 (by omega) with ⟨j, hj, rfl, z⟩ | ⟨-, z⟩
  rotate_left
  · rw [h2, z, bnd_s, bnd_s, if_pos rfl, if_pos rfl]; exact ⟨_, _, _, rfl, rfl⟩
  rw [h2, z, bnd_s, bnd_s, if_neg n10, if_neg n10]
  obtain ⟨k1, k2, k3, k4, k5, k6⟩ := h.1 j (by omega)
  simp (disch := omega) only [nI_cl, ck_nI]
  rw [k3, has_eq (by omega) (by omega), bnd_s, hsb j (by omega)]
  by_cases d0 : dy j = 0
  · have hd : decide (dy j ≠ 0) = false := by simp [d0]
    rw [if_pos (L_eq 0 d0), hd, if_neg (show ¬ (false = true) by decide), if_pos rfl]; exact ⟨_, _, _, rfl, rfl⟩
  have hd : decide (dy j ≠ 0) = true := by simp [d0]
  rw [if_neg (L_ne 0 d0 (by omega) (by omega)), hd, if_pos rfl, if_neg n10]
  have lo1 : ∀ (x : Int32) (k : Nat), k < 100 → x_in x 1 (nI k) = some 1 → ∃ m, 1 ≤ m ∧ m ≤ k ∧ x = nI m := by
    intro x k hk hh
    unfold x_in at hh
    by_cases q1 : x < 1
    · rw [if_pos q1] at hh; cases hh
    · rw [if_neg q1] at hh
      by_cases q2 : nI k < x
      · rw [if_pos q2] at hh; cases hh
      · have e1 : (1 : Int32).toInt = 1 := rfl
        have h1 : ¬ x.toInt < (1 : Int32).toInt := fun z => q1 (Int32.lt_iff_toInt_lt.mpr z)
        obtain ⟨m, hm, rfl⟩ := nI_of (x := x) (fun z => by
          have := Int32.lt_iff_toInt_lt.mp z
          have e0 : (0 : Int32).toInt = 0 := rfl
          omega)
        rw [nI_toInt hm] at h1
        have h2 : ¬ k < m := fun z => q2 ((nI_ltI (by omega) hm).mpr z)
        exact ⟨m, by omega, by omega, rfl⟩
  rcases in01 n 1 6 with z | z
  · rw [z, bnd_s, bnd_s, if_pos rfl, if_pos rfl]; exact ⟨_, _, _, rfl, rfl⟩
  obtain ⟨N, n1, n2, rfl⟩ := lo1 n 6 (by omega) z
  rw [z, bnd_s, bnd_s, if_neg n10, if_neg n10]
  rcases in01 f 1 5 with z | z
  · rw [z, bnd_s, bnd_s, if_pos rfl, if_pos rfl]; exact ⟨_, _, _, rfl, rfl⟩
  obtain ⟨F, f1, f2, rfl⟩ := lo1 f 5 (by omega) z
  rw [z, bnd_s, bnd_s, if_neg n10, if_neg n10]
  obtain ⟨N, rfl⟩ : ∃ q, N = q + 1 := ⟨N - 1, by omega⟩
  obtain ⟨b', la', d1, d2⟩ := brings_eq h (P := F) (N := N) f1 f2 (by omega) b la
  have htk := taken_eq h (fm := x_mean tenths sortWorth sortDays 7) (g := Mn t wo dy N) (n := N) (f := F) (o := 0) (w := 0) (by omega) f1 (by omega) (fun f o w hs => mean_eq h 7 N f o w (by omega) (by omega) hs) (j := j) (by omega)
  have hm := mean_eq h 7 N F 0 0 (by omega) (by omega) (by omega)
  have hb := bb_sum (dy j)
  have hb1 : bb (dy j) 1 + bb (dy j) 2 + bb (dy j) 3 = 1 := by
    unfold bb
    have : dy j = 1 ∨ dy j = 2 ∨ dy j = 3 := by omega
    rcases this with e | e | e <;> rw [e] <;> rfl
  rw [show x_taken7 tenths sortWorth sortDays (nI j) (nI (N + 1)) (nI F) 0 0 = _ from htk, bnd_s, show (nI (N + 1) - 1 : Int32) = nI N from nI_pred N, show x_mean7 tenths sortWorth sortDays (nI N) (nI F) 0 0 = _ from hm, bnd_s, d1, bnd2_s, unit_eq N (by omega), bnd_s, show m_behind sortDays 0 (nI j) = _ from behind_eq h (w := 0) (by omega) (by omega), bnd_s, ck_nI (by omega) (by omega), nI_cl (by omega), k2, nI_l (by omega), Nat.zero_add, d2 _ _ (by omega) (by omega) (by omega), show b' (0 : Int32).toNatClampNeg = lN (Mn t wo dy N F 0 0) from d2 0 0 (by omega) (by omega) (by omega), lN_mul, lN_add]
  have e9 : wo j * 10 ^ N + Mn t wo dy N (F - bb (dy j) 2 - bb (dy j) 3) (bb (dy j) 2) (bb (dy j) 3) = Tk wo dy (Mn t wo dy N) N F 0 0 j := by
    unfold Tk
    rw [if_neg (by omega), Nat.zero_add]
    congr 2; omega
  rw [e9]
  split
  · exact ⟨_, _, _, rfl, rfl⟩
  · exact ⟨_, _, _, rfl, rfl⟩
end PMEAN2
