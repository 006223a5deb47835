/-! PURE LAW: the text's words 2: one word of the text -/
set_option maxRecDepth 100000
theorem ltv_v {α β : Type} (a : α) (f : α → β) : ltv a f = f a := rfl
def WB (k j : Nat) : Nat := ((SBYT.getD k []).getD j 0).toNatClampNeg
theorem WB_ok : ∀ k, k < 3 → SLEN.getD k 0 ≤ 6 ∧ 1 ≤ SLEN.getD k 0 ∧ ∀ j, j < SLEN.getD k 0 → ((SBYT.getD k []).getD j 0 &&& 255 : Int32) = nI (WB k j) ∧ WB k j < 128 := by decide +kernel
section PTOK2
variable {n : Nat} {b : Nat → Nat} {text mtext : Nat → Int32}
theorem told_L (X : Tx n b text mtext) {s k : Nat} (hk : k < 3) (hs : s + SLEN.getD k 0 ≤ n) : ∀ (m j fu : Nat), j + m = SLEN.getD k 0 → m + 1 < fu → ∃ r, r_isTold_L24 text (nI s) k fu 1 (nI j) = some r ∧ ((r = 1 ∧ ∀ i, j ≤ i → i < SLEN.getD k 0 → b (s + i) = WB k i) ∨ (r = 0 ∧ ¬ ∀ i, j ≤ i → i < SLEN.getD k 0 → b (s + i) = WB k i)) := by
  have hn := X.1
  obtain ⟨hL, hL1, hW⟩ := WB_ok k hk
  intro m
  induction m with
  | zero =>
    intro j fu hj hf
    obtain ⟨fu, rfl⟩ : ∃ z, fu = z + 1 := ⟨fu - 1, by omega⟩
    rw [r_isTold_L24_s, if_neg n10, if_pos (show (Int32.ofNat (SLEN.getD k 0)) ≤ nI j from N_le (by omega) (by omega))]
    exact ⟨1, rfl, Or.inl ⟨rfl, fun i h1 h2 => by omega⟩⟩
  | succ m ih =>
    intro j fu hj hf
    obtain ⟨fu, rfl⟩ : ∃ z, fu = z + 1 := ⟨fu - 1, by omega⟩
    obtain ⟨h1, h2, h4⟩ := X.2 (s + j) (by omega)
    obtain ⟨w1, w2⟩ := hW j (by omega)
    rw [r_isTold_L24_s, if_neg n10, if_neg (show ¬ (Int32.ofNat (SLEN.getD k 0)) ≤ nI j from N_nle (by omega) (by omega)), nI_add, ck_nI (by omega) (by omega), ck_nI (by omega) (by omega), nI_cl (by omega), nI_cl (by omega), h4, w1, show (nI j + 1 : Int32) = nI (j + 1) from nI_1 j]
    by_cases e : b (s + j) = WB k j
    · rw [if_pos ((sx_eq _ h1 _ w2).mpr e)]
      obtain ⟨r, r1, r2⟩ := ih (j + 1) fu (by omega) (by omega)
      refine ⟨r, r1, ?_⟩
      rcases r2 with ⟨q1, q2⟩ | ⟨q1, q2⟩
      · refine Or.inl ⟨q1, fun i i1 i2 => ?_⟩
        by_cases ij : i = j
        · subst ij; exact e
        · exact q2 i (by omega) i2
      · exact Or.inr ⟨q1, fun z => q2 (fun i i1 i2 => z i (by omega) i2)⟩
    · rw [if_neg (fun z => e ((sx_eq _ h1 _ w2).mp z))]
      obtain ⟨fu, rfl⟩ : ∃ z, fu = z + 1 := ⟨fu - 1, by omega⟩
      rw [r_isTold_L24_s, if_pos rfl]
      exact ⟨0, rfl, Or.inr ⟨rfl, fun z => e (z j (Nat.le_refl _) (by omega))⟩⟩
theorem told (X : Tx n b text mtext) {s e k : Nat} (hk : k < 3) (hs : s < e) (he : e ≤ n) : ∃ r, r_isTold text (nI e) (nI s) k = some r ∧ ((r = 1 ∧ e - s = SLEN.getD k 0 ∧ ∀ i, i < SLEN.getD k 0 → b (s + i) = WB k i) ∨ (r = 0 ∧ ¬ (e - s = SLEN.getD k 0 ∧ ∀ i, i < SLEN.getD k 0 → b (s + i) = WB k i))) := by
  have hn := X.1
  obtain ⟨hL, hL1, hW⟩ := WB_ok k hk
  unfold r_isTold
  rw [nI_subN (by omega)]
  by_cases q : e - s = SLEN.getD k 0
  · rw [if_pos (show nI (e - s) = Int32.ofNat (SLEN.getD k 0) by rw [q]; rfl)]
    obtain ⟨r, r1, r2⟩ := told_L X hk (s := s) (by omega) (SLEN.getD k 0) 0 1000 (by omega) (by omega)
    rw [ltv_v, show r_isTold_L24 text (nI s) k g_fuel 1 0 = _ from r1, bnd_s]
    refine ⟨r, ?_, ?_⟩
    · exact ckz_in (by rcases r2 with z | z <;> simp [z.1])
    · rcases r2 with z | z
      · exact Or.inl ⟨z.1, q, fun i hi => z.2 i (by omega) hi⟩
      · exact Or.inr ⟨z.1, fun y => z.2 (fun i _ hi => y.2 i hi)⟩
  · rw [if_neg (show ¬ nI (e - s) = Int32.ofNat (SLEN.getD k 0) from N_ne q (by omega) (by omega))]
    rw [ltv_v, show r_isTold_L24 text (nI s) k g_fuel 0 0 = some 0 from rfl, bnd_s]
    exact ⟨0, rfl, Or.inr ⟨rfl, fun y => q y.1⟩⟩
theorem enc3 (b : Nat → Nat) (s : Nat) : enc b s 3 = 1024 * (b (s + 0) - 96) + 32 * (b (s + 1) - 96) + (b (s + 2) - 96) := by
  simp only [enc]; omega
theorem enc5 (b : Nat → Nat) (s : Nat) : enc b s 5 = 1048576 * (b (s + 0) - 96) + 32768 * (b (s + 1) - 96) + 1024 * (b (s + 2) - 96) + 32 * (b (s + 3) - 96) + (b (s + 4) - 96) := by
  simp only [enc]; omega
theorem enc6 (b : Nat → Nat) (s : Nat) : enc b s 6 = 33554432 * (b (s + 0) - 96) + 1048576 * (b (s + 1) - 96) + 32768 * (b (s + 2) - 96) + 1024 * (b (s + 3) - 96) + 32 * (b (s + 4) - 96) + (b (s + 5) - 96) := by
  simp only [enc]; omega
theorem W0 : SLEN.getD 0 0 = 6 ∧ WB 0 0 = 112 ∧ WB 0 1 = 101 ∧ WB 0 2 = 114 ∧ WB 0 3 = 115 ∧ WB 0 4 = 111 ∧ WB 0 5 = 110 := by decide +kernel
theorem W1 : SLEN.getD 1 0 = 3 ∧ WB 1 0 = 97 ∧ WB 1 1 = 115 ∧ WB 1 2 = 107 := by decide +kernel
theorem W2 : SLEN.getD 2 0 = 5 ∧ WB 2 0 = 104 ∧ WB 2 1 = 97 ∧ WB 2 2 = 110 ∧ WB 2 3 = 103 ∧ WB 2 4 = 115 := by decide +kernel
/-- a number of letters tells how many they are -/
theorem enc_n {b : Nat → Nat} {s m : Nat} (h : ∀ j, j < m → 97 ≤ b (s + j) ∧ b (s + j) ≤ 122) (hm : 1 ≤ m) {E k : Nat} (hE : enc b s (min m 7) = E) (h1 : 32 ^ k ≤ E) (h2 : E < 32 ^ (k + 1)) (hk : k < 6) : m = k + 1 := by
  obtain ⟨q1, q2⟩ := enc_le (b := b) (s := s) (min m 7) (fun j hj => h j (by omega))
  have q3 := q2 (by omega)
  rw [hE] at q1 q3
  have a1 : ¬ min m 7 ≤ k := fun z => by
    have : (32 : Nat) ^ (min m 7) ≤ 32 ^ k := Nat.pow_le_pow_right (by omega) z
    omega
  have a2 : ¬ k + 1 ≤ min m 7 - 1 := fun z => by
    have : (32 : Nat) ^ (k + 1) ≤ 32 ^ (min m 7 - 1) := Nat.pow_le_pow_right (by omega) z
    omega
  omega
theorem word_eq (X : Tx n b text mtext) {s e : Nat} (hs : s < e) (he : e ≤ n) (hb : ∀ j, s + j < e → 97 ≤ b (s + j) ∧ b (s + j) ≤ 122) : ∃ so : Nat, r_next_L98 text (nI e) (nI s) g_fuel 0 6 = some (nI so) ∧ ((so = 0 ∧ enc b s (min (e - s) 7) = 542723566) ∨ (so = 1 ∧ enc b s (min (e - s) 7) = 1643) ∨ (so = 2 ∧ enc b s (min (e - s) 7) = 8435955) ∨ (so = 6 ∧ enc b s (min (e - s) 7) ≠ 542723566 ∧ enc b s (min (e - s) 7) ≠ 1643 ∧ enc b s (min (e - s) 7) ≠ 8435955)) := by
  have hn := X.1
  obtain ⟨v0, w00, w01, w02, w03, w04, w05⟩ := W0
  obtain ⟨v1, w10, w11, w12⟩ := W1
  obtain ⟨v2, w20, w21, w22, w23, w24⟩ := W2
  obtain ⟨r0, t0, u0⟩ := told X (k := 0) (by omega) hs he
  obtain ⟨r1, t1, u1⟩ := told X (k := 1) (by omega) hs he
  obtain ⟨r2, t2, u2⟩ := told X (k := 2) (by omega) hs he
  rw [v0] at u0; rw [v1] at u1; rw [v2] at u2
  have hb2 : ∀ j, j < e - s → 97 ≤ b (s + j) ∧ b (s + j) ≤ 122 := fun j hj => hb j (by omega)
  have k0 : (e - s = 6 ∧ ∀ i, i < 6 → b (s + i) = WB 0 i) ↔ enc b s (min (e - s) 7) = 542723566 := by
    constructor
    · intro ⟨z1, z2⟩
      rw [z1, show min 6 7 = 6 from rfl, enc6, z2 0 (by omega), z2 1 (by omega), z2 2 (by omega), z2 3 (by omega), z2 4 (by omega), z2 5 (by omega), w00, w01, w02, w03, w04, w05]
    · intro z
      have z1 : e - s = 6 := enc_n (k := 5) hb2 (by omega) z (by decide) (by decide) (by omega)
      refine ⟨z1, fun i hi => ?_⟩
      rw [z1, show min 6 7 = 6 from rfl, enc6] at z
      have b0 := hb2 0 (by omega)
      have b1 := hb2 1 (by omega)
      have b2 := hb2 2 (by omega)
      have b3 := hb2 3 (by omega)
      have b4 := hb2 4 (by omega)
      have b5 := hb2 5 (by omega)
      match i, hi with
      | 0, _ => rw [w00]; omega
      | 1, _ => rw [w01]; omega
      | 2, _ => rw [w02]; omega
      | 3, _ => rw [w03]; omega
      | 4, _ => rw [w04]; omega
      | 5, _ => rw [w05]; omega
      | i + 6, hi => exact absurd hi (by omega)
  have k1 : (e - s = 3 ∧ ∀ i, i < 3 → b (s + i) = WB 1 i) ↔ enc b s (min (e - s) 7) = 1643 := by
    constructor
    · intro ⟨z1, z2⟩
      rw [z1, show min 3 7 = 3 from rfl, enc3, z2 0 (by omega), z2 1 (by omega), z2 2 (by omega), w10, w11, w12]
    · intro z
      have z1 : e - s = 3 := enc_n (k := 2) hb2 (by omega) z (by decide) (by decide) (by omega)
      refine ⟨z1, fun i hi => ?_⟩
      rw [z1, show min 3 7 = 3 from rfl, enc3] at z
      have b0 := hb2 0 (by omega)
      have b1 := hb2 1 (by omega)
      have b2 := hb2 2 (by omega)
      match i, hi with
      | 0, _ => rw [w10]; omega
      | 1, _ => rw [w11]; omega
      | 2, _ => rw [w12]; omega
      | i + 3, hi => exact absurd hi (by omega)
  have k2 : (e - s = 5 ∧ ∀ i, i < 5 → b (s + i) = WB 2 i) ↔ enc b s (min (e - s) 7) = 8435955 := by
    constructor
    · intro ⟨z1, z2⟩
      rw [z1, show min 5 7 = 5 from rfl, enc5, z2 0 (by omega), z2 1 (by omega), z2 2 (by omega), z2 3 (by omega), z2 4 (by omega), w20, w21, w22, w23, w24]
    · intro z
      have z1 : e - s = 5 := enc_n (k := 4) hb2 (by omega) z (by decide) (by decide) (by omega)
      refine ⟨z1, fun i hi => ?_⟩
      rw [z1, show min 5 7 = 5 from rfl, enc5] at z
      have b0 := hb2 0 (by omega)
      have b1 := hb2 1 (by omega)
      have b2 := hb2 2 (by omega)
      have b3 := hb2 3 (by omega)
      have b4 := hb2 4 (by omega)
      match i, hi with
      | 0, _ => rw [w20]; omega
      | 1, _ => rw [w21]; omega
      | 2, _ => rw [w22]; omega
      | 3, _ => rw [w23]; omega
      | 4, _ => rw [w24]; omega
      | i + 5, hi => exact absurd hi (by omega)
  rw [k0] at u0; rw [k1] at u1; rw [k2] at u2
  have hS : r_next_L98 text (nI e) (nI s) g_fuel 0 6 = some (if r2 = 0 then (if r1 = 0 then (if r0 = 0 then 6 else 0) else 1) else 2) := by
    obtain ⟨F, hF⟩ : ∃ F, g_fuel = F + 4 := ⟨996, rfl⟩
    rw [hF, r_next_L98_s, if_neg (by decide), show ∀ k : Option Int32, ck 0 3 k = k from fun k => ck_nI (i := 0) (n := 3) (by omega) (by omega), show (0 : Int32).toNatClampNeg = 0 from rfl, t0, bnd_s, show (0 + 1 : Int32) = nI 1 from rfl]
    have step1 : ∀ so : Int32, r_next_L98 text (nI e) (nI s) (F + 3) (nI 1) so = some (if r2 = 0 then (if r1 = 0 then so else 1) else 2) := by
      intro so
      rw [r_next_L98_s, if_neg (by decide), ck_nI (i := 1) (n := 3) (by omega) (by omega), show (nI 1).toNatClampNeg = 1 from rfl, t1, bnd_s, show (nI 1 + 1 : Int32) = nI 2 from rfl]
      have step2 : ∀ so : Int32, r_next_L98 text (nI e) (nI s) (F + 2) (nI 2) so = some (if r2 = 0 then so else 2) := by
        intro so
        rw [r_next_L98_s, if_neg (by decide), ck_nI (i := 2) (n := 3) (by omega) (by omega), show (nI 2).toNatClampNeg = 2 from rfl, t2, bnd_s, show (nI 2 + 1 : Int32) = nI 3 from rfl]
        have step3 : ∀ so : Int32, r_next_L98 text (nI e) (nI s) (F + 1) (nI 3) so = some so := by
          intro so
          rw [r_next_L98_s, if_pos (by decide)]
        rw [step3, step3]
        split <;> rfl
      rw [step2, step2]
      by_cases z : r1 = 0
      · rw [if_pos z, if_pos z]
      · rw [if_neg z, if_neg z]; rfl
    rw [step1, step1]
    by_cases z : r0 = 0
    · rw [if_pos z, if_pos z]
    · rw [if_neg z, if_neg z]
  rw [hS]
  rcases u2 with ⟨z2, y2⟩ | ⟨z2, y2⟩
  · rw [z2, if_neg n10]; exact ⟨2, rfl, Or.inr (Or.inr (Or.inl ⟨rfl, y2⟩))⟩
  · rw [z2, if_pos rfl]
    rcases u1 with ⟨z1, y1⟩ | ⟨z1, y1⟩
    · rw [z1, if_neg n10]; exact ⟨1, rfl, Or.inr (Or.inl ⟨rfl, y1⟩)⟩
    · rw [z1, if_pos rfl]
      rcases u0 with ⟨z0, y0⟩ | ⟨z0, y0⟩
      · rw [z0, if_neg n10]; exact ⟨0, rfl, Or.inl ⟨rfl, y0⟩⟩
      · rw [z0, if_pos rfl]; exact ⟨6, rfl, Or.inr (Or.inr (Or.inr ⟨rfl, y0, y1, y2⟩))⟩
end PTOK2
