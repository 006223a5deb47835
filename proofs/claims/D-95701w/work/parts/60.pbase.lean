/-! PURE LAW, base: numbers -/
theorem nI_lit (k : Nat) : (OfNat.ofNat k : Int32) = nI k := rfl
theorem nI_cl {n : Nat} (h : n < 2 ^ 31) : (nI n).toNatClampNeg = n := nI_clamp h
theorem nI_subN {a b : Nat} (h : b ≤ a) : nI a - nI b = nI (a - b) := pk_sub h
theorem nI_m1 {a : Nat} (h : 1 ≤ a) : nI a + (-1) = nI (a - 1) := by
  obtain ⟨b, rfl⟩ : ∃ b, a = b + 1 := ⟨a - 1, by omega⟩
  exact pk_m1 b
theorem ck_nI {α : Type} {i n : Nat} {k : Option α} (h : i < n) (hn : n < 2 ^ 31) : ck (nI i) n k = k := ck_in (vp_in_nI h hn)
theorem bnd_s {α β : Type} (a : α) (f : α → Option β) : bnd (some a) f = f a := rfl
theorem bnd2_s {α0 α1 β : Type} (a0 : α0) (a1 : α1) (f : α0 → α1 → Option β) : bnd2 (some (a0, a1)) f = f a0 a1 := rfl
theorem bnd3_s {α0 α1 α2 β : Type} (a0 : α0) (a1 : α1) (a2 : α2) (f : α0 → α1 → α2 → Option β) : bnd3 (some (a0, a1, a2)) f = f a0 a1 a2 := rfl
theorem bnd4_s {α0 α1 α2 α3 β : Type} (a0 : α0) (a1 : α1) (a2 : α2) (a3 : α3) (f : α0 → α1 → α2 → α3 → Option β) : bnd4 (some (a0, a1, a2, a3)) f = f a0 a1 a2 a3 := rfl
theorem bnd5_s {α0 α1 α2 α3 α4 β : Type} (a0 : α0) (a1 : α1) (a2 : α2) (a3 : α3) (a4 : α4) (f : α0 → α1 → α2 → α3 → α4 → Option β) : bnd5 (some (a0, a1, a2, a3, a4)) f = f a0 a1 a2 a3 a4 := rfl
theorem bnd6_s {α0 α1 α2 α3 α4 α5 β : Type} (a0 : α0) (a1 : α1) (a2 : α2) (a3 : α3) (a4 : α4) (a5 : α5) (f : α0 → α1 → α2 → α3 → α4 → α5 → Option β) : bnd6 (some (a0, a1, a2, a3, a4, a5)) f = f a0 a1 a2 a3 a4 a5 := rfl
theorem bnd7_s {α0 α1 α2 α3 α4 α5 α6 β : Type} (a0 : α0) (a1 : α1) (a2 : α2) (a3 : α3) (a4 : α4) (a5 : α5) (a6 : α6) (f : α0 → α1 → α2 → α3 → α4 → α5 → α6 → Option β) : bnd7 (some (a0, a1, a2, a3, a4, a5, a6)) f = f a0 a1 a2 a3 a4 a5 a6 := rfl
theorem bnd8_s {α0 α1 α2 α3 α4 α5 α6 α7 β : Type} (a0 : α0) (a1 : α1) (a2 : α2) (a3 : α3) (a4 : α4) (a5 : α5) (a6 : α6) (a7 : α7) (f : α0 → α1 → α2 → α3 → α4 → α5 → α6 → α7 → Option β) : bnd8 (some (a0, a1, a2, a3, a4, a5, a6, a7)) f = f a0 a1 a2 a3 a4 a5 a6 a7 := rfl
theorem upd_s {f : Nat → Int32} {k : Nat} {v : Int32} : upd f k v k = v := by simp [upd]
theorem upd_n {f : Nat → Int32} {k j : Nat} {v : Int32} (h : j ≠ k) : upd f k v j = f j := by simp [upd, h]
theorem nI_m9 {n : Nat} (h : n < 2 ^ 31) : nI n ≠ -9 := by
  intro e
  have := congrArg Int32.toInt e
  rw [nI_toInt h] at this
  have h2 : ((-9 : Int32)).toInt = -9 := rfl
  omega
theorem L_ne (k : Nat) {n : Nat} (h : n ≠ k) (hn : n < 2 ^ 31) (hk : k < 2 ^ 31) : ¬ nI n = (OfNat.ofNat k : Int32) := fun z => h ((nI_eq hn hk).mp z)
theorem L_eq (k : Nat) {n : Nat} (h : n = k) : nI n = (OfNat.ofNat k : Int32) := by subst h; rfl
theorem L_le (k : Nat) {n : Nat} (h : k ≤ n) (hn : n < 2 ^ 31) : (OfNat.ofNat k : Int32) ≤ nI n := (nI_leI (by omega) hn).mpr h
theorem L_nle (k : Nat) {n : Nat} (h : n < k) (hk : k < 2 ^ 31) : ¬ (OfNat.ofNat k : Int32) ≤ nI n := fun z => absurd ((nI_leI hk (by omega)).mp z) (by omega)
theorem N_le {a b : Nat} (h : a ≤ b) (hb : b < 2 ^ 31) : nI a ≤ nI b := (nI_leI (by omega) hb).mpr h
theorem N_nle {a b : Nat} (h : b < a) (ha : a < 2 ^ 31) : ¬ nI a ≤ nI b := fun z => absurd ((nI_leI ha (by omega)).mp z) (by omega)
theorem N_ne {a b : Nat} (h : a ≠ b) (ha : a < 2 ^ 31) (hb : b < 2 ^ 31) : ¬ nI a = nI b := fun z => h ((nI_eq ha hb).mp z)
