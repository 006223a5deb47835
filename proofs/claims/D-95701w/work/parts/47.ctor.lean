set_option maxRecDepth 100000
set_option maxRecDepth 100000
theorem cast_asg {s : State} {C E : String} (h : va_Nw (.castable C E) s) : ∀ comp c0 : ClassId, s.vm.findClass E = some comp → s.vm.findClass C = some c0 → s.vm.assignable c0 comp = true := by
  intro comp c0 h1 h2
  obtain ⟨c3, t3, w1, w2, w3⟩ := Cond.castable_spec h
  cases h2.symm.trans w1
  cases h1.symm.trans w2
  exact w3
def castL (k : Nat) : String := match k with
  | 0 => "SleeveSlips$First"
  | 1 => "SleeveSlips$Short"
  | 2 => "SleeveSlips$Best"
  | 3 => "SleeveSlips$Miller"
  | _ => "SleeveSlips$Tailor"
def adr (q : Nat) (f : Nat → Nat) : Nat → Nat
  | 0 => q
  | k + 1 => f (k + 1)
theorem upd_z (k : Nat) : upd (fun _ => 0) k 0 = fun _ => 0 := by
  funext j; unfold upd; split <;> rfl
def z8 (f : Nat → Int32) : Nat → Int32 := upd (upd (upd (upd (upd (upd (upd (upd f 0 0) 1 0) 2 0) 3 0) 4 0) 5 0) 6 0) 7 0
def z4 (f : Nat → Int32) : Nat → Int32 := upd (upd (upd (upd f 0 0) 1 0) 2 0) 3 0
theorem x_begin_eq (many became left : Nat → Int32) : x_begin many became left = some (z4 many, z8 became, z8 left, 0, 0, 0, 0) := by
  rfl
theorem x_begin_zero : x_begin (fun _ => 0) (fun _ => 0) (fun _ => 0) = some (fun _ => 0, fun _ => 0, fun _ => 0, 0, 0, 0, 0) := by
  rw [x_begin_eq]; simp only [z4, z8, upd_z]
def NCX (U : State) : Prop := ∀ k, va_Nw (.castable (castL k) "SleeveSlips$Person") U
set_option maxHeartbeats 4000000 in
theorem c_pi4_0 {l : Launch} {D : va_G} {d : Nat → ClassId} {sz q x : Nat} {w0 : Value} : MV l yX4_init (ws_ yX4_init cX4_init 2 none) { frames := 1, cells := 0, slots := 0, locals := 12 } D gcl (gty d) NX [(q, .inr (4, [w0]))] [(q, .inr (4, [.ref x]))] sz [.ref q, .ref x] := by
  refine MV.ofC (by decide) _ [(0, .ref q), (1, .ref x)] (Nat.le_of_ble_eq_true rfl) rfl ?_
  intro p e s m below meth c ls Q hx hb hml hown hts hnm hN hA hC hl K
  refine lv_aload_n hx hb dX4_init_0 rfl (lv_at hl 0 rfl) ?_
  refine lv_aload_n hx hb dX4_init_1 rfl (lv_at hl 1 rfl) ?_
  refine h_putD (ci := 4) (v := .ref x) (C := RX4) (T := TX4) (N := 1) hx hb hts in_X4 hown hC 0 rfl rfl 0 (by decide) (hts _ q233) (fun _ h9 => h9) rfl hnm rfl (tyX4_ok 0 (by decide)) rfl rfl dX4_init_2 (fun H locs fs9 hlen hk9 hj9 hC => ?_)
  obtain ⟨b0, rfl⟩ : ∃ b0, fs9 = [b0] := by
    match fs9, hlen with
    | [b0], _ => exact ⟨b0, rfl⟩
  have e1 : b0 = .ref x := Option.some.inj hk9
  subst e1
  have hC : HC D gcl (gty d) _ [(q, .inr (4, [.ref x]))] s H locs := hC
  refine lv_aload_n hx hb dX4_init_5 rfl (lv_at hl 0 rfl) ?_
  refine W.objInit hx hb hown (hts _ q232) (hts _ q78) (hts _ q79) rfl (by rw [hml]; exact hl.1) rfl dX4_init_6 (Nat.le_of_ble_eq_true rfl) (Nat.le_of_ble_eq_true rfl) ?_
  refine W.eq (g2 := F0 m 9 ls []) rfl ?_
  exact K _ _ _ _ hC dX4_init_9

set_option maxHeartbeats 4000000 in
theorem c_pi4_1 {l : Launch} {D : va_G} {d : Nat → ClassId} {sz q x : Nat} {w0 : Value} : MV l yX4_init (ws_ yX4_init cX4_init 2 none) { frames := 1, cells := 0, slots := 0, locals := 12 } D gcl (gty d) NX [(q, .inr (5, [w0, .ref x]))] [(q, .inr (5, [.ref x, .ref x]))] sz [.ref q, .ref x] := by
  refine MV.ofC (by decide) _ [(0, .ref q), (1, .ref x)] (Nat.le_of_ble_eq_true rfl) rfl ?_
  intro p e s m below meth c ls Q hx hb hml hown hts hnm hN hA hC hl K
  refine lv_aload_n hx hb dX4_init_0 rfl (lv_at hl 0 rfl) ?_
  refine lv_aload_n hx hb dX4_init_1 rfl (lv_at hl 1 rfl) ?_
  refine h_putD (ci := 5) (v := .ref x) (C := RX5) (T := TX5) (N := 2) hx hb hts in_X5 hown hC 0 rfl rfl 0 (by decide) (hts _ q233) (fun _ h9 => h9) rfl hnm rfl (tyX5_ok 0 (by decide)) rfl rfl dX4_init_2 (fun H locs fs9 hlen hk9 hj9 hC => ?_)
  obtain ⟨b0, b1, rfl⟩ : ∃ b0 b1, fs9 = [b0, b1] := by
    match fs9, hlen with
    | [b0, b1], _ => exact ⟨b0, b1, rfl⟩
  have e1 : b0 = .ref x := Option.some.inj hk9
  have e1_ : b1 = .ref x := by rcases hj9 1 (by decide) with h | h <;> exact Option.some.inj h
  subst e1
  subst e1_
  have hC : HC D gcl (gty d) _ [(q, .inr (5, [.ref x, .ref x]))] s H locs := hC
  refine lv_aload_n hx hb dX4_init_5 rfl (lv_at hl 0 rfl) ?_
  refine W.objInit hx hb hown (hts _ q232) (hts _ q78) (hts _ q79) rfl (by rw [hml]; exact hl.1) rfl dX4_init_6 (Nat.le_of_ble_eq_true rfl) (Nat.le_of_ble_eq_true rfl) ?_
  refine W.eq (g2 := F0 m 9 ls []) rfl ?_
  exact K _ _ _ _ hC dX4_init_9

set_option maxHeartbeats 4000000 in
theorem c_pi4_2 {l : Launch} {D : va_G} {d : Nat → ClassId} {sz q x : Nat} {w0 : Value} : MV l yX4_init (ws_ yX4_init cX4_init 2 none) { frames := 1, cells := 0, slots := 0, locals := 12 } D gcl (gty d) NX [(q, .inr (6, [w0, .ref x]))] [(q, .inr (6, [.ref x, .ref x]))] sz [.ref q, .ref x] := by
  refine MV.ofC (by decide) _ [(0, .ref q), (1, .ref x)] (Nat.le_of_ble_eq_true rfl) rfl ?_
  intro p e s m below meth c ls Q hx hb hml hown hts hnm hN hA hC hl K
  refine lv_aload_n hx hb dX4_init_0 rfl (lv_at hl 0 rfl) ?_
  refine lv_aload_n hx hb dX4_init_1 rfl (lv_at hl 1 rfl) ?_
  refine h_putD (ci := 6) (v := .ref x) (C := RX6) (T := TX6) (N := 2) hx hb hts in_X6 hown hC 0 rfl rfl 0 (by decide) (hts _ q233) (fun _ h9 => h9) rfl hnm rfl (tyX6_ok 0 (by decide)) rfl rfl dX4_init_2 (fun H locs fs9 hlen hk9 hj9 hC => ?_)
  obtain ⟨b0, b1, rfl⟩ : ∃ b0 b1, fs9 = [b0, b1] := by
    match fs9, hlen with
    | [b0, b1], _ => exact ⟨b0, b1, rfl⟩
  have e1 : b0 = .ref x := Option.some.inj hk9
  have e1_ : b1 = .ref x := by rcases hj9 1 (by decide) with h | h <;> exact Option.some.inj h
  subst e1
  subst e1_
  have hC : HC D gcl (gty d) _ [(q, .inr (6, [.ref x, .ref x]))] s H locs := hC
  refine lv_aload_n hx hb dX4_init_5 rfl (lv_at hl 0 rfl) ?_
  refine W.objInit hx hb hown (hts _ q232) (hts _ q78) (hts _ q79) rfl (by rw [hml]; exact hl.1) rfl dX4_init_6 (Nat.le_of_ble_eq_true rfl) (Nat.le_of_ble_eq_true rfl) ?_
  refine W.eq (g2 := F0 m 9 ls []) rfl ?_
  exact K _ _ _ _ hC dX4_init_9

set_option maxHeartbeats 4000000 in
theorem c_pi4_3 {l : Launch} {D : va_G} {d : Nat → ClassId} {sz q x : Nat} {w0 : Value} : MV l yX4_init (ws_ yX4_init cX4_init 2 none) { frames := 1, cells := 0, slots := 0, locals := 12 } D gcl (gty d) NX [(q, .inr (7, [w0, .ref x, .ref x]))] [(q, .inr (7, [.ref x, .ref x, .ref x]))] sz [.ref q, .ref x] := by
  refine MV.ofC (by decide) _ [(0, .ref q), (1, .ref x)] (Nat.le_of_ble_eq_true rfl) rfl ?_
  intro p e s m below meth c ls Q hx hb hml hown hts hnm hN hA hC hl K
  refine lv_aload_n hx hb dX4_init_0 rfl (lv_at hl 0 rfl) ?_
  refine lv_aload_n hx hb dX4_init_1 rfl (lv_at hl 1 rfl) ?_
  refine h_putD (ci := 7) (v := .ref x) (C := RX7) (T := TX7) (N := 3) hx hb hts in_X7 hown hC 0 rfl rfl 0 (by decide) (hts _ q233) (fun _ h9 => h9) rfl hnm rfl (tyX7_ok 0 (by decide)) rfl rfl dX4_init_2 (fun H locs fs9 hlen hk9 hj9 hC => ?_)
  obtain ⟨b0, b1, b2, rfl⟩ : ∃ b0 b1 b2, fs9 = [b0, b1, b2] := by
    match fs9, hlen with
    | [b0, b1, b2], _ => exact ⟨b0, b1, b2, rfl⟩
  have e1 : b0 = .ref x := Option.some.inj hk9
  have e1_ : b1 = .ref x := by rcases hj9 1 (by decide) with h | h <;> exact Option.some.inj h
  have e2_ : b2 = .ref x := by rcases hj9 2 (by decide) with h | h <;> exact Option.some.inj h
  subst e1
  subst e1_
  subst e2_
  have hC : HC D gcl (gty d) _ [(q, .inr (7, [.ref x, .ref x, .ref x]))] s H locs := hC
  refine lv_aload_n hx hb dX4_init_5 rfl (lv_at hl 0 rfl) ?_
  refine W.objInit hx hb hown (hts _ q232) (hts _ q78) (hts _ q79) rfl (by rw [hml]; exact hl.1) rfl dX4_init_6 (Nat.le_of_ble_eq_true rfl) (Nat.le_of_ble_eq_true rfl) ?_
  refine W.eq (g2 := F0 m 9 ls []) rfl ?_
  exact K _ _ _ _ hC dX4_init_9

set_option maxHeartbeats 4000000 in
theorem c_pi4_4 {l : Launch} {D : va_G} {d : Nat → ClassId} {sz q x : Nat} {w0 : Value} : MV l yX4_init (ws_ yX4_init cX4_init 2 none) { frames := 1, cells := 0, slots := 0, locals := 12 } D gcl (gty d) NX [(q, .inr (8, [w0, .ref x, .ref x]))] [(q, .inr (8, [.ref x, .ref x, .ref x]))] sz [.ref q, .ref x] := by
  refine MV.ofC (by decide) _ [(0, .ref q), (1, .ref x)] (Nat.le_of_ble_eq_true rfl) rfl ?_
  intro p e s m below meth c ls Q hx hb hml hown hts hnm hN hA hC hl K
  refine lv_aload_n hx hb dX4_init_0 rfl (lv_at hl 0 rfl) ?_
  refine lv_aload_n hx hb dX4_init_1 rfl (lv_at hl 1 rfl) ?_
  refine h_putD (ci := 8) (v := .ref x) (C := RX8) (T := TX8) (N := 3) hx hb hts in_X8 hown hC 0 rfl rfl 0 (by decide) (hts _ q233) (fun _ h9 => h9) rfl hnm rfl (tyX8_ok 0 (by decide)) rfl rfl dX4_init_2 (fun H locs fs9 hlen hk9 hj9 hC => ?_)
  obtain ⟨b0, b1, b2, rfl⟩ : ∃ b0 b1 b2, fs9 = [b0, b1, b2] := by
    match fs9, hlen with
    | [b0, b1, b2], _ => exact ⟨b0, b1, b2, rfl⟩
  have e1 : b0 = .ref x := Option.some.inj hk9
  have e1_ : b1 = .ref x := by rcases hj9 1 (by decide) with h | h <;> exact Option.some.inj h
  have e2_ : b2 = .ref x := by rcases hj9 2 (by decide) with h | h <;> exact Option.some.inj h
  subst e1
  subst e1_
  subst e2_
  have hC : HC D gcl (gty d) _ [(q, .inr (8, [.ref x, .ref x, .ref x]))] s H locs := hC
  refine lv_aload_n hx hb dX4_init_5 rfl (lv_at hl 0 rfl) ?_
  refine W.objInit hx hb hown (hts _ q232) (hts _ q78) (hts _ q79) rfl (by rw [hml]; exact hl.1) rfl dX4_init_6 (Nat.le_of_ble_eq_true rfl) (Nat.le_of_ble_eq_true rfl) ?_
  refine W.eq (g2 := F0 m 9 ls []) rfl ?_
  exact K _ _ _ _ hC dX4_init_9

set_option maxHeartbeats 4000000 in
theorem c_pi4_5 {l : Launch} {D : va_G} {d : Nat → ClassId} {sz q x : Nat} {w0 : Value} : MV l yX4_init (ws_ yX4_init cX4_init 2 none) { frames := 1, cells := 0, slots := 0, locals := 12 } D gcl (gty d) NX [(q, .inr (9, [w0, .ref x]))] [(q, .inr (9, [.ref x, .ref x]))] sz [.ref q, .ref x] := by
  refine MV.ofC (by decide) _ [(0, .ref q), (1, .ref x)] (Nat.le_of_ble_eq_true rfl) rfl ?_
  intro p e s m below meth c ls Q hx hb hml hown hts hnm hN hA hC hl K
  refine lv_aload_n hx hb dX4_init_0 rfl (lv_at hl 0 rfl) ?_
  refine lv_aload_n hx hb dX4_init_1 rfl (lv_at hl 1 rfl) ?_
  refine h_putD (ci := 9) (v := .ref x) (C := RX9) (T := TX9) (N := 2) hx hb hts in_X9 hown hC 0 rfl rfl 0 (by decide) (hts _ q233) (fun _ h9 => h9) rfl hnm rfl (tyX9_ok 0 (by decide)) rfl rfl dX4_init_2 (fun H locs fs9 hlen hk9 hj9 hC => ?_)
  obtain ⟨b0, b1, rfl⟩ : ∃ b0 b1, fs9 = [b0, b1] := by
    match fs9, hlen with
    | [b0, b1], _ => exact ⟨b0, b1, rfl⟩
  have e1 : b0 = .ref x := Option.some.inj hk9
  have e1_ : b1 = .ref x := by rcases hj9 1 (by decide) with h | h <;> exact Option.some.inj h
  subst e1
  subst e1_
  have hC : HC D gcl (gty d) _ [(q, .inr (9, [.ref x, .ref x]))] s H locs := hC
  refine lv_aload_n hx hb dX4_init_5 rfl (lv_at hl 0 rfl) ?_
  refine W.objInit hx hb hown (hts _ q232) (hts _ q78) (hts _ q79) rfl (by rw [hml]; exact hl.1) rfl dX4_init_6 (Nat.le_of_ble_eq_true rfl) (Nat.le_of_ble_eq_true rfl) ?_
  refine W.eq (g2 := F0 m 9 ls []) rfl ?_
  exact K _ _ _ _ hC dX4_init_9

set_option maxHeartbeats 4000000 in
theorem c_pi5_1 {l : Launch} {D : va_G} {d : Nat → ClassId} {sz q x : Nat} {w0 : Value} {w1 : Value} : MV l yX5_init (ws_ yX5_init cX5_init 2 none) { frames := 2, cells := 0, slots := 0, locals := 33 } D gcl (gty d) NX [(q, .inr (5, [w0, w1]))] [(q, .inr (5, [.ref x, .ref x]))] sz [.ref q, .ref x] := by
  refine MV.ofC (by decide) _ [(0, .ref q), (1, .ref x)] (Nat.le_of_ble_eq_true rfl) rfl ?_
  intro p e s m below meth c ls Q hx hb hml hown hts hnm hN hA hC hl K
  refine lv_aload_n hx hb dX5_init_0 rfl (lv_at hl 0 rfl) ?_
  refine lv_aload_n hx hb dX5_init_1 rfl (lv_at hl 1 rfl) ?_
  refine h_putD (ci := 5) (v := .ref x) (C := RX5) (T := TX5) (N := 2) hx hb hts in_X5 hown hC 0 rfl rfl 1 (by decide) (hts _ q244) (fun _ h9 => h9) rfl hnm rfl (tyX5_ok 1 (by decide)) rfl rfl dX5_init_2 (fun H locs fs9 hlen hk9 hj9 hC => ?_)
  obtain ⟨b0, b1, rfl⟩ : ∃ b0 b1, fs9 = [b0, b1] := by
    match fs9, hlen with
    | [b0, b1], _ => exact ⟨b0, b1, rfl⟩
  have e1 : b1 = .ref x := Option.some.inj hk9
  subst e1
  have hC : HC D gcl (gty d) _ [(q, .inr (5, [b0, .ref x]))] s H locs := hC
  refine lv_aload_n hx hb dX5_init_5 rfl (lv_at hl 0 rfl) ?_
  refine lv_aload_n hx hb dX5_init_6 rfl (lv_at hl 1 rfl) ?_
  refine hc_v (va_runIN (As := [.ref x]) (rest := []) ⟨hx, hb, hml, hown, hts⟩ c_pi4_1 ⟨va_cnB 1 hts (lw_meth q231) rfl rfl rfl (hN.2.1 5) (hts _ q52) (by decide +kernel) ⟨Nat.le_of_ble_eq_true rfl, Nat.le_of_ble_eq_true rfl⟩, rfl, hts _ q230⟩ (pre_S NX.calling (fun U _ hW => NX.warm hW hN) hC) rfl rfl hl.1 rfl (lv_room (Nat.le_of_ble_eq_true rfl)) dX5_init_7 ⟨Nat.le_refl _, Nat.le_refl _⟩) hA hC (fun H locs hC => ?_)
  exact K _ _ _ _ hC dX5_init_10

set_option maxHeartbeats 4000000 in
theorem c_pi5_3 {l : Launch} {D : va_G} {d : Nat → ClassId} {sz q x : Nat} {w0 : Value} {w1 : Value} : MV l yX5_init (ws_ yX5_init cX5_init 2 none) { frames := 2, cells := 0, slots := 0, locals := 33 } D gcl (gty d) NX [(q, .inr (7, [w0, w1, .ref x]))] [(q, .inr (7, [.ref x, .ref x, .ref x]))] sz [.ref q, .ref x] := by
  refine MV.ofC (by decide) _ [(0, .ref q), (1, .ref x)] (Nat.le_of_ble_eq_true rfl) rfl ?_
  intro p e s m below meth c ls Q hx hb hml hown hts hnm hN hA hC hl K
  refine lv_aload_n hx hb dX5_init_0 rfl (lv_at hl 0 rfl) ?_
  refine lv_aload_n hx hb dX5_init_1 rfl (lv_at hl 1 rfl) ?_
  refine h_putD (ci := 7) (v := .ref x) (C := RX7) (T := TX7) (N := 3) hx hb hts in_X7 hown hC 0 rfl rfl 1 (by decide) (hts _ q244) (fun _ h9 => h9) rfl hnm rfl (tyX7_ok 1 (by decide)) rfl rfl dX5_init_2 (fun H locs fs9 hlen hk9 hj9 hC => ?_)
  obtain ⟨b0, b1, b2, rfl⟩ : ∃ b0 b1 b2, fs9 = [b0, b1, b2] := by
    match fs9, hlen with
    | [b0, b1, b2], _ => exact ⟨b0, b1, b2, rfl⟩
  have e1 : b1 = .ref x := Option.some.inj hk9
  have e2_ : b2 = .ref x := by rcases hj9 2 (by decide) with h | h <;> exact Option.some.inj h
  subst e1
  subst e2_
  have hC : HC D gcl (gty d) _ [(q, .inr (7, [b0, .ref x, .ref x]))] s H locs := hC
  refine lv_aload_n hx hb dX5_init_5 rfl (lv_at hl 0 rfl) ?_
  refine lv_aload_n hx hb dX5_init_6 rfl (lv_at hl 1 rfl) ?_
  refine hc_v (va_runIN (As := [.ref x]) (rest := []) ⟨hx, hb, hml, hown, hts⟩ c_pi4_3 ⟨va_cnB 1 hts (lw_meth q231) rfl rfl rfl (hN.2.1 5) (hts _ q52) (by decide +kernel) ⟨Nat.le_of_ble_eq_true rfl, Nat.le_of_ble_eq_true rfl⟩, rfl, hts _ q230⟩ (pre_S NX.calling (fun U _ hW => NX.warm hW hN) hC) rfl rfl hl.1 rfl (lv_room (Nat.le_of_ble_eq_true rfl)) dX5_init_7 ⟨Nat.le_refl _, Nat.le_refl _⟩) hA hC (fun H locs hC => ?_)
  exact K _ _ _ _ hC dX5_init_10

set_option maxHeartbeats 4000000 in
theorem c_pi6_2 {l : Launch} {D : va_G} {d : Nat → ClassId} {sz q x : Nat} {w0 : Value} {w1 : Value} : MV l yX6_init (ws_ yX6_init cX6_init 2 none) { frames := 2, cells := 0, slots := 0, locals := 33 } D gcl (gty d) NX [(q, .inr (6, [w0, w1]))] [(q, .inr (6, [.ref x, .ref x]))] sz [.ref q, .ref x] := by
  refine MV.ofC (by decide) _ [(0, .ref q), (1, .ref x)] (Nat.le_of_ble_eq_true rfl) rfl ?_
  intro p e s m below meth c ls Q hx hb hml hown hts hnm hN hA hC hl K
  refine lv_aload_n hx hb dX6_init_0 rfl (lv_at hl 0 rfl) ?_
  refine lv_aload_n hx hb dX6_init_1 rfl (lv_at hl 1 rfl) ?_
  refine h_putD (ci := 6) (v := .ref x) (C := RX6) (T := TX6) (N := 2) hx hb hts in_X6 hown hC 0 rfl rfl 1 (by decide) (hts _ q255) (fun _ h9 => h9) rfl hnm rfl (tyX6_ok 1 (by decide)) rfl rfl dX6_init_2 (fun H locs fs9 hlen hk9 hj9 hC => ?_)
  obtain ⟨b0, b1, rfl⟩ : ∃ b0 b1, fs9 = [b0, b1] := by
    match fs9, hlen with
    | [b0, b1], _ => exact ⟨b0, b1, rfl⟩
  have e1 : b1 = .ref x := Option.some.inj hk9
  subst e1
  have hC : HC D gcl (gty d) _ [(q, .inr (6, [b0, .ref x]))] s H locs := hC
  refine lv_aload_n hx hb dX6_init_5 rfl (lv_at hl 0 rfl) ?_
  refine lv_aload_n hx hb dX6_init_6 rfl (lv_at hl 1 rfl) ?_
  refine hc_v (va_runIN (As := [.ref x]) (rest := []) ⟨hx, hb, hml, hown, hts⟩ c_pi4_2 ⟨va_cnB 1 hts (lw_meth q231) rfl rfl rfl (hN.2.1 7) (hts _ q52) (by decide +kernel) ⟨Nat.le_of_ble_eq_true rfl, Nat.le_of_ble_eq_true rfl⟩, rfl, hts _ q230⟩ (pre_S NX.calling (fun U _ hW => NX.warm hW hN) hC) rfl rfl hl.1 rfl (lv_room (Nat.le_of_ble_eq_true rfl)) dX6_init_7 ⟨Nat.le_refl _, Nat.le_refl _⟩) hA hC (fun H locs hC => ?_)
  exact K _ _ _ _ hC dX6_init_10

set_option maxHeartbeats 4000000 in
theorem c_pi6_4 {l : Launch} {D : va_G} {d : Nat → ClassId} {sz q x : Nat} {w0 : Value} {w1 : Value} : MV l yX6_init (ws_ yX6_init cX6_init 2 none) { frames := 2, cells := 0, slots := 0, locals := 33 } D gcl (gty d) NX [(q, .inr (8, [w0, w1, .ref x]))] [(q, .inr (8, [.ref x, .ref x, .ref x]))] sz [.ref q, .ref x] := by
  refine MV.ofC (by decide) _ [(0, .ref q), (1, .ref x)] (Nat.le_of_ble_eq_true rfl) rfl ?_
  intro p e s m below meth c ls Q hx hb hml hown hts hnm hN hA hC hl K
  refine lv_aload_n hx hb dX6_init_0 rfl (lv_at hl 0 rfl) ?_
  refine lv_aload_n hx hb dX6_init_1 rfl (lv_at hl 1 rfl) ?_
  refine h_putD (ci := 8) (v := .ref x) (C := RX8) (T := TX8) (N := 3) hx hb hts in_X8 hown hC 0 rfl rfl 1 (by decide) (hts _ q255) (fun _ h9 => h9) rfl hnm rfl (tyX8_ok 1 (by decide)) rfl rfl dX6_init_2 (fun H locs fs9 hlen hk9 hj9 hC => ?_)
  obtain ⟨b0, b1, b2, rfl⟩ : ∃ b0 b1 b2, fs9 = [b0, b1, b2] := by
    match fs9, hlen with
    | [b0, b1, b2], _ => exact ⟨b0, b1, b2, rfl⟩
  have e1 : b1 = .ref x := Option.some.inj hk9
  have e2_ : b2 = .ref x := by rcases hj9 2 (by decide) with h | h <;> exact Option.some.inj h
  subst e1
  subst e2_
  have hC : HC D gcl (gty d) _ [(q, .inr (8, [b0, .ref x, .ref x]))] s H locs := hC
  refine lv_aload_n hx hb dX6_init_5 rfl (lv_at hl 0 rfl) ?_
  refine lv_aload_n hx hb dX6_init_6 rfl (lv_at hl 1 rfl) ?_
  refine hc_v (va_runIN (As := [.ref x]) (rest := []) ⟨hx, hb, hml, hown, hts⟩ c_pi4_4 ⟨va_cnB 1 hts (lw_meth q231) rfl rfl rfl (hN.2.1 7) (hts _ q52) (by decide +kernel) ⟨Nat.le_of_ble_eq_true rfl, Nat.le_of_ble_eq_true rfl⟩, rfl, hts _ q230⟩ (pre_S NX.calling (fun U _ hW => NX.warm hW hN) hC) rfl rfl hl.1 rfl (lv_room (Nat.le_of_ble_eq_true rfl)) dX6_init_7 ⟨Nat.le_refl _, Nat.le_refl _⟩) hA hC (fun H locs hC => ?_)
  exact K _ _ _ _ hC dX6_init_10

set_option maxHeartbeats 4000000 in
theorem c_pi7_3 {l : Launch} {D : va_G} {d : Nat → ClassId} {sz q x : Nat} {w0 : Value} {w1 : Value} {w2 : Value} : MV l yX7_init (ws_ yX7_init cX7_init 2 none) { frames := 3, cells := 0, slots := 0, locals := 54 } D gcl (gty d) NX [(q, .inr (7, [w0, w1, w2]))] [(q, .inr (7, [.ref x, .ref x, .ref x]))] sz [.ref q, .ref x] := by
  refine MV.ofC (by decide) _ [(0, .ref q), (1, .ref x)] (Nat.le_of_ble_eq_true rfl) rfl ?_
  intro p e s m below meth c ls Q hx hb hml hown hts hnm hN hA hC hl K
  refine lv_aload_n hx hb dX7_init_0 rfl (lv_at hl 0 rfl) ?_
  refine lv_aload_n hx hb dX7_init_1 rfl (lv_at hl 1 rfl) ?_
  refine h_putD (ci := 7) (v := .ref x) (C := RX7) (T := TX7) (N := 3) hx hb hts in_X7 hown hC 0 rfl rfl 2 (by decide) (hts _ q266) (fun _ h9 => h9) rfl hnm rfl (tyX7_ok 2 (by decide)) rfl rfl dX7_init_2 (fun H locs fs9 hlen hk9 hj9 hC => ?_)
  obtain ⟨b0, b1, b2, rfl⟩ : ∃ b0 b1 b2, fs9 = [b0, b1, b2] := by
    match fs9, hlen with
    | [b0, b1, b2], _ => exact ⟨b0, b1, b2, rfl⟩
  have e1 : b2 = .ref x := Option.some.inj hk9
  subst e1
  have hC : HC D gcl (gty d) _ [(q, .inr (7, [b0, b1, .ref x]))] s H locs := hC
  refine lv_aload_n hx hb dX7_init_5 rfl (lv_at hl 0 rfl) ?_
  refine lv_aload_n hx hb dX7_init_6 rfl (lv_at hl 1 rfl) ?_
  refine hc_v (va_runIN (As := [.ref x]) (rest := []) ⟨hx, hb, hml, hown, hts⟩ c_pi5_3 ⟨va_cnB 1 hts (lw_meth q242) rfl rfl rfl (hN.2.1 9) (hts _ q53) (by decide +kernel) ⟨Nat.le_of_ble_eq_true rfl, Nat.le_of_ble_eq_true rfl⟩, rfl, hts _ q241⟩ (pre_S NX.calling (fun U _ hW => NX.warm hW hN) hC) rfl rfl hl.1 rfl (lv_room (Nat.le_of_ble_eq_true rfl)) dX7_init_7 ⟨Nat.le_refl _, Nat.le_refl _⟩) hA hC (fun H locs hC => ?_)
  exact K _ _ _ _ hC dX7_init_10

set_option maxHeartbeats 4000000 in
theorem c_pi8_4 {l : Launch} {D : va_G} {d : Nat → ClassId} {sz q x : Nat} {w0 : Value} {w1 : Value} {w2 : Value} : MV l yX8_init (ws_ yX8_init cX8_init 2 none) { frames := 3, cells := 0, slots := 0, locals := 54 } D gcl (gty d) NX [(q, .inr (8, [w0, w1, w2]))] [(q, .inr (8, [.ref x, .ref x, .ref x]))] sz [.ref q, .ref x] := by
  refine MV.ofC (by decide) _ [(0, .ref q), (1, .ref x)] (Nat.le_of_ble_eq_true rfl) rfl ?_
  intro p e s m below meth c ls Q hx hb hml hown hts hnm hN hA hC hl K
  refine lv_aload_n hx hb dX8_init_0 rfl (lv_at hl 0 rfl) ?_
  refine lv_aload_n hx hb dX8_init_1 rfl (lv_at hl 1 rfl) ?_
  refine h_putD (ci := 8) (v := .ref x) (C := RX8) (T := TX8) (N := 3) hx hb hts in_X8 hown hC 0 rfl rfl 2 (by decide) (hts _ q278) (fun _ h9 => h9) rfl hnm rfl (tyX8_ok 2 (by decide)) rfl rfl dX8_init_2 (fun H locs fs9 hlen hk9 hj9 hC => ?_)
  obtain ⟨b0, b1, b2, rfl⟩ : ∃ b0 b1 b2, fs9 = [b0, b1, b2] := by
    match fs9, hlen with
    | [b0, b1, b2], _ => exact ⟨b0, b1, b2, rfl⟩
  have e1 : b2 = .ref x := Option.some.inj hk9
  subst e1
  have hC : HC D gcl (gty d) _ [(q, .inr (8, [b0, b1, .ref x]))] s H locs := hC
  refine lv_aload_n hx hb dX8_init_5 rfl (lv_at hl 0 rfl) ?_
  refine lv_aload_n hx hb dX8_init_6 rfl (lv_at hl 1 rfl) ?_
  refine hc_v (va_runIN (As := [.ref x]) (rest := []) ⟨hx, hb, hml, hown, hts⟩ c_pi6_4 ⟨va_cnB 1 hts (lw_meth q253) rfl rfl rfl (hN.2.1 11) (hts _ q54) (by decide +kernel) ⟨Nat.le_of_ble_eq_true rfl, Nat.le_of_ble_eq_true rfl⟩, rfl, hts _ q252⟩ (pre_S NX.calling (fun U _ hW => NX.warm hW hN) hC) rfl rfl hl.1 rfl (lv_room (Nat.le_of_ble_eq_true rfl)) dX8_init_7 ⟨Nat.le_refl _, Nat.le_refl _⟩) hA hC (fun H locs hC => ?_)
  exact K _ _ _ _ hC dX8_init_10

set_option maxHeartbeats 4000000 in
theorem c_pi9_5 {l : Launch} {D : va_G} {d : Nat → ClassId} {sz q x : Nat} {w0 : Value} {w1 : Value} : MV l yX9_init (ws_ yX9_init cX9_init 2 none) { frames := 2, cells := 0, slots := 0, locals := 33 } D gcl (gty d) NX [(q, .inr (9, [w0, w1]))] [(q, .inr (9, [.ref x, .ref x]))] sz [.ref q, .ref x] := by
  refine MV.ofC (by decide) _ [(0, .ref q), (1, .ref x)] (Nat.le_of_ble_eq_true rfl) rfl ?_
  intro p e s m below meth c ls Q hx hb hml hown hts hnm hN hA hC hl K
  refine lv_aload_n hx hb dX9_init_0 rfl (lv_at hl 0 rfl) ?_
  refine lv_aload_n hx hb dX9_init_1 rfl (lv_at hl 1 rfl) ?_
  refine h_putD (ci := 9) (v := .ref x) (C := RX9) (T := TX9) (N := 2) hx hb hts in_X9 hown hC 0 rfl rfl 1 (by decide) (hts _ q290) (fun _ h9 => h9) rfl hnm rfl (tyX9_ok 1 (by decide)) rfl rfl dX9_init_2 (fun H locs fs9 hlen hk9 hj9 hC => ?_)
  obtain ⟨b0, b1, rfl⟩ : ∃ b0 b1, fs9 = [b0, b1] := by
    match fs9, hlen with
    | [b0, b1], _ => exact ⟨b0, b1, rfl⟩
  have e1 : b1 = .ref x := Option.some.inj hk9
  subst e1
  have hC : HC D gcl (gty d) _ [(q, .inr (9, [b0, .ref x]))] s H locs := hC
  refine lv_aload_n hx hb dX9_init_5 rfl (lv_at hl 0 rfl) ?_
  refine lv_aload_n hx hb dX9_init_6 rfl (lv_at hl 1 rfl) ?_
  refine hc_v (va_runIN (As := [.ref x]) (rest := []) ⟨hx, hb, hml, hown, hts⟩ c_pi4_5 ⟨va_cnB 1 hts (lw_meth q231) rfl rfl rfl (hN.2.1 13) (hts _ q52) (by decide +kernel) ⟨Nat.le_of_ble_eq_true rfl, Nat.le_of_ble_eq_true rfl⟩, rfl, hts _ q230⟩ (pre_S NX.calling (fun U _ hW => NX.warm hW hN) hC) rfl rfl hl.1 rfl (lv_room (Nat.le_of_ble_eq_true rfl)) dX9_init_7 ⟨Nat.le_refl _, Nat.le_refl _⟩) hA hC (fun H locs hC => ?_)
  exact K _ _ _ _ hC dX9_init_10

set_option maxHeartbeats 8000000 in
theorem c_x_book {l : Launch} {D : va_G} {d : Nat → ClassId} {sz : Nat} {q : Nat} : MN l yX1_init (ws_ yX1_init cX1_init 1 none) { frames := 1, cells := 9, slots := 60, locals := 12 } D gcl (gty d) (NX) ([(q, .inr (1, [.null, .null, .null, .null, .null, .null, .null, .null, .null, .int 0, .int 0, .int 0, .int 0]))]) (fun u => bw d (adr q (u 0)) (fun _ => 0) (fun _ => 0) (fun _ => 0) (fun _ => 0) (fun _ => 0) (fun _ => 0) (fun _ => 0) (fun _ => 0) (fun _ => 0) 0 0 0 0) sz [.ref q] 9 60 := by
  refine MN.of (by decide) _ [(0, .ref q)] (Nat.le_of_ble_eq_true rfl) rfl ?_
  intro p e s m below meth c ls Q hx hb hml hown hts hnm hN hA hC hl K
  generalize hAe : va_A ([(q, .inr (1, [.null, .null, .null, .null, .null, .null, .null, .null, .null, .int 0, .int 0, .int 0, .int 0]))]) s.heap.size = A at hA hC K
  refine lv_aload_n hx hb dX1_init_0 rfl (lv_at hl 0 rfl) ?_
  refine W.objInit hx hb hown (hts _ q85) (hts _ q78) (hts _ q79) rfl (by rw [hml]; exact hl.1) rfl dX1_init_1 (Nat.le_of_ble_eq_true rfl) (Nat.le_of_ble_eq_true rfl) ?_
  refine W.eq (g2 := F0 m 4 ls []) rfl ?_
  refine lv_aload_n hx hb dX1_init_4 rfl (lv_at hl 0 rfl) ?_
  refine lv_iconst (v := 4) hx hb dX1_init_5 (by decide) ?_
  refine h_newa (atype := .int) (a0 := (4, .inl (fun _ => 0))) hx hb (hts _ q150) rfl hC hA 0 rfl (fun _ => rfl) (by decide) (by decide) (by decide) (Nat.le_of_ble_eq_true rfl) (Nat.le_of_ble_eq_true rfl) dX1_init_6 (fun q1 H hC => ?_)
  have hC : HC D gcl (gty d) A ([(q, .inr (1, [.null, .null, .null, .null, .null, .null, .null, .null, .null, .int 0, .int 0, .int 0, .int 0])), (q1, .inl (d 0, 4, .inl (fun _ => 0)))]) s H _ := hC
  refine W.widen (k := 1) (n := 4) (Nat.le_of_ble_eq_true rfl) (Nat.le_of_ble_eq_true rfl) ?_
  refine va_putF (ci := 1) (v := .ref q1) (C := RX1) (T := TX1) (N := 13) hx hb hts in_X1 tyX1 tyX1_ok nmX1 hown hC.1 hC.2.1 hC.2.2.1 hC.2.2.2 0 rfl rfl 0 (by decide) (hts _ q86) (fun _ h9 => h9) rfl hnm rfl (tyX1_ok 0 (by decide)) rfl rfl (Nat.le_of_ble_eq_true rfl) dX1_init_8 (fun H locs hP hD hS => ?_)
  have hC : HC D gcl (gty d) A ([(q, .inr (1, [.ref q1, .null, .null, .null, .null, .null, .null, .null, .null, .int 0, .int 0, .int 0, .int 0])), (q1, .inl (d 0, 4, .inl (fun _ => 0)))]) s H _ := ⟨hC.1, hP, hD, hS⟩
  refine lv_aload_n hx hb dX1_init_11 rfl (lv_at hl 0 rfl) ?_
  refine lv_iconst (v := 4) hx hb dX1_init_12 (by decide) ?_
  refine h_newa (atype := .int) (a0 := (4, .inl (fun _ => 0))) hx hb (hts _ q150) rfl hC hA 0 rfl (fun _ => rfl) (by decide) (by decide) (by decide) (Nat.le_of_ble_eq_true rfl) (Nat.le_of_ble_eq_true rfl) dX1_init_13 (fun q2 H hC => ?_)
  have hC : HC D gcl (gty d) A ([(q, .inr (1, [.ref q1, .null, .null, .null, .null, .null, .null, .null, .null, .int 0, .int 0, .int 0, .int 0])), (q1, .inl (d 0, 4, .inl (fun _ => 0))), (q2, .inl (d 0, 4, .inl (fun _ => 0)))]) s H _ := hC
  refine W.widen (k := 2) (n := 8) (Nat.le_of_ble_eq_true rfl) (Nat.le_of_ble_eq_true rfl) ?_
  refine va_putF (ci := 1) (v := .ref q2) (C := RX1) (T := TX1) (N := 13) hx hb hts in_X1 tyX1 tyX1_ok nmX1 hown hC.1 hC.2.1 hC.2.2.1 hC.2.2.2 0 rfl rfl 1 (by decide) (hts _ q90) (fun _ h9 => h9) rfl hnm rfl (tyX1_ok 1 (by decide)) rfl rfl (Nat.le_of_ble_eq_true rfl) dX1_init_15 (fun H locs hP hD hS => ?_)
  have hC : HC D gcl (gty d) A ([(q, .inr (1, [.ref q1, .ref q2, .null, .null, .null, .null, .null, .null, .null, .int 0, .int 0, .int 0, .int 0])), (q1, .inl (d 0, 4, .inl (fun _ => 0))), (q2, .inl (d 0, 4, .inl (fun _ => 0)))]) s H _ := ⟨hC.1, hP, hD, hS⟩
  refine lv_aload_n hx hb dX1_init_18 rfl (lv_at hl 0 rfl) ?_
  refine lv_iconst (v := 4) hx hb dX1_init_19 (by decide) ?_
  refine h_newa (atype := .int) (a0 := (4, .inl (fun _ => 0))) hx hb (hts _ q150) rfl hC hA 0 rfl (fun _ => rfl) (by decide) (by decide) (by decide) (Nat.le_of_ble_eq_true rfl) (Nat.le_of_ble_eq_true rfl) dX1_init_20 (fun q3 H hC => ?_)
  have hC : HC D gcl (gty d) A ([(q, .inr (1, [.ref q1, .ref q2, .null, .null, .null, .null, .null, .null, .null, .int 0, .int 0, .int 0, .int 0])), (q1, .inl (d 0, 4, .inl (fun _ => 0))), (q2, .inl (d 0, 4, .inl (fun _ => 0))), (q3, .inl (d 0, 4, .inl (fun _ => 0)))]) s H _ := hC
  refine W.widen (k := 3) (n := 12) (Nat.le_of_ble_eq_true rfl) (Nat.le_of_ble_eq_true rfl) ?_
  refine va_putF (ci := 1) (v := .ref q3) (C := RX1) (T := TX1) (N := 13) hx hb hts in_X1 tyX1 tyX1_ok nmX1 hown hC.1 hC.2.1 hC.2.2.1 hC.2.2.2 0 rfl rfl 2 (by decide) (hts _ q94) (fun _ h9 => h9) rfl hnm rfl (tyX1_ok 2 (by decide)) rfl rfl (Nat.le_of_ble_eq_true rfl) dX1_init_22 (fun H locs hP hD hS => ?_)
  have hC : HC D gcl (gty d) A ([(q, .inr (1, [.ref q1, .ref q2, .ref q3, .null, .null, .null, .null, .null, .null, .int 0, .int 0, .int 0, .int 0])), (q1, .inl (d 0, 4, .inl (fun _ => 0))), (q2, .inl (d 0, 4, .inl (fun _ => 0))), (q3, .inl (d 0, 4, .inl (fun _ => 0)))]) s H _ := ⟨hC.1, hP, hD, hS⟩
  refine lv_aload_n hx hb dX1_init_25 rfl (lv_at hl 0 rfl) ?_
  refine lv_bipush (v := 8) hx hb dX1_init_26 (by decide) ?_
  refine h_newa (atype := .int) (a0 := (8, .inl (fun _ => 0))) hx hb (hts _ q150) rfl hC hA 0 rfl (fun _ => rfl) (by decide) (by decide) (by decide) (Nat.le_of_ble_eq_true rfl) (Nat.le_of_ble_eq_true rfl) dX1_init_28 (fun q4 H hC => ?_)
  have hC : HC D gcl (gty d) A ([(q, .inr (1, [.ref q1, .ref q2, .ref q3, .null, .null, .null, .null, .null, .null, .int 0, .int 0, .int 0, .int 0])), (q1, .inl (d 0, 4, .inl (fun _ => 0))), (q2, .inl (d 0, 4, .inl (fun _ => 0))), (q3, .inl (d 0, 4, .inl (fun _ => 0))), (q4, .inl (d 0, 8, .inl (fun _ => 0)))]) s H _ := hC
  refine W.widen (k := 4) (n := 20) (Nat.le_of_ble_eq_true rfl) (Nat.le_of_ble_eq_true rfl) ?_
  refine va_putF (ci := 1) (v := .ref q4) (C := RX1) (T := TX1) (N := 13) hx hb hts in_X1 tyX1 tyX1_ok nmX1 hown hC.1 hC.2.1 hC.2.2.1 hC.2.2.2 0 rfl rfl 3 (by decide) (hts _ q97) (fun _ h9 => h9) rfl hnm rfl (tyX1_ok 3 (by decide)) rfl rfl (Nat.le_of_ble_eq_true rfl) dX1_init_30 (fun H locs hP hD hS => ?_)
  have hC : HC D gcl (gty d) A ([(q, .inr (1, [.ref q1, .ref q2, .ref q3, .ref q4, .null, .null, .null, .null, .null, .int 0, .int 0, .int 0, .int 0])), (q1, .inl (d 0, 4, .inl (fun _ => 0))), (q2, .inl (d 0, 4, .inl (fun _ => 0))), (q3, .inl (d 0, 4, .inl (fun _ => 0))), (q4, .inl (d 0, 8, .inl (fun _ => 0)))]) s H _ := ⟨hC.1, hP, hD, hS⟩
  refine lv_aload_n hx hb dX1_init_33 rfl (lv_at hl 0 rfl) ?_
  refine lv_bipush (v := 8) hx hb dX1_init_34 (by decide) ?_
  refine h_newa (atype := .int) (a0 := (8, .inl (fun _ => 0))) hx hb (hts _ q150) rfl hC hA 0 rfl (fun _ => rfl) (by decide) (by decide) (by decide) (Nat.le_of_ble_eq_true rfl) (Nat.le_of_ble_eq_true rfl) dX1_init_36 (fun q5 H hC => ?_)
  have hC : HC D gcl (gty d) A ([(q, .inr (1, [.ref q1, .ref q2, .ref q3, .ref q4, .null, .null, .null, .null, .null, .int 0, .int 0, .int 0, .int 0])), (q1, .inl (d 0, 4, .inl (fun _ => 0))), (q2, .inl (d 0, 4, .inl (fun _ => 0))), (q3, .inl (d 0, 4, .inl (fun _ => 0))), (q4, .inl (d 0, 8, .inl (fun _ => 0))), (q5, .inl (d 0, 8, .inl (fun _ => 0)))]) s H _ := hC
  refine W.widen (k := 5) (n := 28) (Nat.le_of_ble_eq_true rfl) (Nat.le_of_ble_eq_true rfl) ?_
  refine va_putF (ci := 1) (v := .ref q5) (C := RX1) (T := TX1) (N := 13) hx hb hts in_X1 tyX1 tyX1_ok nmX1 hown hC.1 hC.2.1 hC.2.2.1 hC.2.2.2 0 rfl rfl 4 (by decide) (hts _ q100) (fun _ h9 => h9) rfl hnm rfl (tyX1_ok 4 (by decide)) rfl rfl (Nat.le_of_ble_eq_true rfl) dX1_init_38 (fun H locs hP hD hS => ?_)
  have hC : HC D gcl (gty d) A ([(q, .inr (1, [.ref q1, .ref q2, .ref q3, .ref q4, .ref q5, .null, .null, .null, .null, .int 0, .int 0, .int 0, .int 0])), (q1, .inl (d 0, 4, .inl (fun _ => 0))), (q2, .inl (d 0, 4, .inl (fun _ => 0))), (q3, .inl (d 0, 4, .inl (fun _ => 0))), (q4, .inl (d 0, 8, .inl (fun _ => 0))), (q5, .inl (d 0, 8, .inl (fun _ => 0)))]) s H _ := ⟨hC.1, hP, hD, hS⟩
  refine lv_aload_n hx hb dX1_init_41 rfl (lv_at hl 0 rfl) ?_
  refine lv_bipush (v := 8) hx hb dX1_init_42 (by decide) ?_
  refine h_newa (atype := .int) (a0 := (8, .inl (fun _ => 0))) hx hb (hts _ q150) rfl hC hA 0 rfl (fun _ => rfl) (by decide) (by decide) (by decide) (Nat.le_of_ble_eq_true rfl) (Nat.le_of_ble_eq_true rfl) dX1_init_44 (fun q6 H hC => ?_)
  have hC : HC D gcl (gty d) A ([(q, .inr (1, [.ref q1, .ref q2, .ref q3, .ref q4, .ref q5, .null, .null, .null, .null, .int 0, .int 0, .int 0, .int 0])), (q1, .inl (d 0, 4, .inl (fun _ => 0))), (q2, .inl (d 0, 4, .inl (fun _ => 0))), (q3, .inl (d 0, 4, .inl (fun _ => 0))), (q4, .inl (d 0, 8, .inl (fun _ => 0))), (q5, .inl (d 0, 8, .inl (fun _ => 0))), (q6, .inl (d 0, 8, .inl (fun _ => 0)))]) s H _ := hC
  refine W.widen (k := 6) (n := 36) (Nat.le_of_ble_eq_true rfl) (Nat.le_of_ble_eq_true rfl) ?_
  refine va_putF (ci := 1) (v := .ref q6) (C := RX1) (T := TX1) (N := 13) hx hb hts in_X1 tyX1 tyX1_ok nmX1 hown hC.1 hC.2.1 hC.2.2.1 hC.2.2.2 0 rfl rfl 5 (by decide) (hts _ q103) (fun _ h9 => h9) rfl hnm rfl (tyX1_ok 5 (by decide)) rfl rfl (Nat.le_of_ble_eq_true rfl) dX1_init_46 (fun H locs hP hD hS => ?_)
  have hC : HC D gcl (gty d) A ([(q, .inr (1, [.ref q1, .ref q2, .ref q3, .ref q4, .ref q5, .ref q6, .null, .null, .null, .int 0, .int 0, .int 0, .int 0])), (q1, .inl (d 0, 4, .inl (fun _ => 0))), (q2, .inl (d 0, 4, .inl (fun _ => 0))), (q3, .inl (d 0, 4, .inl (fun _ => 0))), (q4, .inl (d 0, 8, .inl (fun _ => 0))), (q5, .inl (d 0, 8, .inl (fun _ => 0))), (q6, .inl (d 0, 8, .inl (fun _ => 0)))]) s H _ := ⟨hC.1, hP, hD, hS⟩
  refine lv_aload_n hx hb dX1_init_49 rfl (lv_at hl 0 rfl) ?_
  refine lv_bipush (v := 8) hx hb dX1_init_50 (by decide) ?_
  refine h_newa (atype := .int) (a0 := (8, .inl (fun _ => 0))) hx hb (hts _ q150) rfl hC hA 0 rfl (fun _ => rfl) (by decide) (by decide) (by decide) (Nat.le_of_ble_eq_true rfl) (Nat.le_of_ble_eq_true rfl) dX1_init_52 (fun q7 H hC => ?_)
  have hC : HC D gcl (gty d) A ([(q, .inr (1, [.ref q1, .ref q2, .ref q3, .ref q4, .ref q5, .ref q6, .null, .null, .null, .int 0, .int 0, .int 0, .int 0])), (q1, .inl (d 0, 4, .inl (fun _ => 0))), (q2, .inl (d 0, 4, .inl (fun _ => 0))), (q3, .inl (d 0, 4, .inl (fun _ => 0))), (q4, .inl (d 0, 8, .inl (fun _ => 0))), (q5, .inl (d 0, 8, .inl (fun _ => 0))), (q6, .inl (d 0, 8, .inl (fun _ => 0))), (q7, .inl (d 0, 8, .inl (fun _ => 0)))]) s H _ := hC
  refine W.widen (k := 7) (n := 44) (Nat.le_of_ble_eq_true rfl) (Nat.le_of_ble_eq_true rfl) ?_
  refine va_putF (ci := 1) (v := .ref q7) (C := RX1) (T := TX1) (N := 13) hx hb hts in_X1 tyX1 tyX1_ok nmX1 hown hC.1 hC.2.1 hC.2.2.1 hC.2.2.2 0 rfl rfl 6 (by decide) (hts _ q106) (fun _ h9 => h9) rfl hnm rfl (tyX1_ok 6 (by decide)) rfl rfl (Nat.le_of_ble_eq_true rfl) dX1_init_54 (fun H locs hP hD hS => ?_)
  have hC : HC D gcl (gty d) A ([(q, .inr (1, [.ref q1, .ref q2, .ref q3, .ref q4, .ref q5, .ref q6, .ref q7, .null, .null, .int 0, .int 0, .int 0, .int 0])), (q1, .inl (d 0, 4, .inl (fun _ => 0))), (q2, .inl (d 0, 4, .inl (fun _ => 0))), (q3, .inl (d 0, 4, .inl (fun _ => 0))), (q4, .inl (d 0, 8, .inl (fun _ => 0))), (q5, .inl (d 0, 8, .inl (fun _ => 0))), (q6, .inl (d 0, 8, .inl (fun _ => 0))), (q7, .inl (d 0, 8, .inl (fun _ => 0)))]) s H _ := ⟨hC.1, hP, hD, hS⟩
  refine lv_aload_n hx hb dX1_init_57 rfl (lv_at hl 0 rfl) ?_
  refine lv_bipush (v := 8) hx hb dX1_init_58 (by decide) ?_
  refine h_newa (atype := .int) (a0 := (8, .inl (fun _ => 0))) hx hb (hts _ q150) rfl hC hA 0 rfl (fun _ => rfl) (by decide) (by decide) (by decide) (Nat.le_of_ble_eq_true rfl) (Nat.le_of_ble_eq_true rfl) dX1_init_60 (fun q8 H hC => ?_)
  have hC : HC D gcl (gty d) A ([(q, .inr (1, [.ref q1, .ref q2, .ref q3, .ref q4, .ref q5, .ref q6, .ref q7, .null, .null, .int 0, .int 0, .int 0, .int 0])), (q1, .inl (d 0, 4, .inl (fun _ => 0))), (q2, .inl (d 0, 4, .inl (fun _ => 0))), (q3, .inl (d 0, 4, .inl (fun _ => 0))), (q4, .inl (d 0, 8, .inl (fun _ => 0))), (q5, .inl (d 0, 8, .inl (fun _ => 0))), (q6, .inl (d 0, 8, .inl (fun _ => 0))), (q7, .inl (d 0, 8, .inl (fun _ => 0))), (q8, .inl (d 0, 8, .inl (fun _ => 0)))]) s H _ := hC
  refine W.widen (k := 8) (n := 52) (Nat.le_of_ble_eq_true rfl) (Nat.le_of_ble_eq_true rfl) ?_
  refine va_putF (ci := 1) (v := .ref q8) (C := RX1) (T := TX1) (N := 13) hx hb hts in_X1 tyX1 tyX1_ok nmX1 hown hC.1 hC.2.1 hC.2.2.1 hC.2.2.2 0 rfl rfl 7 (by decide) (hts _ q109) (fun _ h9 => h9) rfl hnm rfl (tyX1_ok 7 (by decide)) rfl rfl (Nat.le_of_ble_eq_true rfl) dX1_init_62 (fun H locs hP hD hS => ?_)
  have hC : HC D gcl (gty d) A ([(q, .inr (1, [.ref q1, .ref q2, .ref q3, .ref q4, .ref q5, .ref q6, .ref q7, .ref q8, .null, .int 0, .int 0, .int 0, .int 0])), (q1, .inl (d 0, 4, .inl (fun _ => 0))), (q2, .inl (d 0, 4, .inl (fun _ => 0))), (q3, .inl (d 0, 4, .inl (fun _ => 0))), (q4, .inl (d 0, 8, .inl (fun _ => 0))), (q5, .inl (d 0, 8, .inl (fun _ => 0))), (q6, .inl (d 0, 8, .inl (fun _ => 0))), (q7, .inl (d 0, 8, .inl (fun _ => 0))), (q8, .inl (d 0, 8, .inl (fun _ => 0)))]) s H _ := ⟨hC.1, hP, hD, hS⟩
  refine lv_aload_n hx hb dX1_init_65 rfl (lv_at hl 0 rfl) ?_
  refine lv_bipush (v := 8) hx hb dX1_init_66 (by decide) ?_
  refine h_newa (atype := .int) (a0 := (8, .inl (fun _ => 0))) hx hb (hts _ q150) rfl hC hA 0 rfl (fun _ => rfl) (by decide) (by decide) (by decide) (Nat.le_of_ble_eq_true rfl) (Nat.le_of_ble_eq_true rfl) dX1_init_68 (fun q9 H hC => ?_)
  have hC : HC D gcl (gty d) A ([(q, .inr (1, [.ref q1, .ref q2, .ref q3, .ref q4, .ref q5, .ref q6, .ref q7, .ref q8, .null, .int 0, .int 0, .int 0, .int 0])), (q1, .inl (d 0, 4, .inl (fun _ => 0))), (q2, .inl (d 0, 4, .inl (fun _ => 0))), (q3, .inl (d 0, 4, .inl (fun _ => 0))), (q4, .inl (d 0, 8, .inl (fun _ => 0))), (q5, .inl (d 0, 8, .inl (fun _ => 0))), (q6, .inl (d 0, 8, .inl (fun _ => 0))), (q7, .inl (d 0, 8, .inl (fun _ => 0))), (q8, .inl (d 0, 8, .inl (fun _ => 0))), (q9, .inl (d 0, 8, .inl (fun _ => 0)))]) s H _ := hC
  refine W.widen (k := 9) (n := 60) (Nat.le_of_ble_eq_true rfl) (Nat.le_of_ble_eq_true rfl) ?_
  refine va_putF (ci := 1) (v := .ref q9) (C := RX1) (T := TX1) (N := 13) hx hb hts in_X1 tyX1 tyX1_ok nmX1 hown hC.1 hC.2.1 hC.2.2.1 hC.2.2.2 0 rfl rfl 8 (by decide) (hts _ q112) (fun _ h9 => h9) rfl hnm rfl (tyX1_ok 8 (by decide)) rfl rfl (Nat.le_of_ble_eq_true rfl) dX1_init_70 (fun H locs hP hD hS => ?_)
  have hC : HC D gcl (gty d) A ([(q, .inr (1, [.ref q1, .ref q2, .ref q3, .ref q4, .ref q5, .ref q6, .ref q7, .ref q8, .ref q9, .int 0, .int 0, .int 0, .int 0])), (q1, .inl (d 0, 4, .inl (fun _ => 0))), (q2, .inl (d 0, 4, .inl (fun _ => 0))), (q3, .inl (d 0, 4, .inl (fun _ => 0))), (q4, .inl (d 0, 8, .inl (fun _ => 0))), (q5, .inl (d 0, 8, .inl (fun _ => 0))), (q6, .inl (d 0, 8, .inl (fun _ => 0))), (q7, .inl (d 0, 8, .inl (fun _ => 0))), (q8, .inl (d 0, 8, .inl (fun _ => 0))), (q9, .inl (d 0, 8, .inl (fun _ => 0)))]) s H _ := ⟨hC.1, hP, hD, hS⟩
  exact K (fun _ => fun k => ([q, q1, q2, q3, q4, q5, q6, q7, q8, q9] : List Nat).getD k 0) H _ ls _ hC dX1_init_73

set_option maxHeartbeats 8000000 in
theorem c_x_sleeve {l : Launch} {D : va_G} {d : Nat → ClassId} {sz : Nat} {q : Nat} : MN l yX3_init (ws_ yX3_init cX3_init 1 none) { frames := 1, cells := 1, slots := 5, locals := 12 } D gcl (gty d) (NX) ([(q, .inr (3, [.null, .int 0]))]) (fun u => [(q, .inr (3, [.ref (u 0 0), .int 0])), (u 0 0, .inl (d 0, 5, .inl (fun _ => 0)))]) sz [.ref q] 1 5 := by
  refine MN.of (by decide) _ [(0, .ref q)] (Nat.le_of_ble_eq_true rfl) rfl ?_
  intro p e s m below meth c ls Q hx hb hml hown hts hnm hN hA hC hl K
  generalize hAe : va_A ([(q, .inr (3, [.null, .int 0]))]) s.heap.size = A at hA hC K
  refine lv_aload_n hx hb dX3_init_0 rfl (lv_at hl 0 rfl) ?_
  refine W.objInit hx hb hown (hts _ q163) (hts _ q78) (hts _ q79) rfl (by rw [hml]; exact hl.1) rfl dX3_init_1 (Nat.le_of_ble_eq_true rfl) (Nat.le_of_ble_eq_true rfl) ?_
  refine W.eq (g2 := F0 m 4 ls []) rfl ?_
  refine lv_aload_n hx hb dX3_init_4 rfl (lv_at hl 0 rfl) ?_
  refine lv_iconst (v := 5) hx hb dX3_init_5 (by decide) ?_
  refine h_newa (atype := .int) (a0 := (5, .inl (fun _ => 0))) hx hb (hts _ q150) rfl hC hA 0 rfl (fun _ => rfl) (by decide) (by decide) (by decide) (Nat.le_of_ble_eq_true rfl) (Nat.le_of_ble_eq_true rfl) dX3_init_6 (fun q1 H hC => ?_)
  have hC : HC D gcl (gty d) A ([(q, .inr (3, [.null, .int 0])), (q1, .inl (d 0, 5, .inl (fun _ => 0)))]) s H _ := hC
  refine W.widen (k := 1) (n := 5) (Nat.le_of_ble_eq_true rfl) (Nat.le_of_ble_eq_true rfl) ?_
  refine va_putF (ci := 3) (v := .ref q1) (C := RX3) (T := TX3) (N := 2) hx hb hts in_X3 tyX3 tyX3_ok nmX3 hown hC.1 hC.2.1 hC.2.2.1 hC.2.2.2 0 rfl rfl 0 (by decide) (hts _ q164) (fun _ h9 => h9) rfl hnm rfl (tyX3_ok 0 (by decide)) rfl rfl (Nat.le_of_ble_eq_true rfl) dX3_init_8 (fun H locs hP hD hS => ?_)
  have hC : HC D gcl (gty d) A ([(q, .inr (3, [.ref q1, .int 0])), (q1, .inl (d 0, 5, .inl (fun _ => 0)))]) s H _ := ⟨hC.1, hP, hD, hS⟩
  exact K (fun _ _ => q1) H _ ls _ hC dX3_init_11

