set_option maxRecDepth 100000

def m_isOne (people : Int32) (x1 : Int32) : Option (Int32) :=
  bnd (m_in x1.toInt64 0 ((people - 1).toInt64)) fun r_10 =>
  ckz r_10 <| some r_10
set_option maxHeartbeats 4000000 in
set_option maxRecDepth 100000 in
theorem w_m_isOne {p : Program} {l : Launch} {e : Env} {R : Room} {s : State} {m : MethodId} {args : Array Value} {below : List Frame} {meth : Method} {c : Code} {H : Heap} {locs : List Loc} {cells slots : Nat} {Q : State → Prop} {A : Nat → Prop} {ls : Array Slot} {D : va_G} {d : Nat → ClassId} {ad : Nat → Nat} {w : Nat → Int32} {isKept : Nat → Int32} {people : Int32} {room : Nat → Int32} {work : Nat → Int32} {price : Nat → Int32} {askings : Int32} {asked : Nat → Int32} {hangs : Int32} {hung : Nat → Int32} {tenths : Nat → Int32} {sortWorth : Nat → Int32} {sortDays : Nat → Int32} {sorts : Int32} {text : Nat → Int32} {texted : Int32} {trace : Int64} {at_ : Int32} {fault : Int32} {readPeople : Int32} {readPerson : Nat → Int32} {readAskings : Int32} {readAsked : Nat → Int32} {readHangs : Int32} {readHung : Nat → Int32} {rest : Nat → Int32} {brings : Nat → Int64} {later : Nat → Int64} {x1 : Int32} {r : Int32} (hx : p.tables.exec = Jvm.exec) (hb : c.code = cX10_isOne) (hml : c.maxLocals = 2) (hown : s.vm.findClass RX10 = some m.cls) (hts : ∀ w ∈ lw_all, w.before args s = true) (hA : ∀ q, s.heap.size ≤ q → A q) (hRf : 1 ≤ R.frames) (hRl : 25 ≤ R.locals) (hRc : cells ≤ R.cells) (hRs : slots ≤ R.slots) (hf : m_isOne people x1 = some r) (hC : HC D gcl (gty d) A (mw d ad w isKept people room work price askings asked hangs hung tenths sortWorth sortDays sorts text texted trace at_ fault readPeople readPerson readAskings readAsked readHangs readHung rest brings later) s H locs) (hl : lv_has ls 2 [(0, .ref (ad 0)), (1, .int x1)]) (K : ∀ (H : Heap) (locs : List Loc) (ls : Array Slot) (pc : Nat), narrow .boolean (.int r) = .int r → HC D gcl (gty d) A (mw d ad w isKept people room work price askings asked hangs hung tenths sortWorth sortDays sorts text texted trace at_ fault readPeople readPerson readAskings readAsked readHangs readHung rest brings later) s H locs → decode cX10_isOne pc = .ok (.ireturn, 1) → W p l e R s m args below meth c H locs cells slots Q (F0 m pc ls [.int r])) : W p l e R s m args below meth c H locs cells slots Q (F0 m 0 ls []) := by
  unfold m_isOne at hf
  refine lv_iload_n hx hb dX10_isOne_0 rfl (lv_at hl 1 rfl) ?_
  refine lv_i2l (v := x1.toInt64) hx hb dX10_isOne_1 rfl ?_
  refine lv_lconst (v := 0) hx hb dX10_isOne_2 (by decide) ?_
  refine lv_aload_n hx hb dX10_isOne_3 rfl (lv_at hl 0 rfl) ?_
  refine va_get (ci := 10) (v := .int people) (C := RX10) (T := TX10) (N := 28) hx hb hts in_X10 hown hC.1 hC.2.1 0 rfl rfl 2 (by decide) (hts _ q808) (fun _ h9 => h9) rfl dX10_isOne_4 ?_
  refine lv_iconst (v := 1) hx hb dX10_isOne_7 (by decide) ?_
  refine lv_isub hx hb dX10_isOne_8 ?_
  refine lv_i2l (v := (people - 1).toInt64) hx hb dX10_isOne_9 rfl ?_
  obtain ⟨r_10, hcall, hf⟩ := bnd_some hf
  refine hc_i (va_runS (As := [.long x1.toInt64, .long 0, .long ((people - 1).toInt64)]) (rest := []) ⟨hx, hb, hml, hown, hts⟩ (c_m_in hcall) (va_cwS 3 hts (lw_S q898 q899 q59 q900) rfl rfl rfl (by decide +kernel) ⟨(Nat.le_trans (Nat.le_of_ble_eq_true rfl) hRf), (Nat.le_trans (Nat.le_of_ble_eq_true rfl) hRl)⟩) (pre_S (fun _ _ _ _ h => h) (fun _ _ _ => trivial) hC) rfl rfl hl.1 rfl (lv_room (Nat.le_of_ble_eq_true rfl)) dX10_isOne_10 ⟨hRc, hRs⟩) hA hC (fun H locs hC => ?_)
  obtain ⟨hz_13, hf⟩ := ckz_some hf
  have e_1 := (Option.some.inj hf)
  subst e_1
  exact K H locs ls _ (nz_01 hz_13) hC dX10_isOne_13
set_option maxRecDepth 100000 in
theorem c_m_isOne {l : Launch} {sz : Nat} {D : va_G} {d : Nat → ClassId} {ad : Nat → Nat} {w : Nat → Int32} {isKept : Nat → Int32} {people : Int32} {room : Nat → Int32} {work : Nat → Int32} {price : Nat → Int32} {askings : Int32} {asked : Nat → Int32} {hangs : Int32} {hung : Nat → Int32} {tenths : Nat → Int32} {sortWorth : Nat → Int32} {sortDays : Nat → Int32} {sorts : Int32} {text : Nat → Int32} {texted : Int32} {trace : Int64} {at_ : Int32} {fault : Int32} {readPeople : Int32} {readPerson : Nat → Int32} {readAskings : Int32} {readAsked : Nat → Int32} {readHangs : Int32} {readHung : Nat → Int32} {rest : Nat → Int32} {brings : Nat → Int64} {later : Nat → Int64} {x1 : Int32} {r : Int32} (hf : m_isOne people x1 = some r) : MI l yX10_isOne (ws_ yX10_isOne cX10_isOne 2 (some .boolean)) { frames := 1, cells := 0, slots := 0, locals := 25 } D gcl (gty d) (fun _ => True) (mw d ad w isKept people room work price askings asked hangs hung tenths sortWorth sortDays sorts text texted trace at_ fault readPeople readPerson readAskings readAsked readHangs readHung rest brings later) (mw d ad w isKept people room work price askings asked hangs hung tenths sortWorth sortDays sorts text texted trace at_ fault readPeople readPerson readAskings readAsked readHangs readHung rest brings later) sz [.ref (ad 0), .int x1] r :=
  MI.of (by decide) [.ref (ad 0), .int x1] [(0, .ref (ad 0)), (1, .int x1)] (Nat.le_of_ble_eq_true rfl) rfl (fun p e s m below meth c ls Q hx hb hml hown hts hN hA hC hl K => w_m_isOne hx hb hml hown hts hA (Nat.le_refl _) (Nat.le_refl _) (Nat.le_refl _) (Nat.le_refl _) hf hC hl K)

def m_isAsking (askings : Int32) (x1 : Int32) : Option (Int32) :=
  bnd (m_in x1.toInt64 0 ((askings - 1).toInt64)) fun r_10 =>
  ckz r_10 <| some r_10
set_option maxHeartbeats 4000000 in
set_option maxRecDepth 100000 in
theorem w_m_isAsking {p : Program} {l : Launch} {e : Env} {R : Room} {s : State} {m : MethodId} {args : Array Value} {below : List Frame} {meth : Method} {c : Code} {H : Heap} {locs : List Loc} {cells slots : Nat} {Q : State → Prop} {A : Nat → Prop} {ls : Array Slot} {D : va_G} {d : Nat → ClassId} {ad : Nat → Nat} {w : Nat → Int32} {isKept : Nat → Int32} {people : Int32} {room : Nat → Int32} {work : Nat → Int32} {price : Nat → Int32} {askings : Int32} {asked : Nat → Int32} {hangs : Int32} {hung : Nat → Int32} {tenths : Nat → Int32} {sortWorth : Nat → Int32} {sortDays : Nat → Int32} {sorts : Int32} {text : Nat → Int32} {texted : Int32} {trace : Int64} {at_ : Int32} {fault : Int32} {readPeople : Int32} {readPerson : Nat → Int32} {readAskings : Int32} {readAsked : Nat → Int32} {readHangs : Int32} {readHung : Nat → Int32} {rest : Nat → Int32} {brings : Nat → Int64} {later : Nat → Int64} {x1 : Int32} {r : Int32} (hx : p.tables.exec = Jvm.exec) (hb : c.code = cX10_isAsking) (hml : c.maxLocals = 2) (hown : s.vm.findClass RX10 = some m.cls) (hts : ∀ w ∈ lw_all, w.before args s = true) (hA : ∀ q, s.heap.size ≤ q → A q) (hRf : 1 ≤ R.frames) (hRl : 25 ≤ R.locals) (hRc : cells ≤ R.cells) (hRs : slots ≤ R.slots) (hf : m_isAsking askings x1 = some r) (hC : HC D gcl (gty d) A (mw d ad w isKept people room work price askings asked hangs hung tenths sortWorth sortDays sorts text texted trace at_ fault readPeople readPerson readAskings readAsked readHangs readHung rest brings later) s H locs) (hl : lv_has ls 2 [(0, .ref (ad 0)), (1, .int x1)]) (K : ∀ (H : Heap) (locs : List Loc) (ls : Array Slot) (pc : Nat), narrow .boolean (.int r) = .int r → HC D gcl (gty d) A (mw d ad w isKept people room work price askings asked hangs hung tenths sortWorth sortDays sorts text texted trace at_ fault readPeople readPerson readAskings readAsked readHangs readHung rest brings later) s H locs → decode cX10_isAsking pc = .ok (.ireturn, 1) → W p l e R s m args below meth c H locs cells slots Q (F0 m pc ls [.int r])) : W p l e R s m args below meth c H locs cells slots Q (F0 m 0 ls []) := by
  unfold m_isAsking at hf
  refine lv_iload_n hx hb dX10_isAsking_0 rfl (lv_at hl 1 rfl) ?_
  refine lv_i2l (v := x1.toInt64) hx hb dX10_isAsking_1 rfl ?_
  refine lv_lconst (v := 0) hx hb dX10_isAsking_2 (by decide) ?_
  refine lv_aload_n hx hb dX10_isAsking_3 rfl (lv_at hl 0 rfl) ?_
  refine va_get (ci := 10) (v := .int askings) (C := RX10) (T := TX10) (N := 28) hx hb hts in_X10 hown hC.1 hC.2.1 0 rfl rfl 6 (by decide) (hts _ q812) (fun _ h9 => h9) rfl dX10_isAsking_4 ?_
  refine lv_iconst (v := 1) hx hb dX10_isAsking_7 (by decide) ?_
  refine lv_isub hx hb dX10_isAsking_8 ?_
  refine lv_i2l (v := (askings - 1).toInt64) hx hb dX10_isAsking_9 rfl ?_
  obtain ⟨r_10, hcall, hf⟩ := bnd_some hf
  refine hc_i (va_runS (As := [.long x1.toInt64, .long 0, .long ((askings - 1).toInt64)]) (rest := []) ⟨hx, hb, hml, hown, hts⟩ (c_m_in hcall) (va_cwS 3 hts (lw_S q898 q899 q59 q900) rfl rfl rfl (by decide +kernel) ⟨(Nat.le_trans (Nat.le_of_ble_eq_true rfl) hRf), (Nat.le_trans (Nat.le_of_ble_eq_true rfl) hRl)⟩) (pre_S (fun _ _ _ _ h => h) (fun _ _ _ => trivial) hC) rfl rfl hl.1 rfl (lv_room (Nat.le_of_ble_eq_true rfl)) dX10_isAsking_10 ⟨hRc, hRs⟩) hA hC (fun H locs hC => ?_)
  obtain ⟨hz_13, hf⟩ := ckz_some hf
  have e_1 := (Option.some.inj hf)
  subst e_1
  exact K H locs ls _ (nz_01 hz_13) hC dX10_isAsking_13
set_option maxRecDepth 100000 in
theorem c_m_isAsking {l : Launch} {sz : Nat} {D : va_G} {d : Nat → ClassId} {ad : Nat → Nat} {w : Nat → Int32} {isKept : Nat → Int32} {people : Int32} {room : Nat → Int32} {work : Nat → Int32} {price : Nat → Int32} {askings : Int32} {asked : Nat → Int32} {hangs : Int32} {hung : Nat → Int32} {tenths : Nat → Int32} {sortWorth : Nat → Int32} {sortDays : Nat → Int32} {sorts : Int32} {text : Nat → Int32} {texted : Int32} {trace : Int64} {at_ : Int32} {fault : Int32} {readPeople : Int32} {readPerson : Nat → Int32} {readAskings : Int32} {readAsked : Nat → Int32} {readHangs : Int32} {readHung : Nat → Int32} {rest : Nat → Int32} {brings : Nat → Int64} {later : Nat → Int64} {x1 : Int32} {r : Int32} (hf : m_isAsking askings x1 = some r) : MI l yX10_isAsking (ws_ yX10_isAsking cX10_isAsking 2 (some .boolean)) { frames := 1, cells := 0, slots := 0, locals := 25 } D gcl (gty d) (fun _ => True) (mw d ad w isKept people room work price askings asked hangs hung tenths sortWorth sortDays sorts text texted trace at_ fault readPeople readPerson readAskings readAsked readHangs readHung rest brings later) (mw d ad w isKept people room work price askings asked hangs hung tenths sortWorth sortDays sorts text texted trace at_ fault readPeople readPerson readAskings readAsked readHangs readHung rest brings later) sz [.ref (ad 0), .int x1] r :=
  MI.of (by decide) [.ref (ad 0), .int x1] [(0, .ref (ad 0)), (1, .int x1)] (Nat.le_of_ble_eq_true rfl) rfl (fun p e s m below meth c ls Q hx hb hml hown hts hN hA hC hl K => w_m_isAsking hx hb hml hown hts hA (Nat.le_refl _) (Nat.le_refl _) (Nat.le_refl _) (Nat.le_refl _) hf hC hl K)

def m_clear (texted : Int32) : Option (Int32 × Int32) :=
  some (texted, 0)
set_option maxHeartbeats 4000000 in
set_option maxRecDepth 100000 in
theorem w_m_clear {p : Program} {l : Launch} {e : Env} {R : Room} {s : State} {m : MethodId} {args : Array Value} {below : List Frame} {meth : Method} {c : Code} {H : Heap} {locs : List Loc} {cells slots : Nat} {Q : State → Prop} {A : Nat → Prop} {ls : Array Slot} {D : va_G} {d : Nat → ClassId} {ad : Nat → Nat} {w : Nat → Int32} {isKept : Nat → Int32} {people : Int32} {room : Nat → Int32} {work : Nat → Int32} {price : Nat → Int32} {askings : Int32} {asked : Nat → Int32} {hangs : Int32} {hung : Nat → Int32} {tenths : Nat → Int32} {sortWorth : Nat → Int32} {sortDays : Nat → Int32} {sorts : Int32} {text : Nat → Int32} {texted : Int32} {trace : Int64} {at_ : Int32} {fault : Int32} {readPeople : Int32} {readPerson : Nat → Int32} {readAskings : Int32} {readAsked : Nat → Int32} {readHangs : Int32} {readHung : Nat → Int32} {rest : Nat → Int32} {brings : Nat → Int64} {later : Nat → Int64} {r : Int32} {texted_r : Int32} (hx : p.tables.exec = Jvm.exec) (hb : c.code = cX10_clear) (hml : c.maxLocals = 2) (hown : s.vm.findClass RX10 = some m.cls) (hts : ∀ w ∈ lw_all, w.before args s = true) (hA : ∀ q, s.heap.size ≤ q → A q) (hRf : 0 ≤ R.frames) (hRl : 0 ≤ R.locals) (hRc : cells ≤ R.cells) (hRs : slots ≤ R.slots) (hf : m_clear texted = some (r, texted_r)) (hC : HC D gcl (gty d) A (mw d ad w isKept people room work price askings asked hangs hung tenths sortWorth sortDays sorts text texted trace at_ fault readPeople readPerson readAskings readAsked readHangs readHung rest brings later) s H locs) (hl : lv_has ls 2 [(0, .ref (ad 0))]) (K : ∀ (H : Heap) (locs : List Loc) (ls : Array Slot) (pc : Nat), narrow .int (.int r) = .int r → HC D gcl (gty d) A (mw d ad w isKept people room work price askings asked hangs hung tenths sortWorth sortDays sorts text texted_r trace at_ fault readPeople readPerson readAskings readAsked readHangs readHung rest brings later) s H locs → decode cX10_clear pc = .ok (.ireturn, 1) → W p l e R s m args below meth c H locs cells slots Q (F0 m pc ls [.int r])) : W p l e R s m args below meth c H locs cells slots Q (F0 m 0 ls []) := by
  unfold m_clear at hf
  refine lv_aload_n hx hb dX10_clear_0 rfl (lv_at hl 0 rfl) ?_
  refine va_get (ci := 10) (v := .int texted) (C := RX10) (T := TX10) (N := 28) hx hb hts in_X10 hown hC.1 hC.2.1 0 rfl rfl 15 (by decide) (hts _ q821) (fun _ h9 => h9) rfl dX10_clear_1 ?_
  refine lv_istore_n (lv' := [(1, .int texted), (0, .ref (ad 0))]) hx hb dX10_clear_4 rfl hl (by decide) rfl (fun ls hl => ?_)
  refine lv_aload_n hx hb dX10_clear_5 rfl (lv_at hl 1 rfl) ?_
  refine lv_iconst (v := 0) hx hb dX10_clear_6 (by decide) ?_
  refine va_put (ci := 10) (v := .int 0) (ty := .int) (C := RX10) (T := TX10) (N := 28) hx hb hts in_X10 tyX10 tyX10_ok nmX10 hown hC.1 hC.2.1 hC.2.2.1 hC.2.2.2 0 rfl rfl 15 (by decide) (hts _ q821) (fun _ h9 => h9) rfl (tyX10_ok 15 (by decide)) rfl rfl (Nat.le_of_ble_eq_true rfl) dX10_clear_7 (fun H locs hP hD hS => ?_)
  have hC : HC D gcl (gty d) A (mw d ad w isKept people room work price askings asked hangs hung tenths sortWorth sortDays sorts text 0 trace at_ fault readPeople readPerson readAskings readAsked readHangs readHung rest brings later) s H locs := ⟨hC.1, hP, hD, hS⟩
  refine lv_iload_n hx hb dX10_clear_10 rfl (lv_at hl 0 rfl) ?_
  obtain ⟨e_1, e_2⟩ := so_2 (Option.some.inj hf)
  subst e_1
  subst e_2
  exact K H locs ls _ rfl hC dX10_clear_11
set_option maxRecDepth 100000 in
theorem c_m_clear {l : Launch} {sz : Nat} {D : va_G} {d : Nat → ClassId} {ad : Nat → Nat} {w : Nat → Int32} {isKept : Nat → Int32} {people : Int32} {room : Nat → Int32} {work : Nat → Int32} {price : Nat → Int32} {askings : Int32} {asked : Nat → Int32} {hangs : Int32} {hung : Nat → Int32} {tenths : Nat → Int32} {sortWorth : Nat → Int32} {sortDays : Nat → Int32} {sorts : Int32} {text : Nat → Int32} {texted : Int32} {trace : Int64} {at_ : Int32} {fault : Int32} {readPeople : Int32} {readPerson : Nat → Int32} {readAskings : Int32} {readAsked : Nat → Int32} {readHangs : Int32} {readHung : Nat → Int32} {rest : Nat → Int32} {brings : Nat → Int64} {later : Nat → Int64} {r : Int32} {texted_r : Int32} (hf : m_clear texted = some (r, texted_r)) : MI l yX10_clear (ws_ yX10_clear cX10_clear 2 (some .int)) { frames := 0, cells := 0, slots := 0, locals := 0 } D gcl (gty d) (fun _ => True) (mw d ad w isKept people room work price askings asked hangs hung tenths sortWorth sortDays sorts text texted trace at_ fault readPeople readPerson readAskings readAsked readHangs readHung rest brings later) (mw d ad w isKept people room work price askings asked hangs hung tenths sortWorth sortDays sorts text texted_r trace at_ fault readPeople readPerson readAskings readAsked readHangs readHung rest brings later) sz [.ref (ad 0)] r :=
  MI.of (by decide) [.ref (ad 0)] [(0, .ref (ad 0))] (Nat.le_of_ble_eq_true rfl) rfl (fun p e s m below meth c ls Q hx hb hml hown hts hN hA hC hl K => w_m_clear hx hb hml hown hts hA (Nat.le_refl _) (Nat.le_refl _) (Nat.le_refl _) (Nat.le_refl _) hf hC hl K)

def m_sleeveOf_L16 (x1 : Int32) (x3_5 : Int32) (w : Nat → Int32) : Nat → Int32 → Int32 → Option (Int32)
  | 0, _, _ => none
  | n_16 + 1, x2_16, x4_16 =>
  ck (19 + x3_5) 300 <| if (w (19 + x3_5).toNatClampNeg) ≤ x4_16 then (some x2_16) else
  ck ((23 + (5 * x3_5)) + x4_16) 300 <| if (w ((23 + (5 * x3_5)) + x4_16).toNatClampNeg) = x1 then (m_sleeveOf_L16 x1 x3_5 w n_16 x3_5 (x4_16 + 1) ) else
  m_sleeveOf_L16 x1 x3_5 w n_16 x2_16 (x4_16 + 1) 
theorem m_sleeveOf_L16_s (x1 : Int32) (x3_5 : Int32) (w : Nat → Int32) (n_16 : Nat) (x2_16 : Int32) (x4_16 : Int32) : m_sleeveOf_L16 x1 x3_5 w (n_16 + 1) x2_16 x4_16 = (
  ck (19 + x3_5) 300 <| if (w (19 + x3_5).toNatClampNeg) ≤ x4_16 then (some x2_16) else
  ck ((23 + (5 * x3_5)) + x4_16) 300 <| if (w ((23 + (5 * x3_5)) + x4_16).toNatClampNeg) = x1 then (m_sleeveOf_L16 x1 x3_5 w n_16 x3_5 (x4_16 + 1) ) else
  m_sleeveOf_L16 x1 x3_5 w n_16 x2_16 (x4_16 + 1) ) := rfl
def m_sleeveOf_L5 (x1 : Int32) (w : Nat → Int32) (people : Int32) : Nat → Int32 → Int32 → Option (Int32)
  | 0, _, _ => none
  | n_5 + 1, x2_5, x3_5 =>
  if people ≤ x3_5 then (some x2_5) else
  bnd (m_sleeveOf_L16 x1 x3_5 w g_fuel x2_5 0 ) (fun x2_60 =>
  m_sleeveOf_L5 x1 w people n_5 x2_60 (x3_5 + 1) )
theorem m_sleeveOf_L5_s (x1 : Int32) (w : Nat → Int32) (people : Int32) (n_5 : Nat) (x2_5 : Int32) (x3_5 : Int32) : m_sleeveOf_L5 x1 w people (n_5 + 1) x2_5 x3_5 = (
  if people ≤ x3_5 then (some x2_5) else
  bnd (m_sleeveOf_L16 x1 x3_5 w g_fuel x2_5 0 ) (fun x2_60 =>
  m_sleeveOf_L5 x1 w people n_5 x2_60 (x3_5 + 1) )) := rfl
def m_sleeveOf (w : Nat → Int32) (people : Int32) (x1 : Int32) : Option (Int32) :=
  bnd (m_sleeveOf_L5 x1 w people g_fuel (-9) 0 ) (fun x2_66 =>
  some x2_66)
set_option maxHeartbeats 4000000 in
set_option maxRecDepth 100000 in
theorem w_m_sleeveOf {p : Program} {l : Launch} {e : Env} {R : Room} {s : State} {m : MethodId} {args : Array Value} {below : List Frame} {meth : Method} {c : Code} {H : Heap} {locs : List Loc} {cells slots : Nat} {Q : State → Prop} {A : Nat → Prop} {ls : Array Slot} {D : va_G} {d : Nat → ClassId} {ad : Nat → Nat} {w : Nat → Int32} {isKept : Nat → Int32} {people : Int32} {room : Nat → Int32} {work : Nat → Int32} {price : Nat → Int32} {askings : Int32} {asked : Nat → Int32} {hangs : Int32} {hung : Nat → Int32} {tenths : Nat → Int32} {sortWorth : Nat → Int32} {sortDays : Nat → Int32} {sorts : Int32} {text : Nat → Int32} {texted : Int32} {trace : Int64} {at_ : Int32} {fault : Int32} {readPeople : Int32} {readPerson : Nat → Int32} {readAskings : Int32} {readAsked : Nat → Int32} {readHangs : Int32} {readHung : Nat → Int32} {rest : Nat → Int32} {brings : Nat → Int64} {later : Nat → Int64} {x1 : Int32} {r : Int32} (hx : p.tables.exec = Jvm.exec) (hb : c.code = cX10_sleeveOf) (hml : c.maxLocals = 5) (hown : s.vm.findClass RX10 = some m.cls) (hts : ∀ w ∈ lw_all, w.before args s = true) (hA : ∀ q, s.heap.size ≤ q → A q) (hRf : 0 ≤ R.frames) (hRl : 0 ≤ R.locals) (hRc : cells ≤ R.cells) (hRs : slots ≤ R.slots) (hf : m_sleeveOf w people x1 = some r) (hC : HC D gcl (gty d) A (mw d ad w isKept people room work price askings asked hangs hung tenths sortWorth sortDays sorts text texted trace at_ fault readPeople readPerson readAskings readAsked readHangs readHung rest brings later) s H locs) (hl : lv_has ls 5 [(0, .ref (ad 0)), (1, .int x1)]) (K : ∀ (H : Heap) (locs : List Loc) (ls : Array Slot) (pc : Nat), narrow .int (.int r) = .int r → HC D gcl (gty d) A (mw d ad w isKept people room work price askings asked hangs hung tenths sortWorth sortDays sorts text texted trace at_ fault readPeople readPerson readAskings readAsked readHangs readHung rest brings later) s H locs → decode cX10_sleeveOf pc = .ok (.ireturn, 1) → W p l e R s m args below meth c H locs cells slots Q (F0 m pc ls [.int r])) : W p l e R s m args below meth c H locs cells slots Q (F0 m 0 ls []) := by
  unfold m_sleeveOf at hf
  refine lv_bipush (v := (-9)) hx hb dX10_sleeveOf_0 (by decide) ?_
  refine lv_istore_n (lv' := [(2, .int (-9)), (0, .ref (ad 0)), (1, .int x1)]) hx hb dX10_sleeveOf_2 rfl hl (by decide) rfl (fun ls hl => ?_)
  refine lv_iconst (v := 0) hx hb dX10_sleeveOf_3 (by decide) ?_
  refine lv_istore_n (lv' := [(3, .int 0), (2, .int (-9)), (0, .ref (ad 0)), (1, .int x1)]) hx hb dX10_sleeveOf_4 rfl hl (by decide) rfl (fun ls hl => ?_)
  obtain ⟨x2_66, hL, hf⟩ := bnd_some hf
  have X_5 : ∀ (H : Heap) (locs : List Loc) (ls : Array Slot), HC D gcl (gty d) A (mw d ad w isKept people room work price askings asked hangs hung tenths sortWorth sortDays sorts text texted trace at_ fault readPeople readPerson readAskings readAsked readHangs readHung rest brings later) s H locs → lv_has ls 5 [(2, .int x2_66)] → W p l e R s m args below meth c H locs cells slots Q (F0 m 66 ls []) := by
    intro H locs ls hC hl
    refine lv_iload_n hx hb dX10_sleeveOf_66 rfl (lv_at hl 0 rfl) ?_
    have e_1 := (Option.some.inj hf)
    subst e_1
    exact K H locs ls _ rfl hC dX10_sleeveOf_67
  have L_5 : ∀ (n_5 : Nat) (x2_5 : Int32) (x3_5 : Int32), m_sleeveOf_L5 x1 w people n_5 x2_5 x3_5 = some x2_66 → ∀ (H : Heap) (locs : List Loc) (ls : Array Slot), HC D gcl (gty d) A (mw d ad w isKept people room work price askings asked hangs hung tenths sortWorth sortDays sorts text texted trace at_ fault readPeople readPerson readAskings readAsked readHangs readHung rest brings later) s H locs → lv_has ls 5 [(0, .ref (ad 0)), (1, .int x1), (2, .int x2_5), (3, .int x3_5)] → W p l e R s m args below meth c H locs cells slots Q (F0 m 5 ls []) := by
    intro n_5
    induction n_5 with
    | zero => intro _ _ hf; cases hf
    | succ n_5 ih =>
      intro x2_5 x3_5 hf H locs ls hC hl
      rw [m_sleeveOf_L5_s] at hf
      refine lv_iload_n hx hb dX10_sleeveOf_5 rfl (lv_at hl 3 rfl) ?_
      refine lv_aload_n hx hb dX10_sleeveOf_6 rfl (lv_at hl 0 rfl) ?_
      refine va_get (ci := 10) (v := .int people) (C := RX10) (T := TX10) (N := 28) hx hb hts in_X10 hown hC.1 hC.2.1 0 rfl rfl 2 (by decide) (hts _ q808) (fun _ h9 => h9) rfl dX10_sleeveOf_7 ?_
      refine lv_icmp_ge (tgt := 66) hx hb dX10_sleeveOf_10 (by decide) (fun c_10 => ?_) (fun c_10 => ?_)
      · have hf := if_t hf c_10
        have e_1 := (Option.some.inj hf)
        subst e_1
        exact X_5 H locs ls hC (lv_sub hl [2] rfl)
      · have hf := if_f hf c_10
        refine lv_iconst (v := 0) hx hb dX10_sleeveOf_13 (by decide) ?_
        refine lv_istore (lv' := [(4, .int 0), (0, .ref (ad 0)), (1, .int x1), (2, .int x2_5), (3, .int x3_5)]) hx hb dX10_sleeveOf_14 hl (by decide) rfl (fun ls hl => ?_)
        obtain ⟨x2_60, hL, hf⟩ := bnd_some hf
        have X_16 : ∀ (H : Heap) (locs : List Loc) (ls : Array Slot), HC D gcl (gty d) A (mw d ad w isKept people room work price askings asked hangs hung tenths sortWorth sortDays sorts text texted trace at_ fault readPeople readPerson readAskings readAsked readHangs readHung rest brings later) s H locs → lv_has ls 5 [(0, .ref (ad 0)), (1, .int x1), (2, .int x2_60), (3, .int x3_5)] → W p l e R s m args below meth c H locs cells slots Q (F0 m 60 ls []) := by
          intro H locs ls hC hl
          refine lv_iinc (v := x3_5 + 1) (lv' := [(3, .int (x3_5 + 1)), (0, .ref (ad 0)), (1, .int x1), (2, .int x2_60)]) hx hb dX10_sleeveOf_60 hl (k := 3) rfl rfl (by decide) rfl (fun ls hl => ?_)
          refine lv_goto (tgt := 5) hx hb dX10_sleeveOf_63 (by decide) ?_
          exact ih _ _ hf H locs ls hC (lv_sub hl [1, 2, 3, 0] rfl)
        have L_16 : ∀ (n_16 : Nat) (x2_16 : Int32) (x4_16 : Int32), m_sleeveOf_L16 x1 x3_5 w n_16 x2_16 x4_16 = some x2_60 → ∀ (H : Heap) (locs : List Loc) (ls : Array Slot), HC D gcl (gty d) A (mw d ad w isKept people room work price askings asked hangs hung tenths sortWorth sortDays sorts text texted trace at_ fault readPeople readPerson readAskings readAsked readHangs readHung rest brings later) s H locs → lv_has ls 5 [(0, .ref (ad 0)), (1, .int x1), (2, .int x2_16), (3, .int x3_5), (4, .int x4_16)] → W p l e R s m args below meth c H locs cells slots Q (F0 m 16 ls []) := by
          intro n_16
          induction n_16 with
          | zero => intro _ _ hf; cases hf
          | succ n_16 ih =>
            intro x2_16 x4_16 hf H locs ls hC hl
            rw [m_sleeveOf_L16_s] at hf
            refine lv_iload hx hb dX10_sleeveOf_16 (lv_at hl 4 rfl) ?_
            refine lv_aload_n hx hb dX10_sleeveOf_18 rfl (lv_at hl 0 rfl) ?_
            refine va_get (ci := 10) (v := .ref (ad 1)) (C := RX10) (T := TX10) (N := 28) hx hb hts in_X10 hown hC.1 hC.2.1 0 rfl rfl 0 (by decide) (hts _ q806) (fun _ h9 => h9) rfl dX10_sleeveOf_19 ?_
            refine lv_bipush (v := 19) hx hb dX10_sleeveOf_22 (by decide) ?_
            refine lv_iload_n hx hb dX10_sleeveOf_24 rfl (lv_at hl 3 rfl) ?_
            refine lv_iadd hx hb dX10_sleeveOf_25 ?_
            obtain ⟨hi_26, hf⟩ := ck_some hf
            refine va_iald hx hb hC.1 hC.2.1 1 0 rfl rfl hi_26 dX10_sleeveOf_26 ?_
            refine lv_icmp_ge (tgt := 60) hx hb dX10_sleeveOf_27 (by decide) (fun c_27 => ?_) (fun c_27 => ?_)
            · have hf := if_t hf c_27
              have e_1 := (Option.some.inj hf)
              subst e_1
              exact X_16 H locs ls hC (lv_sub hl [0, 1, 2, 3] rfl)
            · have hf := if_f hf c_27
              refine lv_aload_n hx hb dX10_sleeveOf_30 rfl (lv_at hl 0 rfl) ?_
              refine va_get (ci := 10) (v := .ref (ad 1)) (C := RX10) (T := TX10) (N := 28) hx hb hts in_X10 hown hC.1 hC.2.1 0 rfl rfl 0 (by decide) (hts _ q806) (fun _ h9 => h9) rfl dX10_sleeveOf_31 ?_
              refine lv_bipush (v := 23) hx hb dX10_sleeveOf_34 (by decide) ?_
              refine lv_iconst (v := 5) hx hb dX10_sleeveOf_36 (by decide) ?_
              refine lv_iload_n hx hb dX10_sleeveOf_37 rfl (lv_at hl 3 rfl) ?_
              refine lv_imul hx hb dX10_sleeveOf_38 ?_
              refine lv_iadd hx hb dX10_sleeveOf_39 ?_
              refine lv_iload hx hb dX10_sleeveOf_40 (lv_at hl 4 rfl) ?_
              refine lv_iadd hx hb dX10_sleeveOf_42 ?_
              obtain ⟨hi_43, hf⟩ := ck_some hf
              refine va_iald hx hb hC.1 hC.2.1 1 0 rfl rfl hi_43 dX10_sleeveOf_43 ?_
              refine lv_iload_n hx hb dX10_sleeveOf_44 rfl (lv_at hl 1 rfl) ?_
              refine lv_icmp_ne (tgt := 52) hx hb dX10_sleeveOf_45 (by decide) (fun c_45 => ?_) (fun c_45 => ?_)
              · have hf := if_f hf c_45
                refine lv_iload_n hx hb dX10_sleeveOf_52 rfl (lv_at hl 2 rfl) ?_
                refine lv_istore_n (lv' := [(2, .int x2_16), (0, .ref (ad 0)), (1, .int x1), (3, .int x3_5), (4, .int x4_16)]) hx hb dX10_sleeveOf_53 rfl hl (by decide) rfl (fun ls hl => ?_)
                refine lv_iinc (v := x4_16 + 1) (lv' := [(4, .int (x4_16 + 1)), (2, .int x2_16), (0, .ref (ad 0)), (1, .int x1), (3, .int x3_5)]) hx hb dX10_sleeveOf_54 hl (k := 4) rfl rfl (by decide) rfl (fun ls hl => ?_)
                refine lv_goto (tgt := 16) hx hb dX10_sleeveOf_57 (by decide) ?_
                exact ih _ _ hf H locs ls hC (lv_sub hl [2, 3, 1, 4, 0] rfl)
              · have hf := if_t hf c_45
                refine lv_iload_n hx hb dX10_sleeveOf_48 rfl (lv_at hl 3 rfl) ?_
                refine lv_goto (tgt := 53) hx hb dX10_sleeveOf_49 (by decide) ?_
                refine lv_istore_n (lv' := [(2, .int x3_5), (0, .ref (ad 0)), (1, .int x1), (3, .int x3_5), (4, .int x4_16)]) hx hb dX10_sleeveOf_53 rfl hl (by decide) rfl (fun ls hl => ?_)
                refine lv_iinc (v := x4_16 + 1) (lv' := [(4, .int (x4_16 + 1)), (2, .int x3_5), (0, .ref (ad 0)), (1, .int x1), (3, .int x3_5)]) hx hb dX10_sleeveOf_54 hl (k := 4) rfl rfl (by decide) rfl (fun ls hl => ?_)
                refine lv_goto (tgt := 16) hx hb dX10_sleeveOf_57 (by decide) ?_
                exact ih _ _ hf H locs ls hC (lv_sub hl [2, 3, 1, 4, 0] rfl)
        exact L_16 _ _ _ hL H locs ls hC (lv_sub hl [1, 2, 3, 4, 0] rfl)
  exact L_5 _ _ _ hL H locs ls hC (lv_sub hl [2, 3, 1, 0] rfl)
set_option maxRecDepth 100000 in
theorem c_m_sleeveOf {l : Launch} {sz : Nat} {D : va_G} {d : Nat → ClassId} {ad : Nat → Nat} {w : Nat → Int32} {isKept : Nat → Int32} {people : Int32} {room : Nat → Int32} {work : Nat → Int32} {price : Nat → Int32} {askings : Int32} {asked : Nat → Int32} {hangs : Int32} {hung : Nat → Int32} {tenths : Nat → Int32} {sortWorth : Nat → Int32} {sortDays : Nat → Int32} {sorts : Int32} {text : Nat → Int32} {texted : Int32} {trace : Int64} {at_ : Int32} {fault : Int32} {readPeople : Int32} {readPerson : Nat → Int32} {readAskings : Int32} {readAsked : Nat → Int32} {readHangs : Int32} {readHung : Nat → Int32} {rest : Nat → Int32} {brings : Nat → Int64} {later : Nat → Int64} {x1 : Int32} {r : Int32} (hf : m_sleeveOf w people x1 = some r) : MI l yX10_sleeveOf (ws_ yX10_sleeveOf cX10_sleeveOf 5 (some .int)) { frames := 0, cells := 0, slots := 0, locals := 0 } D gcl (gty d) (fun _ => True) (mw d ad w isKept people room work price askings asked hangs hung tenths sortWorth sortDays sorts text texted trace at_ fault readPeople readPerson readAskings readAsked readHangs readHung rest brings later) (mw d ad w isKept people room work price askings asked hangs hung tenths sortWorth sortDays sorts text texted trace at_ fault readPeople readPerson readAskings readAsked readHangs readHung rest brings later) sz [.ref (ad 0), .int x1] r :=
  MI.of (by decide) [.ref (ad 0), .int x1] [(0, .ref (ad 0)), (1, .int x1)] (Nat.le_of_ble_eq_true rfl) rfl (fun p e s m below meth c ls Q hx hb hml hown hts hN hA hC hl K => w_m_sleeveOf hx hb hml hown hts hA (Nat.le_refl _) (Nat.le_refl _) (Nat.le_refl _) (Nat.le_refl _) hf hC hl K)

def m_slip (w : Nat → Int32) (people : Int32) (x1 : Int32) (x2 : Int32) : Option (Int32) :=
  bnd (m_isOne people x1) fun r_2 =>
  if r_2 = 0 then (some (-1)) else
  if 0 ≤ x2 then (ck (19 + x1) 300 <| if (w (19 + x1).toNatClampNeg) ≤ x2 then (some (-5)) else
  ck ((23 + (5 * x1)) + x2) 300 <| some (w ((23 + (5 * x1)) + x2).toNatClampNeg)) else
  some (-1)
set_option maxHeartbeats 4000000 in
set_option maxRecDepth 100000 in
theorem w_m_slip {p : Program} {l : Launch} {e : Env} {R : Room} {s : State} {m : MethodId} {args : Array Value} {below : List Frame} {meth : Method} {c : Code} {H : Heap} {locs : List Loc} {cells slots : Nat} {Q : State → Prop} {A : Nat → Prop} {ls : Array Slot} {D : va_G} {d : Nat → ClassId} {ad : Nat → Nat} {w : Nat → Int32} {isKept : Nat → Int32} {people : Int32} {room : Nat → Int32} {work : Nat → Int32} {price : Nat → Int32} {askings : Int32} {asked : Nat → Int32} {hangs : Int32} {hung : Nat → Int32} {tenths : Nat → Int32} {sortWorth : Nat → Int32} {sortDays : Nat → Int32} {sorts : Int32} {text : Nat → Int32} {texted : Int32} {trace : Int64} {at_ : Int32} {fault : Int32} {readPeople : Int32} {readPerson : Nat → Int32} {readAskings : Int32} {readAsked : Nat → Int32} {readHangs : Int32} {readHung : Nat → Int32} {rest : Nat → Int32} {brings : Nat → Int64} {later : Nat → Int64} {x1 : Int32} {x2 : Int32} {r : Int32} (hx : p.tables.exec = Jvm.exec) (hb : c.code = cX10_slip) (hml : c.maxLocals = 3) (hown : s.vm.findClass RX10 = some m.cls) (hts : ∀ w ∈ lw_all, w.before args s = true) (hA : ∀ q, s.heap.size ≤ q → A q) (hRf : 2 ≤ R.frames) (hRl : 46 ≤ R.locals) (hRc : cells ≤ R.cells) (hRs : slots ≤ R.slots) (hf : m_slip w people x1 x2 = some r) (hC : HC D gcl (gty d) A (mw d ad w isKept people room work price askings asked hangs hung tenths sortWorth sortDays sorts text texted trace at_ fault readPeople readPerson readAskings readAsked readHangs readHung rest brings later) s H locs) (hl : lv_has ls 3 [(0, .ref (ad 0)), (1, .int x1), (2, .int x2)]) (K : ∀ (H : Heap) (locs : List Loc) (ls : Array Slot) (pc : Nat), narrow .int (.int r) = .int r → HC D gcl (gty d) A (mw d ad w isKept people room work price askings asked hangs hung tenths sortWorth sortDays sorts text texted trace at_ fault readPeople readPerson readAskings readAsked readHangs readHung rest brings later) s H locs → decode cX10_slip pc = .ok (.ireturn, 1) → W p l e R s m args below meth c H locs cells slots Q (F0 m pc ls [.int r])) : W p l e R s m args below meth c H locs cells slots Q (F0 m 0 ls []) := by
  unfold m_slip at hf
  refine lv_aload_n hx hb dX10_slip_0 rfl (lv_at hl 0 rfl) ?_
  refine lv_iload_n hx hb dX10_slip_1 rfl (lv_at hl 1 rfl) ?_
  obtain ⟨r_2, hcall, hf⟩ := bnd_some hf
  refine hc_i (va_runV (C := RX10) (As := [.int x1]) (rest := []) ⟨hx, hb, hml, hown, hts⟩ (c_m_isOne hcall) (cwV 1 hts (lw_V q942 q944 qs27 q59 q945) rfl rfl rfl (by decide +kernel) ⟨(Nat.le_trans (Nat.le_of_ble_eq_true rfl) hRf), (Nat.le_trans (Nat.le_of_ble_eq_true rfl) hRl)⟩) (pre_V (q0 := 0) (ci := 10) (fun _ _ _ _ h => h) (fun _ _ _ => trivial) hC rfl rfl) rfl rfl hl.1 rfl (lv_room (Nat.le_of_ble_eq_true rfl)) dX10_slip_2 ⟨hRc, hRs⟩) hA hC (fun H locs hC => ?_)
  refine lv_if_eq (tgt := 12) hx hb dX10_slip_5 (by decide) (fun c_5 => ?_) (fun c_5 => ?_)
  · have hf := if_t hf c_5
    refine lv_iconst (v := (-1)) hx hb dX10_slip_12 (by decide) ?_
    have e_1 := (Option.some.inj hf)
    subst e_1
    exact K H locs ls _ rfl hC dX10_slip_13
  · have hf := if_f hf c_5
    refine lv_iload_n hx hb dX10_slip_8 rfl (lv_at hl 2 rfl) ?_
    refine lv_if_ge (tgt := 14) hx hb dX10_slip_9 (by decide) (fun c_9 => ?_) (fun c_9 => ?_)
    · have hf := if_t hf c_9
      refine lv_iload_n hx hb dX10_slip_14 rfl (lv_at hl 2 rfl) ?_
      refine lv_aload_n hx hb dX10_slip_15 rfl (lv_at hl 0 rfl) ?_
      refine va_get (ci := 10) (v := .ref (ad 1)) (C := RX10) (T := TX10) (N := 28) hx hb hts in_X10 hown hC.1 hC.2.1 0 rfl rfl 0 (by decide) (hts _ q806) (fun _ h9 => h9) rfl dX10_slip_16 ?_
      refine lv_bipush (v := 19) hx hb dX10_slip_19 (by decide) ?_
      refine lv_iload_n hx hb dX10_slip_21 rfl (lv_at hl 1 rfl) ?_
      refine lv_iadd hx hb dX10_slip_22 ?_
      obtain ⟨hi_23, hf⟩ := ck_some hf
      refine va_iald hx hb hC.1 hC.2.1 1 0 rfl rfl hi_23 dX10_slip_23 ?_
      refine lv_icmp_ge (tgt := 43) hx hb dX10_slip_24 (by decide) (fun c_24 => ?_) (fun c_24 => ?_)
      · have hf := if_t hf c_24
        refine lv_bipush (v := (-5)) hx hb dX10_slip_43 (by decide) ?_
        have e_1 := (Option.some.inj hf)
        subst e_1
        exact K H locs ls _ rfl hC dX10_slip_45
      · have hf := if_f hf c_24
        refine lv_aload_n hx hb dX10_slip_27 rfl (lv_at hl 0 rfl) ?_
        refine va_get (ci := 10) (v := .ref (ad 1)) (C := RX10) (T := TX10) (N := 28) hx hb hts in_X10 hown hC.1 hC.2.1 0 rfl rfl 0 (by decide) (hts _ q806) (fun _ h9 => h9) rfl dX10_slip_28 ?_
        refine lv_bipush (v := 23) hx hb dX10_slip_31 (by decide) ?_
        refine lv_iconst (v := 5) hx hb dX10_slip_33 (by decide) ?_
        refine lv_iload_n hx hb dX10_slip_34 rfl (lv_at hl 1 rfl) ?_
        refine lv_imul hx hb dX10_slip_35 ?_
        refine lv_iadd hx hb dX10_slip_36 ?_
        refine lv_iload_n hx hb dX10_slip_37 rfl (lv_at hl 2 rfl) ?_
        refine lv_iadd hx hb dX10_slip_38 ?_
        obtain ⟨hi_39, hf⟩ := ck_some hf
        refine va_iald hx hb hC.1 hC.2.1 1 0 rfl rfl hi_39 dX10_slip_39 ?_
        refine lv_goto (tgt := 45) hx hb dX10_slip_40 (by decide) ?_
        have e_1 := (Option.some.inj hf)
        subst e_1
        exact K H locs ls _ rfl hC dX10_slip_45
    · have hf := if_f hf c_9
      refine lv_iconst (v := (-1)) hx hb dX10_slip_12 (by decide) ?_
      have e_1 := (Option.some.inj hf)
      subst e_1
      exact K H locs ls _ rfl hC dX10_slip_13
set_option maxRecDepth 100000 in
theorem c_m_slip {l : Launch} {sz : Nat} {D : va_G} {d : Nat → ClassId} {ad : Nat → Nat} {w : Nat → Int32} {isKept : Nat → Int32} {people : Int32} {room : Nat → Int32} {work : Nat → Int32} {price : Nat → Int32} {askings : Int32} {asked : Nat → Int32} {hangs : Int32} {hung : Nat → Int32} {tenths : Nat → Int32} {sortWorth : Nat → Int32} {sortDays : Nat → Int32} {sorts : Int32} {text : Nat → Int32} {texted : Int32} {trace : Int64} {at_ : Int32} {fault : Int32} {readPeople : Int32} {readPerson : Nat → Int32} {readAskings : Int32} {readAsked : Nat → Int32} {readHangs : Int32} {readHung : Nat → Int32} {rest : Nat → Int32} {brings : Nat → Int64} {later : Nat → Int64} {x1 : Int32} {x2 : Int32} {r : Int32} (hf : m_slip w people x1 x2 = some r) : MI l yX10_slip (ws_ yX10_slip cX10_slip 3 (some .int)) { frames := 2, cells := 0, slots := 0, locals := 46 } D gcl (gty d) (fun _ => True) (mw d ad w isKept people room work price askings asked hangs hung tenths sortWorth sortDays sorts text texted trace at_ fault readPeople readPerson readAskings readAsked readHangs readHung rest brings later) (mw d ad w isKept people room work price askings asked hangs hung tenths sortWorth sortDays sorts text texted trace at_ fault readPeople readPerson readAskings readAsked readHangs readHung rest brings later) sz [.ref (ad 0), .int x1, .int x2] r :=
  MI.of (by decide) [.ref (ad 0), .int x1, .int x2] [(0, .ref (ad 0)), (1, .int x1), (2, .int x2)] (Nat.le_of_ble_eq_true rfl) rfl (fun p e s m below meth c ls Q hx hb hml hown hts hN hA hC hl K => w_m_slip hx hb hml hown hts hA (Nat.le_refl _) (Nat.le_refl _) (Nat.le_refl _) (Nat.le_refl _) hf hC hl K)

def m_person (w : Nat → Int32) (people : Int32) (room : Nat → Int32) (work : Nat → Int32) (price : Nat → Int32) (x1 : Int32) (x2 : Int32) : Option (Int32) :=
  bnd (m_isOne people x1) fun r_2 =>
  if r_2 = 0 then (some (-1)) else
  bnd (m_in x2.toInt64 0 3) fun r_14 =>
  if r_14 = 0 then (some (-1)) else
  if x2 = 0 then (ck x1 4 <| some (room x1.toNatClampNeg)) else
  if x2 = 1 then (ck x1 4 <| some (work x1.toNatClampNeg)) else
  if x2 = 2 then (ck x1 4 <| some (price x1.toNatClampNeg)) else
  ck (19 + x1) 300 <| some (w (19 + x1).toNatClampNeg)
set_option maxHeartbeats 4000000 in
set_option maxRecDepth 100000 in
theorem w_m_person {p : Program} {l : Launch} {e : Env} {R : Room} {s : State} {m : MethodId} {args : Array Value} {below : List Frame} {meth : Method} {c : Code} {H : Heap} {locs : List Loc} {cells slots : Nat} {Q : State → Prop} {A : Nat → Prop} {ls : Array Slot} {D : va_G} {d : Nat → ClassId} {ad : Nat → Nat} {w : Nat → Int32} {isKept : Nat → Int32} {people : Int32} {room : Nat → Int32} {work : Nat → Int32} {price : Nat → Int32} {askings : Int32} {asked : Nat → Int32} {hangs : Int32} {hung : Nat → Int32} {tenths : Nat → Int32} {sortWorth : Nat → Int32} {sortDays : Nat → Int32} {sorts : Int32} {text : Nat → Int32} {texted : Int32} {trace : Int64} {at_ : Int32} {fault : Int32} {readPeople : Int32} {readPerson : Nat → Int32} {readAskings : Int32} {readAsked : Nat → Int32} {readHangs : Int32} {readHung : Nat → Int32} {rest : Nat → Int32} {brings : Nat → Int64} {later : Nat → Int64} {x1 : Int32} {x2 : Int32} {r : Int32} (hx : p.tables.exec = Jvm.exec) (hb : c.code = cX10_person) (hml : c.maxLocals = 3) (hown : s.vm.findClass RX10 = some m.cls) (hts : ∀ w ∈ lw_all, w.before args s = true) (hA : ∀ q, s.heap.size ≤ q → A q) (hRf : 2 ≤ R.frames) (hRl : 46 ≤ R.locals) (hRc : cells ≤ R.cells) (hRs : slots ≤ R.slots) (hf : m_person w people room work price x1 x2 = some r) (hC : HC D gcl (gty d) A (mw d ad w isKept people room work price askings asked hangs hung tenths sortWorth sortDays sorts text texted trace at_ fault readPeople readPerson readAskings readAsked readHangs readHung rest brings later) s H locs) (hl : lv_has ls 3 [(0, .ref (ad 0)), (1, .int x1), (2, .int x2)]) (K : ∀ (H : Heap) (locs : List Loc) (ls : Array Slot) (pc : Nat), narrow .int (.int r) = .int r → HC D gcl (gty d) A (mw d ad w isKept people room work price askings asked hangs hung tenths sortWorth sortDays sorts text texted trace at_ fault readPeople readPerson readAskings readAsked readHangs readHung rest brings later) s H locs → decode cX10_person pc = .ok (.ireturn, 1) → W p l e R s m args below meth c H locs cells slots Q (F0 m pc ls [.int r])) : W p l e R s m args below meth c H locs cells slots Q (F0 m 0 ls []) := by
  unfold m_person at hf
  refine lv_aload_n hx hb dX10_person_0 rfl (lv_at hl 0 rfl) ?_
  refine lv_iload_n hx hb dX10_person_1 rfl (lv_at hl 1 rfl) ?_
  obtain ⟨r_2, hcall, hf⟩ := bnd_some hf
  refine hc_i (va_runV (C := RX10) (As := [.int x1]) (rest := []) ⟨hx, hb, hml, hown, hts⟩ (c_m_isOne hcall) (cwV 1 hts (lw_V q942 q944 qs27 q59 q945) rfl rfl rfl (by decide +kernel) ⟨(Nat.le_trans (Nat.le_of_ble_eq_true rfl) hRf), (Nat.le_trans (Nat.le_of_ble_eq_true rfl) hRl)⟩) (pre_V (q0 := 0) (ci := 10) (fun _ _ _ _ h => h) (fun _ _ _ => trivial) hC rfl rfl) rfl rfl hl.1 rfl (lv_room (Nat.le_of_ble_eq_true rfl)) dX10_person_2 ⟨hRc, hRs⟩) hA hC (fun H locs hC => ?_)
  refine lv_if_eq (tgt := 20) hx hb dX10_person_5 (by decide) (fun c_5 => ?_) (fun c_5 => ?_)
  · have hf := if_t hf c_5
    refine lv_iconst (v := (-1)) hx hb dX10_person_20 (by decide) ?_
    have e_1 := (Option.some.inj hf)
    subst e_1
    exact K H locs ls _ rfl hC dX10_person_21
  · have hf := if_f hf c_5
    refine lv_iload_n hx hb dX10_person_8 rfl (lv_at hl 2 rfl) ?_
    refine lv_i2l (v := x2.toInt64) hx hb dX10_person_9 rfl ?_
    refine lv_lconst (v := 0) hx hb dX10_person_10 (by decide) ?_
    refine lv_ldc2 (v := 3) hx hb hown (hts _ q946) dX10_person_11 ?_
    obtain ⟨r_14, hcall, hf⟩ := bnd_some hf
    refine hc_i (va_runS (As := [.long x2.toInt64, .long 0, .long 3]) (rest := []) ⟨hx, hb, hml, hown, hts⟩ (c_m_in hcall) (va_cwS 3 hts (lw_S q898 q899 q59 q900) rfl rfl rfl (by decide +kernel) ⟨(Nat.le_trans (Nat.le_of_ble_eq_true rfl) hRf), (Nat.le_trans (Nat.le_of_ble_eq_true rfl) hRl)⟩) (pre_S (fun _ _ _ _ h => h) (fun _ _ _ => trivial) hC) rfl rfl hl.1 rfl (lv_room (Nat.le_of_ble_eq_true rfl)) dX10_person_14 ⟨hRc, hRs⟩) hA hC (fun H locs hC => ?_)
    refine lv_if_ne (tgt := 22) hx hb dX10_person_17 (by decide) (fun c_17 => ?_) (fun c_17 => ?_)
    · have hf := if_f hf c_17
      refine lv_iload_n hx hb dX10_person_22 rfl (lv_at hl 2 rfl) ?_
      refine lv_if_ne (tgt := 35) hx hb dX10_person_23 (by decide) (fun c_23 => ?_) (fun c_23 => ?_)
      · have hf := if_f hf c_23
        refine lv_iload_n hx hb dX10_person_35 rfl (lv_at hl 2 rfl) ?_
        refine lv_iconst (v := 1) hx hb dX10_person_36 (by decide) ?_
        refine lv_icmp_ne (tgt := 49) hx hb dX10_person_37 (by decide) (fun c_37 => ?_) (fun c_37 => ?_)
        · have hf := if_f hf c_37
          refine lv_iload_n hx hb dX10_person_49 rfl (lv_at hl 2 rfl) ?_
          refine lv_iconst (v := 2) hx hb dX10_person_50 (by decide) ?_
          refine lv_icmp_ne (tgt := 63) hx hb dX10_person_51 (by decide) (fun c_51 => ?_) (fun c_51 => ?_)
          · have hf := if_f hf c_51
            refine lv_aload_n hx hb dX10_person_63 rfl (lv_at hl 0 rfl) ?_
            refine va_get (ci := 10) (v := .ref (ad 1)) (C := RX10) (T := TX10) (N := 28) hx hb hts in_X10 hown hC.1 hC.2.1 0 rfl rfl 0 (by decide) (hts _ q806) (fun _ h9 => h9) rfl dX10_person_64 ?_
            refine lv_bipush (v := 19) hx hb dX10_person_67 (by decide) ?_
            refine lv_iload_n hx hb dX10_person_69 rfl (lv_at hl 1 rfl) ?_
            refine lv_iadd hx hb dX10_person_70 ?_
            obtain ⟨hi_71, hf⟩ := ck_some hf
            refine va_iald hx hb hC.1 hC.2.1 1 0 rfl rfl hi_71 dX10_person_71 ?_
            have e_1 := (Option.some.inj hf)
            subst e_1
            exact K H locs ls _ rfl hC dX10_person_72
          · have hf := if_t hf c_51
            refine lv_aload_n hx hb dX10_person_54 rfl (lv_at hl 0 rfl) ?_
            refine va_get (ci := 10) (v := .ref (ad 5)) (C := RX10) (T := TX10) (N := 28) hx hb hts in_X10 hown hC.1 hC.2.1 0 rfl rfl 5 (by decide) (hts _ q811) (fun _ h9 => h9) rfl dX10_person_55 ?_
            refine lv_iload_n hx hb dX10_person_58 rfl (lv_at hl 1 rfl) ?_
            obtain ⟨hi_59, hf⟩ := ck_some hf
            refine va_iald hx hb hC.1 hC.2.1 5 0 rfl rfl hi_59 dX10_person_59 ?_
            refine lv_goto (tgt := 72) hx hb dX10_person_60 (by decide) ?_
            have e_1 := (Option.some.inj hf)
            subst e_1
            exact K H locs ls _ rfl hC dX10_person_72
        · have hf := if_t hf c_37
          refine lv_aload_n hx hb dX10_person_40 rfl (lv_at hl 0 rfl) ?_
          refine va_get (ci := 10) (v := .ref (ad 4)) (C := RX10) (T := TX10) (N := 28) hx hb hts in_X10 hown hC.1 hC.2.1 0 rfl rfl 4 (by decide) (hts _ q810) (fun _ h9 => h9) rfl dX10_person_41 ?_
          refine lv_iload_n hx hb dX10_person_44 rfl (lv_at hl 1 rfl) ?_
          obtain ⟨hi_45, hf⟩ := ck_some hf
          refine va_iald hx hb hC.1 hC.2.1 4 0 rfl rfl hi_45 dX10_person_45 ?_
          refine lv_goto (tgt := 72) hx hb dX10_person_46 (by decide) ?_
          have e_1 := (Option.some.inj hf)
          subst e_1
          exact K H locs ls _ rfl hC dX10_person_72
      · have hf := if_t hf c_23
        refine lv_aload_n hx hb dX10_person_26 rfl (lv_at hl 0 rfl) ?_
        refine va_get (ci := 10) (v := .ref (ad 3)) (C := RX10) (T := TX10) (N := 28) hx hb hts in_X10 hown hC.1 hC.2.1 0 rfl rfl 3 (by decide) (hts _ q809) (fun _ h9 => h9) rfl dX10_person_27 ?_
        refine lv_iload_n hx hb dX10_person_30 rfl (lv_at hl 1 rfl) ?_
        obtain ⟨hi_31, hf⟩ := ck_some hf
        refine va_iald hx hb hC.1 hC.2.1 3 0 rfl rfl hi_31 dX10_person_31 ?_
        refine lv_goto (tgt := 72) hx hb dX10_person_32 (by decide) ?_
        have e_1 := (Option.some.inj hf)
        subst e_1
        exact K H locs ls _ rfl hC dX10_person_72
    · have hf := if_t hf c_17
      refine lv_iconst (v := (-1)) hx hb dX10_person_20 (by decide) ?_
      have e_1 := (Option.some.inj hf)
      subst e_1
      exact K H locs ls _ rfl hC dX10_person_21
set_option maxRecDepth 100000 in
theorem c_m_person {l : Launch} {sz : Nat} {D : va_G} {d : Nat → ClassId} {ad : Nat → Nat} {w : Nat → Int32} {isKept : Nat → Int32} {people : Int32} {room : Nat → Int32} {work : Nat → Int32} {price : Nat → Int32} {askings : Int32} {asked : Nat → Int32} {hangs : Int32} {hung : Nat → Int32} {tenths : Nat → Int32} {sortWorth : Nat → Int32} {sortDays : Nat → Int32} {sorts : Int32} {text : Nat → Int32} {texted : Int32} {trace : Int64} {at_ : Int32} {fault : Int32} {readPeople : Int32} {readPerson : Nat → Int32} {readAskings : Int32} {readAsked : Nat → Int32} {readHangs : Int32} {readHung : Nat → Int32} {rest : Nat → Int32} {brings : Nat → Int64} {later : Nat → Int64} {x1 : Int32} {x2 : Int32} {r : Int32} (hf : m_person w people room work price x1 x2 = some r) : MI l yX10_person (ws_ yX10_person cX10_person 3 (some .int)) { frames := 2, cells := 0, slots := 0, locals := 46 } D gcl (gty d) (fun _ => True) (mw d ad w isKept people room work price askings asked hangs hung tenths sortWorth sortDays sorts text texted trace at_ fault readPeople readPerson readAskings readAsked readHangs readHung rest brings later) (mw d ad w isKept people room work price askings asked hangs hung tenths sortWorth sortDays sorts text texted trace at_ fault readPeople readPerson readAskings readAsked readHangs readHung rest brings later) sz [.ref (ad 0), .int x1, .int x2] r :=
  MI.of (by decide) [.ref (ad 0), .int x1, .int x2] [(0, .ref (ad 0)), (1, .int x1), (2, .int x2)] (Nat.le_of_ble_eq_true rfl) rfl (fun p e s m below meth c ls Q hx hb hml hown hts hN hA hC hl K => w_m_person hx hb hml hown hts hA (Nat.le_refl _) (Nat.le_refl _) (Nat.le_refl _) (Nat.le_refl _) hf hC hl K)

def m_placeOf_L2 (x1 : Int32) (x2 : Int32) (w : Nat → Int32) : Nat → Int32 → Option (Int32)
  | 0, _ => none
  | n_2 + 1, x3_2 =>
  ck ((23 + (5 * x1)) + x3_2) 300 <| if (w ((23 + (5 * x1)) + x3_2).toNatClampNeg) = x2 then (some x3_2) else
  m_placeOf_L2 x1 x2 w n_2 (x3_2 + 1) 
theorem m_placeOf_L2_s (x1 : Int32) (x2 : Int32) (w : Nat → Int32) (n_2 : Nat) (x3_2 : Int32) : m_placeOf_L2 x1 x2 w (n_2 + 1) x3_2 = (
  ck ((23 + (5 * x1)) + x3_2) 300 <| if (w ((23 + (5 * x1)) + x3_2).toNatClampNeg) = x2 then (some x3_2) else
  m_placeOf_L2 x1 x2 w n_2 (x3_2 + 1) ) := rfl
def m_placeOf (w : Nat → Int32) (x1 : Int32) (x2 : Int32) : Option (Int32) :=
  bnd (m_placeOf_L2 x1 x2 w g_fuel 0 ) (fun x3_25 =>
  some x3_25)
set_option maxHeartbeats 4000000 in
set_option maxRecDepth 100000 in
theorem w_m_placeOf {p : Program} {l : Launch} {e : Env} {R : Room} {s : State} {m : MethodId} {args : Array Value} {below : List Frame} {meth : Method} {c : Code} {H : Heap} {locs : List Loc} {cells slots : Nat} {Q : State → Prop} {A : Nat → Prop} {ls : Array Slot} {D : va_G} {d : Nat → ClassId} {ad : Nat → Nat} {w : Nat → Int32} {isKept : Nat → Int32} {people : Int32} {room : Nat → Int32} {work : Nat → Int32} {price : Nat → Int32} {askings : Int32} {asked : Nat → Int32} {hangs : Int32} {hung : Nat → Int32} {tenths : Nat → Int32} {sortWorth : Nat → Int32} {sortDays : Nat → Int32} {sorts : Int32} {text : Nat → Int32} {texted : Int32} {trace : Int64} {at_ : Int32} {fault : Int32} {readPeople : Int32} {readPerson : Nat → Int32} {readAskings : Int32} {readAsked : Nat → Int32} {readHangs : Int32} {readHung : Nat → Int32} {rest : Nat → Int32} {brings : Nat → Int64} {later : Nat → Int64} {x1 : Int32} {x2 : Int32} {r : Int32} (hx : p.tables.exec = Jvm.exec) (hb : c.code = cX10_placeOf) (hml : c.maxLocals = 4) (hown : s.vm.findClass RX10 = some m.cls) (hts : ∀ w ∈ lw_all, w.before args s = true) (hA : ∀ q, s.heap.size ≤ q → A q) (hRf : 0 ≤ R.frames) (hRl : 0 ≤ R.locals) (hRc : cells ≤ R.cells) (hRs : slots ≤ R.slots) (hf : m_placeOf w x1 x2 = some r) (hC : HC D gcl (gty d) A (mw d ad w isKept people room work price askings asked hangs hung tenths sortWorth sortDays sorts text texted trace at_ fault readPeople readPerson readAskings readAsked readHangs readHung rest brings later) s H locs) (hl : lv_has ls 4 [(0, .ref (ad 0)), (1, .int x1), (2, .int x2)]) (K : ∀ (H : Heap) (locs : List Loc) (ls : Array Slot) (pc : Nat), narrow .int (.int r) = .int r → HC D gcl (gty d) A (mw d ad w isKept people room work price askings asked hangs hung tenths sortWorth sortDays sorts text texted trace at_ fault readPeople readPerson readAskings readAsked readHangs readHung rest brings later) s H locs → decode cX10_placeOf pc = .ok (.ireturn, 1) → W p l e R s m args below meth c H locs cells slots Q (F0 m pc ls [.int r])) : W p l e R s m args below meth c H locs cells slots Q (F0 m 0 ls []) := by
  unfold m_placeOf at hf
  refine lv_iconst (v := 0) hx hb dX10_placeOf_0 (by decide) ?_
  refine lv_istore_n (lv' := [(3, .int 0), (0, .ref (ad 0)), (1, .int x1), (2, .int x2)]) hx hb dX10_placeOf_1 rfl hl (by decide) rfl (fun ls hl => ?_)
  obtain ⟨x3_25, hL, hf⟩ := bnd_some hf
  have X_2 : ∀ (H : Heap) (locs : List Loc) (ls : Array Slot), HC D gcl (gty d) A (mw d ad w isKept people room work price askings asked hangs hung tenths sortWorth sortDays sorts text texted trace at_ fault readPeople readPerson readAskings readAsked readHangs readHung rest brings later) s H locs → lv_has ls 4 [(3, .int x3_25)] → W p l e R s m args below meth c H locs cells slots Q (F0 m 25 ls []) := by
    intro H locs ls hC hl
    refine lv_iload_n hx hb dX10_placeOf_25 rfl (lv_at hl 0 rfl) ?_
    have e_1 := (Option.some.inj hf)
    subst e_1
    exact K H locs ls _ rfl hC dX10_placeOf_26
  have L_2 : ∀ (n_2 : Nat) (x3_2 : Int32), m_placeOf_L2 x1 x2 w n_2 x3_2 = some x3_25 → ∀ (H : Heap) (locs : List Loc) (ls : Array Slot), HC D gcl (gty d) A (mw d ad w isKept people room work price askings asked hangs hung tenths sortWorth sortDays sorts text texted trace at_ fault readPeople readPerson readAskings readAsked readHangs readHung rest brings later) s H locs → lv_has ls 4 [(0, .ref (ad 0)), (1, .int x1), (2, .int x2), (3, .int x3_2)] → W p l e R s m args below meth c H locs cells slots Q (F0 m 2 ls []) := by
    intro n_2
    induction n_2 with
    | zero => intro _ hf; cases hf
    | succ n_2 ih =>
      intro x3_2 hf H locs ls hC hl
      rw [m_placeOf_L2_s] at hf
      refine lv_aload_n hx hb dX10_placeOf_2 rfl (lv_at hl 0 rfl) ?_
      refine va_get (ci := 10) (v := .ref (ad 1)) (C := RX10) (T := TX10) (N := 28) hx hb hts in_X10 hown hC.1 hC.2.1 0 rfl rfl 0 (by decide) (hts _ q806) (fun _ h9 => h9) rfl dX10_placeOf_3 ?_
      refine lv_bipush (v := 23) hx hb dX10_placeOf_6 (by decide) ?_
      refine lv_iconst (v := 5) hx hb dX10_placeOf_8 (by decide) ?_
      refine lv_iload_n hx hb dX10_placeOf_9 rfl (lv_at hl 1 rfl) ?_
      refine lv_imul hx hb dX10_placeOf_10 ?_
      refine lv_iadd hx hb dX10_placeOf_11 ?_
      refine lv_iload_n hx hb dX10_placeOf_12 rfl (lv_at hl 3 rfl) ?_
      refine lv_iadd hx hb dX10_placeOf_13 ?_
      obtain ⟨hi_14, hf⟩ := ck_some hf
      refine va_iald hx hb hC.1 hC.2.1 1 0 rfl rfl hi_14 dX10_placeOf_14 ?_
      refine lv_iload_n hx hb dX10_placeOf_15 rfl (lv_at hl 2 rfl) ?_
      refine lv_icmp_eq (tgt := 25) hx hb dX10_placeOf_16 (by decide) (fun c_16 => ?_) (fun c_16 => ?_)
      · have hf := if_t hf c_16
        have e_1 := (Option.some.inj hf)
        subst e_1
        exact X_2 H locs ls hC (lv_sub hl [3] rfl)
      · have hf := if_f hf c_16
        refine lv_iinc (v := x3_2 + 1) (lv' := [(3, .int (x3_2 + 1)), (0, .ref (ad 0)), (1, .int x1), (2, .int x2)]) hx hb dX10_placeOf_19 hl (k := 3) rfl rfl (by decide) rfl (fun ls hl => ?_)
        refine lv_goto (tgt := 2) hx hb dX10_placeOf_22 (by decide) ?_
        exact ih _ hf H locs ls hC (lv_sub hl [1, 2, 3, 0] rfl)
  exact L_2 _ _ hL H locs ls hC (lv_sub hl [1, 2, 3, 0] rfl)
set_option maxRecDepth 100000 in
theorem c_m_placeOf {l : Launch} {sz : Nat} {D : va_G} {d : Nat → ClassId} {ad : Nat → Nat} {w : Nat → Int32} {isKept : Nat → Int32} {people : Int32} {room : Nat → Int32} {work : Nat → Int32} {price : Nat → Int32} {askings : Int32} {asked : Nat → Int32} {hangs : Int32} {hung : Nat → Int32} {tenths : Nat → Int32} {sortWorth : Nat → Int32} {sortDays : Nat → Int32} {sorts : Int32} {text : Nat → Int32} {texted : Int32} {trace : Int64} {at_ : Int32} {fault : Int32} {readPeople : Int32} {readPerson : Nat → Int32} {readAskings : Int32} {readAsked : Nat → Int32} {readHangs : Int32} {readHung : Nat → Int32} {rest : Nat → Int32} {brings : Nat → Int64} {later : Nat → Int64} {x1 : Int32} {x2 : Int32} {r : Int32} (hf : m_placeOf w x1 x2 = some r) : MI l yX10_placeOf (ws_ yX10_placeOf cX10_placeOf 4 (some .int)) { frames := 0, cells := 0, slots := 0, locals := 0 } D gcl (gty d) (fun _ => True) (mw d ad w isKept people room work price askings asked hangs hung tenths sortWorth sortDays sorts text texted trace at_ fault readPeople readPerson readAskings readAsked readHangs readHung rest brings later) (mw d ad w isKept people room work price askings asked hangs hung tenths sortWorth sortDays sorts text texted trace at_ fault readPeople readPerson readAskings readAsked readHangs readHung rest brings later) sz [.ref (ad 0), .int x1, .int x2] r :=
  MI.of (by decide) [.ref (ad 0), .int x1, .int x2] [(0, .ref (ad 0)), (1, .int x1), (2, .int x2)] (Nat.le_of_ble_eq_true rfl) rfl (fun p e s m below meth c ls Q hx hb hml hown hts hN hA hC hl K => w_m_placeOf hx hb hml hown hts hA (Nat.le_refl _) (Nat.le_refl _) (Nat.le_refl _) (Nat.le_refl _) hf hC hl K)

def m_remove_L20 (x1 : Int32) : Nat → Int32 → (Nat → Int32) → Option ((Nat → Int32))
  | 0, _, _ => none
  | n_20 + 1, x3_20, w_20 =>
  ck (19 + x1) 300 <| if (w_20 (19 + x1).toNatClampNeg) ≤ x3_20 then (some w_20) else
  ck (((23 + (5 * x1)) + x3_20) + 1) 300 <| ck ((23 + (5 * x1)) + x3_20) 300 <| m_remove_L20 x1 n_20 (x3_20 + 1) (upd w_20 ((23 + (5 * x1)) + x3_20).toNatClampNeg (w_20 (((23 + (5 * x1)) + x3_20) + 1).toNatClampNeg))
theorem m_remove_L20_s (x1 : Int32) (n_20 : Nat) (x3_20 : Int32) (w_20 : Nat → Int32) : m_remove_L20 x1 (n_20 + 1) x3_20 w_20 = (
  ck (19 + x1) 300 <| if (w_20 (19 + x1).toNatClampNeg) ≤ x3_20 then (some w_20) else
  ck (((23 + (5 * x1)) + x3_20) + 1) 300 <| ck ((23 + (5 * x1)) + x3_20) 300 <| m_remove_L20 x1 n_20 (x3_20 + 1) (upd w_20 ((23 + (5 * x1)) + x3_20).toNatClampNeg (w_20 (((23 + (5 * x1)) + x3_20) + 1).toNatClampNeg))) := rfl
def m_remove (w : Nat → Int32) (x1 : Int32) (x2 : Int32) : Option ((Nat → Int32)) :=
  ck (19 + x1) 300 <| ck (19 + x1) 300 <| bnd (m_placeOf (upd w (19 + x1).toNatClampNeg ((w (19 + x1).toNatClampNeg) - 1)) x1 x2) fun r_16 =>
  bnd (m_remove_L20 x1 g_fuel r_16 (upd w (19 + x1).toNatClampNeg ((w (19 + x1).toNatClampNeg) - 1))) (fun w_67 =>
  some w_67)
set_option maxHeartbeats 4000000 in
set_option maxRecDepth 100000 in
theorem w_m_remove {p : Program} {l : Launch} {e : Env} {R : Room} {s : State} {m : MethodId} {args : Array Value} {below : List Frame} {meth : Method} {c : Code} {H : Heap} {locs : List Loc} {cells slots : Nat} {Q : State → Prop} {A : Nat → Prop} {ls : Array Slot} {D : va_G} {d : Nat → ClassId} {ad : Nat → Nat} {w : Nat → Int32} {isKept : Nat → Int32} {people : Int32} {room : Nat → Int32} {work : Nat → Int32} {price : Nat → Int32} {askings : Int32} {asked : Nat → Int32} {hangs : Int32} {hung : Nat → Int32} {tenths : Nat → Int32} {sortWorth : Nat → Int32} {sortDays : Nat → Int32} {sorts : Int32} {text : Nat → Int32} {texted : Int32} {trace : Int64} {at_ : Int32} {fault : Int32} {readPeople : Int32} {readPerson : Nat → Int32} {readAskings : Int32} {readAsked : Nat → Int32} {readHangs : Int32} {readHung : Nat → Int32} {rest : Nat → Int32} {brings : Nat → Int64} {later : Nat → Int64} {x1 : Int32} {x2 : Int32} {w_r : Nat → Int32} (hx : p.tables.exec = Jvm.exec) (hb : c.code = cX10_remove) (hml : c.maxLocals = 4) (hown : s.vm.findClass RX10 = some m.cls) (hts : ∀ w ∈ lw_all, w.before args s = true) (hA : ∀ q, s.heap.size ≤ q → A q) (hRf : 1 ≤ R.frames) (hRl : 23 ≤ R.locals) (hRc : cells ≤ R.cells) (hRs : slots ≤ R.slots) (hf : m_remove w x1 x2 = some w_r) (hC : HC D gcl (gty d) A (mw d ad w isKept people room work price askings asked hangs hung tenths sortWorth sortDays sorts text texted trace at_ fault readPeople readPerson readAskings readAsked readHangs readHung rest brings later) s H locs) (hl : lv_has ls 4 [(0, .ref (ad 0)), (1, .int x1), (2, .int x2)]) (K : ∀ (H : Heap) (locs : List Loc) (ls : Array Slot) (pc : Nat), True → HC D gcl (gty d) A (mw d ad w_r isKept people room work price askings asked hangs hung tenths sortWorth sortDays sorts text texted trace at_ fault readPeople readPerson readAskings readAsked readHangs readHung rest brings later) s H locs → decode cX10_remove pc = .ok (.return_, 1) → W p l e R s m args below meth c H locs cells slots Q (F0 m pc ls [])) : W p l e R s m args below meth c H locs cells slots Q (F0 m 0 ls []) := by
  unfold m_remove at hf
  refine lv_aload_n hx hb dX10_remove_0 rfl (lv_at hl 0 rfl) ?_
  refine va_get (ci := 10) (v := .ref (ad 1)) (C := RX10) (T := TX10) (N := 28) hx hb hts in_X10 hown hC.1 hC.2.1 0 rfl rfl 0 (by decide) (hts _ q806) (fun _ h9 => h9) rfl dX10_remove_1 ?_
  refine lv_bipush (v := 19) hx hb dX10_remove_4 (by decide) ?_
  refine lv_iload_n hx hb dX10_remove_6 rfl (lv_at hl 1 rfl) ?_
  refine lv_iadd hx hb dX10_remove_7 ?_
  refine lv_dup2_11 hx hb dX10_remove_8 rfl rfl ?_
  obtain ⟨hi_9, hf⟩ := ck_some hf
  refine va_iald hx hb hC.1 hC.2.1 1 0 rfl rfl hi_9 dX10_remove_9 ?_
  refine lv_iconst (v := 1) hx hb dX10_remove_10 (by decide) ?_
  refine lv_isub hx hb dX10_remove_11 ?_
  obtain ⟨hi_12, hf⟩ := ck_some hf
  refine va_iast hx hb hC.1 hC.2.1 hC.2.2.1 hC.2.2.2 1 0 rfl rfl hi_12 dX10_remove_12 (fun H locs hP hD hS => ?_)
  have hC : HC D gcl (gty d) A (mw d ad (upd w (19 + x1).toNatClampNeg ((w (19 + x1).toNatClampNeg) - 1)) isKept people room work price askings asked hangs hung tenths sortWorth sortDays sorts text texted trace at_ fault readPeople readPerson readAskings readAsked readHangs readHung rest brings later) s H locs := ⟨hC.1, hP, hD, hS⟩
  refine lv_aload_n hx hb dX10_remove_13 rfl (lv_at hl 0 rfl) ?_
  refine lv_iload_n hx hb dX10_remove_14 rfl (lv_at hl 1 rfl) ?_
  refine lv_iload_n hx hb dX10_remove_15 rfl (lv_at hl 2 rfl) ?_
  obtain ⟨r_16, hcall, hf⟩ := bnd_some hf
  refine hc_i (va_runV (C := RX10) (As := [.int x1, .int x2]) (rest := []) ⟨hx, hb, hml, hown, hts⟩ (c_m_placeOf hcall) (cwV 2 hts (lw_V q980 q982 qs32 q59 q983) rfl rfl rfl (by decide +kernel) ⟨(Nat.le_trans (Nat.le_of_ble_eq_true rfl) hRf), (Nat.le_trans (Nat.le_of_ble_eq_true rfl) hRl)⟩) (pre_V (q0 := 0) (ci := 10) (fun _ _ _ _ h => h) (fun _ _ _ => trivial) hC rfl rfl) rfl rfl hl.1 rfl (lv_room (Nat.le_of_ble_eq_true rfl)) dX10_remove_16 ⟨hRc, hRs⟩) hA hC (fun H locs hC => ?_)
  refine lv_istore_n (lv' := [(3, .int r_16), (0, .ref (ad 0)), (1, .int x1), (2, .int x2)]) hx hb dX10_remove_19 rfl hl (by decide) rfl (fun ls hl => ?_)
  obtain ⟨w_67, hL, hf⟩ := bnd_some hf
  have X_20 : ∀ (H : Heap) (locs : List Loc) (ls : Array Slot), HC D gcl (gty d) A (mw d ad w_67 isKept people room work price askings asked hangs hung tenths sortWorth sortDays sorts text texted trace at_ fault readPeople readPerson readAskings readAsked readHangs readHung rest brings later) s H locs → lv_has ls 4 [] → W p l e R s m args below meth c H locs cells slots Q (F0 m 67 ls []) := by
    intro H locs ls hC hl
    have e_1 := (Option.some.inj hf)
    subst e_1
    exact K H locs ls _ trivial hC dX10_remove_67
  have L_20 : ∀ (n_20 : Nat) (x3_20 : Int32) (w_20 : Nat → Int32), m_remove_L20 x1 n_20 x3_20 w_20 = some w_67 → ∀ (H : Heap) (locs : List Loc) (ls : Array Slot), HC D gcl (gty d) A (mw d ad w_20 isKept people room work price askings asked hangs hung tenths sortWorth sortDays sorts text texted trace at_ fault readPeople readPerson readAskings readAsked readHangs readHung rest brings later) s H locs → lv_has ls 4 [(0, .ref (ad 0)), (1, .int x1), (3, .int x3_20)] → W p l e R s m args below meth c H locs cells slots Q (F0 m 20 ls []) := by
    intro n_20
    induction n_20 with
    | zero => intro _ _ hf; cases hf
    | succ n_20 ih =>
      intro x3_20 w_20 hf H locs ls hC hl
      rw [m_remove_L20_s] at hf
      refine lv_iload_n hx hb dX10_remove_20 rfl (lv_at hl 2 rfl) ?_
      refine lv_aload_n hx hb dX10_remove_21 rfl (lv_at hl 0 rfl) ?_
      refine va_get (ci := 10) (v := .ref (ad 1)) (C := RX10) (T := TX10) (N := 28) hx hb hts in_X10 hown hC.1 hC.2.1 0 rfl rfl 0 (by decide) (hts _ q806) (fun _ h9 => h9) rfl dX10_remove_22 ?_
      refine lv_bipush (v := 19) hx hb dX10_remove_25 (by decide) ?_
      refine lv_iload_n hx hb dX10_remove_27 rfl (lv_at hl 1 rfl) ?_
      refine lv_iadd hx hb dX10_remove_28 ?_
      obtain ⟨hi_29, hf⟩ := ck_some hf
      refine va_iald hx hb hC.1 hC.2.1 1 0 rfl rfl hi_29 dX10_remove_29 ?_
      refine lv_icmp_ge (tgt := 67) hx hb dX10_remove_30 (by decide) (fun c_30 => ?_) (fun c_30 => ?_)
      · have hf := if_t hf c_30
        have e_1 := (Option.some.inj hf)
        subst e_1
        exact X_20 H locs ls hC (lv_sub hl [] rfl)
      · have hf := if_f hf c_30
        refine lv_aload_n hx hb dX10_remove_33 rfl (lv_at hl 0 rfl) ?_
        refine va_get (ci := 10) (v := .ref (ad 1)) (C := RX10) (T := TX10) (N := 28) hx hb hts in_X10 hown hC.1 hC.2.1 0 rfl rfl 0 (by decide) (hts _ q806) (fun _ h9 => h9) rfl dX10_remove_34 ?_
        refine lv_bipush (v := 23) hx hb dX10_remove_37 (by decide) ?_
        refine lv_iconst (v := 5) hx hb dX10_remove_39 (by decide) ?_
        refine lv_iload_n hx hb dX10_remove_40 rfl (lv_at hl 1 rfl) ?_
        refine lv_imul hx hb dX10_remove_41 ?_
        refine lv_iadd hx hb dX10_remove_42 ?_
        refine lv_iload_n hx hb dX10_remove_43 rfl (lv_at hl 2 rfl) ?_
        refine lv_iadd hx hb dX10_remove_44 ?_
        refine lv_aload_n hx hb dX10_remove_45 rfl (lv_at hl 0 rfl) ?_
        refine va_get (ci := 10) (v := .ref (ad 1)) (C := RX10) (T := TX10) (N := 28) hx hb hts in_X10 hown hC.1 hC.2.1 0 rfl rfl 0 (by decide) (hts _ q806) (fun _ h9 => h9) rfl dX10_remove_46 ?_
        refine lv_bipush (v := 23) hx hb dX10_remove_49 (by decide) ?_
        refine lv_iconst (v := 5) hx hb dX10_remove_51 (by decide) ?_
        refine lv_iload_n hx hb dX10_remove_52 rfl (lv_at hl 1 rfl) ?_
        refine lv_imul hx hb dX10_remove_53 ?_
        refine lv_iadd hx hb dX10_remove_54 ?_
        refine lv_iload_n hx hb dX10_remove_55 rfl (lv_at hl 2 rfl) ?_
        refine lv_iadd hx hb dX10_remove_56 ?_
        refine lv_iconst (v := 1) hx hb dX10_remove_57 (by decide) ?_
        refine lv_iadd hx hb dX10_remove_58 ?_
        obtain ⟨hi_59, hf⟩ := ck_some hf
        refine va_iald hx hb hC.1 hC.2.1 1 0 rfl rfl hi_59 dX10_remove_59 ?_
        obtain ⟨hi_60, hf⟩ := ck_some hf
        refine va_iast hx hb hC.1 hC.2.1 hC.2.2.1 hC.2.2.2 1 0 rfl rfl hi_60 dX10_remove_60 (fun H locs hP hD hS => ?_)
        have hC : HC D gcl (gty d) A (mw d ad (upd w_20 ((23 + (5 * x1)) + x3_20).toNatClampNeg (w_20 (((23 + (5 * x1)) + x3_20) + 1).toNatClampNeg)) isKept people room work price askings asked hangs hung tenths sortWorth sortDays sorts text texted trace at_ fault readPeople readPerson readAskings readAsked readHangs readHung rest brings later) s H locs := ⟨hC.1, hP, hD, hS⟩
        refine lv_iinc (v := x3_20 + 1) (lv' := [(3, .int (x3_20 + 1)), (0, .ref (ad 0)), (1, .int x1)]) hx hb dX10_remove_61 hl (k := 2) rfl rfl (by decide) rfl (fun ls hl => ?_)
        refine lv_goto (tgt := 20) hx hb dX10_remove_64 (by decide) ?_
        exact ih _ _ hf H locs ls hC (lv_sub hl [1, 2, 0] rfl)
  exact L_20 _ _ _ hL H locs ls hC (lv_sub hl [1, 2, 0] rfl)
set_option maxRecDepth 100000 in
theorem c_m_remove {l : Launch} {sz : Nat} {D : va_G} {d : Nat → ClassId} {ad : Nat → Nat} {w : Nat → Int32} {isKept : Nat → Int32} {people : Int32} {room : Nat → Int32} {work : Nat → Int32} {price : Nat → Int32} {askings : Int32} {asked : Nat → Int32} {hangs : Int32} {hung : Nat → Int32} {tenths : Nat → Int32} {sortWorth : Nat → Int32} {sortDays : Nat → Int32} {sorts : Int32} {text : Nat → Int32} {texted : Int32} {trace : Int64} {at_ : Int32} {fault : Int32} {readPeople : Int32} {readPerson : Nat → Int32} {readAskings : Int32} {readAsked : Nat → Int32} {readHangs : Int32} {readHung : Nat → Int32} {rest : Nat → Int32} {brings : Nat → Int64} {later : Nat → Int64} {x1 : Int32} {x2 : Int32} {w_r : Nat → Int32} (hf : m_remove w x1 x2 = some w_r) : MV l yX10_remove (ws_ yX10_remove cX10_remove 4 none) { frames := 1, cells := 0, slots := 0, locals := 23 } D gcl (gty d) (fun _ => True) (mw d ad w isKept people room work price askings asked hangs hung tenths sortWorth sortDays sorts text texted trace at_ fault readPeople readPerson readAskings readAsked readHangs readHung rest brings later) (mw d ad w_r isKept people room work price askings asked hangs hung tenths sortWorth sortDays sorts text texted trace at_ fault readPeople readPerson readAskings readAsked readHangs readHung rest brings later) sz [.ref (ad 0), .int x1, .int x2] :=
  MV.of (by decide) [.ref (ad 0), .int x1, .int x2] [(0, .ref (ad 0)), (1, .int x1), (2, .int x2)] (Nat.le_of_ble_eq_true rfl) rfl (fun p e s m below meth c ls Q hx hb hml hown hts hN hA hC hl K => w_m_remove hx hb hml hown hts hA (Nat.le_refl _) (Nat.le_refl _) (Nat.le_refl _) (Nat.le_refl _) hf hC hl K)

def m_insert_L11 (x1 : Int32) (x2 : Int32) : Nat → Int32 → (Nat → Int32) → Option ((Nat → Int32))
  | 0, _, _ => none
  | n_11 + 1, x4_11, w_11 =>
  if x4_11 ≤ x2 then (some w_11) else
  ck (((23 + (5 * x1)) + x4_11) - 1) 300 <| ck ((23 + (5 * x1)) + x4_11) 300 <| m_insert_L11 x1 x2 n_11 (x4_11 + (-1)) (upd w_11 ((23 + (5 * x1)) + x4_11).toNatClampNeg (w_11 (((23 + (5 * x1)) + x4_11) - 1).toNatClampNeg))
theorem m_insert_L11_s (x1 : Int32) (x2 : Int32) (n_11 : Nat) (x4_11 : Int32) (w_11 : Nat → Int32) : m_insert_L11 x1 x2 (n_11 + 1) x4_11 w_11 = (
  if x4_11 ≤ x2 then (some w_11) else
  ck (((23 + (5 * x1)) + x4_11) - 1) 300 <| ck ((23 + (5 * x1)) + x4_11) 300 <| m_insert_L11 x1 x2 n_11 (x4_11 + (-1)) (upd w_11 ((23 + (5 * x1)) + x4_11).toNatClampNeg (w_11 (((23 + (5 * x1)) + x4_11) - 1).toNatClampNeg))) := rfl
def m_insert (w : Nat → Int32) (x1 : Int32) (x2 : Int32) (x3 : Int32) : Option ((Nat → Int32)) :=
  ck (19 + x1) 300 <| bnd (m_insert_L11 x1 x2 g_fuel (w (19 + x1).toNatClampNeg) w) (fun w_53 =>
  ck ((23 + (5 * x1)) + x2) 300 <| ck (19 + x1) 300 <| ck (19 + x1) 300 <| ck (3 + x3) 300 <| some (upd (upd (upd w_53 ((23 + (5 * x1)) + x2).toNatClampNeg x3) (19 + x1).toNatClampNeg (((upd w_53 ((23 + (5 * x1)) + x2).toNatClampNeg x3) (19 + x1).toNatClampNeg) + 1)) (3 + x3).toNatClampNeg 1))
set_option maxHeartbeats 4000000 in
set_option maxRecDepth 100000 in
theorem w_m_insert {p : Program} {l : Launch} {e : Env} {R : Room} {s : State} {m : MethodId} {args : Array Value} {below : List Frame} {meth : Method} {c : Code} {H : Heap} {locs : List Loc} {cells slots : Nat} {Q : State → Prop} {A : Nat → Prop} {ls : Array Slot} {D : va_G} {d : Nat → ClassId} {ad : Nat → Nat} {w : Nat → Int32} {isKept : Nat → Int32} {people : Int32} {room : Nat → Int32} {work : Nat → Int32} {price : Nat → Int32} {askings : Int32} {asked : Nat → Int32} {hangs : Int32} {hung : Nat → Int32} {tenths : Nat → Int32} {sortWorth : Nat → Int32} {sortDays : Nat → Int32} {sorts : Int32} {text : Nat → Int32} {texted : Int32} {trace : Int64} {at_ : Int32} {fault : Int32} {readPeople : Int32} {readPerson : Nat → Int32} {readAskings : Int32} {readAsked : Nat → Int32} {readHangs : Int32} {readHung : Nat → Int32} {rest : Nat → Int32} {brings : Nat → Int64} {later : Nat → Int64} {x1 : Int32} {x2 : Int32} {x3 : Int32} {w_r : Nat → Int32} (hx : p.tables.exec = Jvm.exec) (hb : c.code = cX10_insert) (hml : c.maxLocals = 5) (hown : s.vm.findClass RX10 = some m.cls) (hts : ∀ w ∈ lw_all, w.before args s = true) (hA : ∀ q, s.heap.size ≤ q → A q) (hRf : 0 ≤ R.frames) (hRl : 0 ≤ R.locals) (hRc : cells ≤ R.cells) (hRs : slots ≤ R.slots) (hf : m_insert w x1 x2 x3 = some w_r) (hC : HC D gcl (gty d) A (mw d ad w isKept people room work price askings asked hangs hung tenths sortWorth sortDays sorts text texted trace at_ fault readPeople readPerson readAskings readAsked readHangs readHung rest brings later) s H locs) (hl : lv_has ls 5 [(0, .ref (ad 0)), (1, .int x1), (2, .int x2), (3, .int x3)]) (K : ∀ (H : Heap) (locs : List Loc) (ls : Array Slot) (pc : Nat), True → HC D gcl (gty d) A (mw d ad w_r isKept people room work price askings asked hangs hung tenths sortWorth sortDays sorts text texted trace at_ fault readPeople readPerson readAskings readAsked readHangs readHung rest brings later) s H locs → decode cX10_insert pc = .ok (.return_, 1) → W p l e R s m args below meth c H locs cells slots Q (F0 m pc ls [])) : W p l e R s m args below meth c H locs cells slots Q (F0 m 0 ls []) := by
  unfold m_insert at hf
  refine lv_aload_n hx hb dX10_insert_0 rfl (lv_at hl 0 rfl) ?_
  refine va_get (ci := 10) (v := .ref (ad 1)) (C := RX10) (T := TX10) (N := 28) hx hb hts in_X10 hown hC.1 hC.2.1 0 rfl rfl 0 (by decide) (hts _ q806) (fun _ h9 => h9) rfl dX10_insert_1 ?_
  refine lv_bipush (v := 19) hx hb dX10_insert_4 (by decide) ?_
  refine lv_iload_n hx hb dX10_insert_6 rfl (lv_at hl 1 rfl) ?_
  refine lv_iadd hx hb dX10_insert_7 ?_
  obtain ⟨hi_8, hf⟩ := ck_some hf
  refine va_iald hx hb hC.1 hC.2.1 1 0 rfl rfl hi_8 dX10_insert_8 ?_
  refine lv_istore (lv' := [(4, .int (w (19 + x1).toNatClampNeg)), (0, .ref (ad 0)), (1, .int x1), (2, .int x2), (3, .int x3)]) hx hb dX10_insert_9 hl (by decide) rfl (fun ls hl => ?_)
  obtain ⟨w_53, hL, hf⟩ := bnd_some hf
  have X_11 : ∀ (H : Heap) (locs : List Loc) (ls : Array Slot), HC D gcl (gty d) A (mw d ad w_53 isKept people room work price askings asked hangs hung tenths sortWorth sortDays sorts text texted trace at_ fault readPeople readPerson readAskings readAsked readHangs readHung rest brings later) s H locs → lv_has ls 5 [(0, .ref (ad 0)), (1, .int x1), (2, .int x2), (3, .int x3)] → W p l e R s m args below meth c H locs cells slots Q (F0 m 53 ls []) := by
    intro H locs ls hC hl
    refine lv_aload_n hx hb dX10_insert_53 rfl (lv_at hl 0 rfl) ?_
    refine va_get (ci := 10) (v := .ref (ad 1)) (C := RX10) (T := TX10) (N := 28) hx hb hts in_X10 hown hC.1 hC.2.1 0 rfl rfl 0 (by decide) (hts _ q806) (fun _ h9 => h9) rfl dX10_insert_54 ?_
    refine lv_bipush (v := 23) hx hb dX10_insert_57 (by decide) ?_
    refine lv_iconst (v := 5) hx hb dX10_insert_59 (by decide) ?_
    refine lv_iload_n hx hb dX10_insert_60 rfl (lv_at hl 1 rfl) ?_
    refine lv_imul hx hb dX10_insert_61 ?_
    refine lv_iadd hx hb dX10_insert_62 ?_
    refine lv_iload_n hx hb dX10_insert_63 rfl (lv_at hl 2 rfl) ?_
    refine lv_iadd hx hb dX10_insert_64 ?_
    refine lv_iload_n hx hb dX10_insert_65 rfl (lv_at hl 3 rfl) ?_
    obtain ⟨hi_66, hf⟩ := ck_some hf
    refine va_iast hx hb hC.1 hC.2.1 hC.2.2.1 hC.2.2.2 1 0 rfl rfl hi_66 dX10_insert_66 (fun H locs hP hD hS => ?_)
    have hC : HC D gcl (gty d) A (mw d ad (upd w_53 ((23 + (5 * x1)) + x2).toNatClampNeg x3) isKept people room work price askings asked hangs hung tenths sortWorth sortDays sorts text texted trace at_ fault readPeople readPerson readAskings readAsked readHangs readHung rest brings later) s H locs := ⟨hC.1, hP, hD, hS⟩
    refine lv_aload_n hx hb dX10_insert_67 rfl (lv_at hl 0 rfl) ?_
    refine va_get (ci := 10) (v := .ref (ad 1)) (C := RX10) (T := TX10) (N := 28) hx hb hts in_X10 hown hC.1 hC.2.1 0 rfl rfl 0 (by decide) (hts _ q806) (fun _ h9 => h9) rfl dX10_insert_68 ?_
    refine lv_bipush (v := 19) hx hb dX10_insert_71 (by decide) ?_
    refine lv_iload_n hx hb dX10_insert_73 rfl (lv_at hl 1 rfl) ?_
    refine lv_iadd hx hb dX10_insert_74 ?_
    refine lv_dup2_11 hx hb dX10_insert_75 rfl rfl ?_
    obtain ⟨hi_76, hf⟩ := ck_some hf
    refine va_iald hx hb hC.1 hC.2.1 1 0 rfl rfl hi_76 dX10_insert_76 ?_
    refine lv_iconst (v := 1) hx hb dX10_insert_77 (by decide) ?_
    refine lv_iadd hx hb dX10_insert_78 ?_
    obtain ⟨hi_79, hf⟩ := ck_some hf
    refine va_iast hx hb hC.1 hC.2.1 hC.2.2.1 hC.2.2.2 1 0 rfl rfl hi_79 dX10_insert_79 (fun H locs hP hD hS => ?_)
    have hC : HC D gcl (gty d) A (mw d ad (upd (upd w_53 ((23 + (5 * x1)) + x2).toNatClampNeg x3) (19 + x1).toNatClampNeg (((upd w_53 ((23 + (5 * x1)) + x2).toNatClampNeg x3) (19 + x1).toNatClampNeg) + 1)) isKept people room work price askings asked hangs hung tenths sortWorth sortDays sorts text texted trace at_ fault readPeople readPerson readAskings readAsked readHangs readHung rest brings later) s H locs := ⟨hC.1, hP, hD, hS⟩
    refine lv_aload_n hx hb dX10_insert_80 rfl (lv_at hl 0 rfl) ?_
    refine va_get (ci := 10) (v := .ref (ad 1)) (C := RX10) (T := TX10) (N := 28) hx hb hts in_X10 hown hC.1 hC.2.1 0 rfl rfl 0 (by decide) (hts _ q806) (fun _ h9 => h9) rfl dX10_insert_81 ?_
    refine lv_iconst (v := 3) hx hb dX10_insert_84 (by decide) ?_
    refine lv_iload_n hx hb dX10_insert_85 rfl (lv_at hl 3 rfl) ?_
    refine lv_iadd hx hb dX10_insert_86 ?_
    refine lv_iconst (v := 1) hx hb dX10_insert_87 (by decide) ?_
    obtain ⟨hi_88, hf⟩ := ck_some hf
    refine va_iast hx hb hC.1 hC.2.1 hC.2.2.1 hC.2.2.2 1 0 rfl rfl hi_88 dX10_insert_88 (fun H locs hP hD hS => ?_)
    have hC : HC D gcl (gty d) A (mw d ad (upd (upd (upd w_53 ((23 + (5 * x1)) + x2).toNatClampNeg x3) (19 + x1).toNatClampNeg (((upd w_53 ((23 + (5 * x1)) + x2).toNatClampNeg x3) (19 + x1).toNatClampNeg) + 1)) (3 + x3).toNatClampNeg 1) isKept people room work price askings asked hangs hung tenths sortWorth sortDays sorts text texted trace at_ fault readPeople readPerson readAskings readAsked readHangs readHung rest brings later) s H locs := ⟨hC.1, hP, hD, hS⟩
    have e_1 := (Option.some.inj hf)
    subst e_1
    exact K H locs ls _ trivial hC dX10_insert_89
  have L_11 : ∀ (n_11 : Nat) (x4_11 : Int32) (w_11 : Nat → Int32), m_insert_L11 x1 x2 n_11 x4_11 w_11 = some w_53 → ∀ (H : Heap) (locs : List Loc) (ls : Array Slot), HC D gcl (gty d) A (mw d ad w_11 isKept people room work price askings asked hangs hung tenths sortWorth sortDays sorts text texted trace at_ fault readPeople readPerson readAskings readAsked readHangs readHung rest brings later) s H locs → lv_has ls 5 [(0, .ref (ad 0)), (1, .int x1), (2, .int x2), (3, .int x3), (4, .int x4_11)] → W p l e R s m args below meth c H locs cells slots Q (F0 m 11 ls []) := by
    intro n_11
    induction n_11 with
    | zero => intro _ _ hf; cases hf
    | succ n_11 ih =>
      intro x4_11 w_11 hf H locs ls hC hl
      rw [m_insert_L11_s] at hf
      refine lv_iload hx hb dX10_insert_11 (lv_at hl 4 rfl) ?_
      refine lv_iload_n hx hb dX10_insert_13 rfl (lv_at hl 2 rfl) ?_
      refine lv_icmp_le (tgt := 53) hx hb dX10_insert_14 (by decide) (fun c_14 => ?_) (fun c_14 => ?_)
      · have hf := if_t hf c_14
        have e_1 := (Option.some.inj hf)
        subst e_1
        exact X_11 H locs ls hC (lv_sub hl [0, 1, 2, 3] rfl)
      · have hf := if_f hf c_14
        refine lv_aload_n hx hb dX10_insert_17 rfl (lv_at hl 0 rfl) ?_
        refine va_get (ci := 10) (v := .ref (ad 1)) (C := RX10) (T := TX10) (N := 28) hx hb hts in_X10 hown hC.1 hC.2.1 0 rfl rfl 0 (by decide) (hts _ q806) (fun _ h9 => h9) rfl dX10_insert_18 ?_
        refine lv_bipush (v := 23) hx hb dX10_insert_21 (by decide) ?_
        refine lv_iconst (v := 5) hx hb dX10_insert_23 (by decide) ?_
        refine lv_iload_n hx hb dX10_insert_24 rfl (lv_at hl 1 rfl) ?_
        refine lv_imul hx hb dX10_insert_25 ?_
        refine lv_iadd hx hb dX10_insert_26 ?_
        refine lv_iload hx hb dX10_insert_27 (lv_at hl 4 rfl) ?_
        refine lv_iadd hx hb dX10_insert_29 ?_
        refine lv_aload_n hx hb dX10_insert_30 rfl (lv_at hl 0 rfl) ?_
        refine va_get (ci := 10) (v := .ref (ad 1)) (C := RX10) (T := TX10) (N := 28) hx hb hts in_X10 hown hC.1 hC.2.1 0 rfl rfl 0 (by decide) (hts _ q806) (fun _ h9 => h9) rfl dX10_insert_31 ?_
        refine lv_bipush (v := 23) hx hb dX10_insert_34 (by decide) ?_
        refine lv_iconst (v := 5) hx hb dX10_insert_36 (by decide) ?_
        refine lv_iload_n hx hb dX10_insert_37 rfl (lv_at hl 1 rfl) ?_
        refine lv_imul hx hb dX10_insert_38 ?_
        refine lv_iadd hx hb dX10_insert_39 ?_
        refine lv_iload hx hb dX10_insert_40 (lv_at hl 4 rfl) ?_
        refine lv_iadd hx hb dX10_insert_42 ?_
        refine lv_iconst (v := 1) hx hb dX10_insert_43 (by decide) ?_
        refine lv_isub hx hb dX10_insert_44 ?_
        obtain ⟨hi_45, hf⟩ := ck_some hf
        refine va_iald hx hb hC.1 hC.2.1 1 0 rfl rfl hi_45 dX10_insert_45 ?_
        obtain ⟨hi_46, hf⟩ := ck_some hf
        refine va_iast hx hb hC.1 hC.2.1 hC.2.2.1 hC.2.2.2 1 0 rfl rfl hi_46 dX10_insert_46 (fun H locs hP hD hS => ?_)
        have hC : HC D gcl (gty d) A (mw d ad (upd w_11 ((23 + (5 * x1)) + x4_11).toNatClampNeg (w_11 (((23 + (5 * x1)) + x4_11) - 1).toNatClampNeg)) isKept people room work price askings asked hangs hung tenths sortWorth sortDays sorts text texted trace at_ fault readPeople readPerson readAskings readAsked readHangs readHung rest brings later) s H locs := ⟨hC.1, hP, hD, hS⟩
        refine lv_iinc (v := x4_11 + (-1)) (lv' := [(4, .int (x4_11 + (-1))), (0, .ref (ad 0)), (1, .int x1), (2, .int x2), (3, .int x3)]) hx hb dX10_insert_47 hl (k := 4) rfl rfl (by decide) rfl (fun ls hl => ?_)
        refine lv_goto (tgt := 11) hx hb dX10_insert_50 (by decide) ?_
        exact ih _ _ hf H locs ls hC (lv_sub hl [1, 2, 3, 4, 0] rfl)
  exact L_11 _ _ _ hL H locs ls hC (lv_sub hl [1, 2, 3, 4, 0] rfl)
set_option maxRecDepth 100000 in
theorem c_m_insert {l : Launch} {sz : Nat} {D : va_G} {d : Nat → ClassId} {ad : Nat → Nat} {w : Nat → Int32} {isKept : Nat → Int32} {people : Int32} {room : Nat → Int32} {work : Nat → Int32} {price : Nat → Int32} {askings : Int32} {asked : Nat → Int32} {hangs : Int32} {hung : Nat → Int32} {tenths : Nat → Int32} {sortWorth : Nat → Int32} {sortDays : Nat → Int32} {sorts : Int32} {text : Nat → Int32} {texted : Int32} {trace : Int64} {at_ : Int32} {fault : Int32} {readPeople : Int32} {readPerson : Nat → Int32} {readAskings : Int32} {readAsked : Nat → Int32} {readHangs : Int32} {readHung : Nat → Int32} {rest : Nat → Int32} {brings : Nat → Int64} {later : Nat → Int64} {x1 : Int32} {x2 : Int32} {x3 : Int32} {w_r : Nat → Int32} (hf : m_insert w x1 x2 x3 = some w_r) : MV l yX10_insert (ws_ yX10_insert cX10_insert 5 none) { frames := 0, cells := 0, slots := 0, locals := 0 } D gcl (gty d) (fun _ => True) (mw d ad w isKept people room work price askings asked hangs hung tenths sortWorth sortDays sorts text texted trace at_ fault readPeople readPerson readAskings readAsked readHangs readHung rest brings later) (mw d ad w_r isKept people room work price askings asked hangs hung tenths sortWorth sortDays sorts text texted trace at_ fault readPeople readPerson readAskings readAsked readHangs readHung rest brings later) sz [.ref (ad 0), .int x1, .int x2, .int x3] :=
  MV.of (by decide) [.ref (ad 0), .int x1, .int x2, .int x3] [(0, .ref (ad 0)), (1, .int x1), (2, .int x2), (3, .int x3)] (Nat.le_of_ble_eq_true rfl) rfl (fun p e s m below meth c ls Q hx hb hml hown hts hN hA hC hl K => w_m_insert hx hb hml hown hts hA (Nat.le_refl _) (Nat.le_refl _) (Nat.le_refl _) (Nat.le_refl _) hf hC hl K)

def m_minds_L15 : Nat → Int32 → (Nat → Int32) → Option ((Nat → Int32))
  | 0, _, _ => none
  | n_15 + 1, x5_15, w_15 =>
  if 44 ≤ x5_15 then (some w_15) else
  ck ((44 + x5_15) + 4) 300 <| ck (44 + x5_15) 300 <| m_minds_L15 n_15 (x5_15 + 1) (upd w_15 (44 + x5_15).toNatClampNeg (w_15 ((44 + x5_15) + 4).toNatClampNeg))
theorem m_minds_L15_s (n_15 : Nat) (x5_15 : Int32) (w_15 : Nat → Int32) : m_minds_L15 (n_15 + 1) x5_15 w_15 = (
  if 44 ≤ x5_15 then (some w_15) else
  ck ((44 + x5_15) + 4) 300 <| ck (44 + x5_15) 300 <| m_minds_L15 n_15 (x5_15 + 1) (upd w_15 (44 + x5_15).toNatClampNeg (w_15 ((44 + x5_15) + 4).toNatClampNeg))) := rfl
def m_minds (w : Nat → Int32) (x1 : Int32) (x2 : Int32) (x3 : Int32) (x4 : Int32) : Option ((Nat → Int32)) :=
  bnd (if (w (43 : Int32).toNatClampNeg) = 12 then (bnd (m_minds_L15 g_fuel 0 w) (fun w_50 =>
  some (upd w_50 (43 : Int32).toNatClampNeg ((w_50 (43 : Int32).toNatClampNeg) - 1)))) else
  some (w)) (fun (w_61 : Nat → Int32) =>
  ck (44 + (4 * (w_61 (43 : Int32).toNatClampNeg))) 300 <| ck ((44 + (4 * (w_61 (43 : Int32).toNatClampNeg))) + 1) 300 <| ck ((44 + (4 * (w_61 (43 : Int32).toNatClampNeg))) + 2) 300 <| ck ((44 + (4 * (w_61 (43 : Int32).toNatClampNeg))) + 3) 300 <| some (upd (upd (upd (upd (upd w_61 (44 + (4 * (w_61 (43 : Int32).toNatClampNeg))).toNatClampNeg x1) ((44 + (4 * (w_61 (43 : Int32).toNatClampNeg))) + 1).toNatClampNeg x2) ((44 + (4 * (w_61 (43 : Int32).toNatClampNeg))) + 2).toNatClampNeg x3) ((44 + (4 * (w_61 (43 : Int32).toNatClampNeg))) + 3).toNatClampNeg x4) (43 : Int32).toNatClampNeg (((upd (upd (upd (upd w_61 (44 + (4 * (w_61 (43 : Int32).toNatClampNeg))).toNatClampNeg x1) ((44 + (4 * (w_61 (43 : Int32).toNatClampNeg))) + 1).toNatClampNeg x2) ((44 + (4 * (w_61 (43 : Int32).toNatClampNeg))) + 2).toNatClampNeg x3) ((44 + (4 * (w_61 (43 : Int32).toNatClampNeg))) + 3).toNatClampNeg x4) (43 : Int32).toNatClampNeg) + 1)))
set_option maxHeartbeats 4000000 in
set_option maxRecDepth 100000 in
theorem w_m_minds {p : Program} {l : Launch} {e : Env} {R : Room} {s : State} {m : MethodId} {args : Array Value} {below : List Frame} {meth : Method} {c : Code} {H : Heap} {locs : List Loc} {cells slots : Nat} {Q : State → Prop} {A : Nat → Prop} {ls : Array Slot} {D : va_G} {d : Nat → ClassId} {ad : Nat → Nat} {w : Nat → Int32} {isKept : Nat → Int32} {people : Int32} {room : Nat → Int32} {work : Nat → Int32} {price : Nat → Int32} {askings : Int32} {asked : Nat → Int32} {hangs : Int32} {hung : Nat → Int32} {tenths : Nat → Int32} {sortWorth : Nat → Int32} {sortDays : Nat → Int32} {sorts : Int32} {text : Nat → Int32} {texted : Int32} {trace : Int64} {at_ : Int32} {fault : Int32} {readPeople : Int32} {readPerson : Nat → Int32} {readAskings : Int32} {readAsked : Nat → Int32} {readHangs : Int32} {readHung : Nat → Int32} {rest : Nat → Int32} {brings : Nat → Int64} {later : Nat → Int64} {x1 : Int32} {x2 : Int32} {x3 : Int32} {x4 : Int32} {w_r : Nat → Int32} (hx : p.tables.exec = Jvm.exec) (hb : c.code = cX10_minds) (hml : c.maxLocals = 6) (hown : s.vm.findClass RX10 = some m.cls) (hts : ∀ w ∈ lw_all, w.before args s = true) (hA : ∀ q, s.heap.size ≤ q → A q) (hRf : 0 ≤ R.frames) (hRl : 0 ≤ R.locals) (hRc : cells ≤ R.cells) (hRs : slots ≤ R.slots) (hf : m_minds w x1 x2 x3 x4 = some w_r) (hC : HC D gcl (gty d) A (mw d ad w isKept people room work price askings asked hangs hung tenths sortWorth sortDays sorts text texted trace at_ fault readPeople readPerson readAskings readAsked readHangs readHung rest brings later) s H locs) (hl : lv_has ls 6 [(0, .ref (ad 0)), (1, .int x1), (2, .int x2), (3, .int x3), (4, .int x4)]) (K : ∀ (H : Heap) (locs : List Loc) (ls : Array Slot) (pc : Nat), True → HC D gcl (gty d) A (mw d ad w_r isKept people room work price askings asked hangs hung tenths sortWorth sortDays sorts text texted trace at_ fault readPeople readPerson readAskings readAsked readHangs readHung rest brings later) s H locs → decode cX10_minds pc = .ok (.return_, 1) → W p l e R s m args below meth c H locs cells slots Q (F0 m pc ls [])) : W p l e R s m args below meth c H locs cells slots Q (F0 m 0 ls []) := by
  unfold m_minds at hf
  refine lv_aload_n hx hb dX10_minds_0 rfl (lv_at hl 0 rfl) ?_
  refine va_get (ci := 10) (v := .ref (ad 1)) (C := RX10) (T := TX10) (N := 28) hx hb hts in_X10 hown hC.1 hC.2.1 0 rfl rfl 0 (by decide) (hts _ q806) (fun _ h9 => h9) rfl dX10_minds_1 ?_
  refine lv_bipush (v := 43) hx hb dX10_minds_4 (by decide) ?_
  refine va_iald hx hb hC.1 hC.2.1 1 0 rfl rfl (vp_in_iff.mpr (by decide)) dX10_minds_6 ?_
  refine lv_bipush (v := 12) hx hb dX10_minds_7 (by decide) ?_
  obtain ⟨w_61, hj, hf⟩ := bnd_some hf
  have J_61 : ∀ (H : Heap) (locs : List Loc) (ls : Array Slot), HC D gcl (gty d) A (mw d ad w_61 isKept people room work price askings asked hangs hung tenths sortWorth sortDays sorts text texted trace at_ fault readPeople readPerson readAskings readAsked readHangs readHung rest brings later) s H locs → lv_has ls 6 [(0, .ref (ad 0)), (1, .int x1), (2, .int x2), (3, .int x3), (4, .int x4)] → W p l e R s m args below meth c H locs cells slots Q (F0 m 61 ls []) := by
    intro H locs ls hC hl
    refine lv_bipush (v := 44) hx hb dX10_minds_61 (by decide) ?_
    refine lv_iconst (v := 4) hx hb dX10_minds_63 (by decide) ?_
    refine lv_aload_n hx hb dX10_minds_64 rfl (lv_at hl 0 rfl) ?_
    refine va_get (ci := 10) (v := .ref (ad 1)) (C := RX10) (T := TX10) (N := 28) hx hb hts in_X10 hown hC.1 hC.2.1 0 rfl rfl 0 (by decide) (hts _ q806) (fun _ h9 => h9) rfl dX10_minds_65 ?_
    refine lv_bipush (v := 43) hx hb dX10_minds_68 (by decide) ?_
    refine va_iald hx hb hC.1 hC.2.1 1 0 rfl rfl (vp_in_iff.mpr (by decide)) dX10_minds_70 ?_
    refine lv_imul hx hb dX10_minds_71 ?_
    refine lv_iadd hx hb dX10_minds_72 ?_
    refine lv_istore (lv' := [(5, .int (44 + (4 * (w_61 (43 : Int32).toNatClampNeg)))), (0, .ref (ad 0)), (1, .int x1), (2, .int x2), (3, .int x3), (4, .int x4)]) hx hb dX10_minds_73 hl (by decide) rfl (fun ls hl => ?_)
    refine lv_aload_n hx hb dX10_minds_75 rfl (lv_at hl 1 rfl) ?_
    refine va_get (ci := 10) (v := .ref (ad 1)) (C := RX10) (T := TX10) (N := 28) hx hb hts in_X10 hown hC.1 hC.2.1 0 rfl rfl 0 (by decide) (hts _ q806) (fun _ h9 => h9) rfl dX10_minds_76 ?_
    refine lv_iload hx hb dX10_minds_79 (lv_at hl 0 rfl) ?_
    refine lv_iload_n hx hb dX10_minds_81 rfl (lv_at hl 2 rfl) ?_
    obtain ⟨hi_82, hf⟩ := ck_some hf
    refine va_iast hx hb hC.1 hC.2.1 hC.2.2.1 hC.2.2.2 1 0 rfl rfl hi_82 dX10_minds_82 (fun H locs hP hD hS => ?_)
    have hC : HC D gcl (gty d) A (mw d ad (upd w_61 (44 + (4 * (w_61 (43 : Int32).toNatClampNeg))).toNatClampNeg x1) isKept people room work price askings asked hangs hung tenths sortWorth sortDays sorts text texted trace at_ fault readPeople readPerson readAskings readAsked readHangs readHung rest brings later) s H locs := ⟨hC.1, hP, hD, hS⟩
    refine lv_aload_n hx hb dX10_minds_83 rfl (lv_at hl 1 rfl) ?_
    refine va_get (ci := 10) (v := .ref (ad 1)) (C := RX10) (T := TX10) (N := 28) hx hb hts in_X10 hown hC.1 hC.2.1 0 rfl rfl 0 (by decide) (hts _ q806) (fun _ h9 => h9) rfl dX10_minds_84 ?_
    refine lv_iload hx hb dX10_minds_87 (lv_at hl 0 rfl) ?_
    refine lv_iconst (v := 1) hx hb dX10_minds_89 (by decide) ?_
    refine lv_iadd hx hb dX10_minds_90 ?_
    refine lv_iload_n hx hb dX10_minds_91 rfl (lv_at hl 3 rfl) ?_
    obtain ⟨hi_92, hf⟩ := ck_some hf
    refine va_iast hx hb hC.1 hC.2.1 hC.2.2.1 hC.2.2.2 1 0 rfl rfl hi_92 dX10_minds_92 (fun H locs hP hD hS => ?_)
    have hC : HC D gcl (gty d) A (mw d ad (upd (upd w_61 (44 + (4 * (w_61 (43 : Int32).toNatClampNeg))).toNatClampNeg x1) ((44 + (4 * (w_61 (43 : Int32).toNatClampNeg))) + 1).toNatClampNeg x2) isKept people room work price askings asked hangs hung tenths sortWorth sortDays sorts text texted trace at_ fault readPeople readPerson readAskings readAsked readHangs readHung rest brings later) s H locs := ⟨hC.1, hP, hD, hS⟩
    refine lv_aload_n hx hb dX10_minds_93 rfl (lv_at hl 1 rfl) ?_
    refine va_get (ci := 10) (v := .ref (ad 1)) (C := RX10) (T := TX10) (N := 28) hx hb hts in_X10 hown hC.1 hC.2.1 0 rfl rfl 0 (by decide) (hts _ q806) (fun _ h9 => h9) rfl dX10_minds_94 ?_
    refine lv_iload hx hb dX10_minds_97 (lv_at hl 0 rfl) ?_
    refine lv_iconst (v := 2) hx hb dX10_minds_99 (by decide) ?_
    refine lv_iadd hx hb dX10_minds_100 ?_
    refine lv_iload_n hx hb dX10_minds_101 rfl (lv_at hl 4 rfl) ?_
    obtain ⟨hi_102, hf⟩ := ck_some hf
    refine va_iast hx hb hC.1 hC.2.1 hC.2.2.1 hC.2.2.2 1 0 rfl rfl hi_102 dX10_minds_102 (fun H locs hP hD hS => ?_)
    have hC : HC D gcl (gty d) A (mw d ad (upd (upd (upd w_61 (44 + (4 * (w_61 (43 : Int32).toNatClampNeg))).toNatClampNeg x1) ((44 + (4 * (w_61 (43 : Int32).toNatClampNeg))) + 1).toNatClampNeg x2) ((44 + (4 * (w_61 (43 : Int32).toNatClampNeg))) + 2).toNatClampNeg x3) isKept people room work price askings asked hangs hung tenths sortWorth sortDays sorts text texted trace at_ fault readPeople readPerson readAskings readAsked readHangs readHung rest brings later) s H locs := ⟨hC.1, hP, hD, hS⟩
    refine lv_aload_n hx hb dX10_minds_103 rfl (lv_at hl 1 rfl) ?_
    refine va_get (ci := 10) (v := .ref (ad 1)) (C := RX10) (T := TX10) (N := 28) hx hb hts in_X10 hown hC.1 hC.2.1 0 rfl rfl 0 (by decide) (hts _ q806) (fun _ h9 => h9) rfl dX10_minds_104 ?_
    refine lv_iload hx hb dX10_minds_107 (lv_at hl 0 rfl) ?_
    refine lv_iconst (v := 3) hx hb dX10_minds_109 (by decide) ?_
    refine lv_iadd hx hb dX10_minds_110 ?_
    refine lv_iload hx hb dX10_minds_111 (lv_at hl 5 rfl) ?_
    obtain ⟨hi_113, hf⟩ := ck_some hf
    refine va_iast hx hb hC.1 hC.2.1 hC.2.2.1 hC.2.2.2 1 0 rfl rfl hi_113 dX10_minds_113 (fun H locs hP hD hS => ?_)
    have hC : HC D gcl (gty d) A (mw d ad (upd (upd (upd (upd w_61 (44 + (4 * (w_61 (43 : Int32).toNatClampNeg))).toNatClampNeg x1) ((44 + (4 * (w_61 (43 : Int32).toNatClampNeg))) + 1).toNatClampNeg x2) ((44 + (4 * (w_61 (43 : Int32).toNatClampNeg))) + 2).toNatClampNeg x3) ((44 + (4 * (w_61 (43 : Int32).toNatClampNeg))) + 3).toNatClampNeg x4) isKept people room work price askings asked hangs hung tenths sortWorth sortDays sorts text texted trace at_ fault readPeople readPerson readAskings readAsked readHangs readHung rest brings later) s H locs := ⟨hC.1, hP, hD, hS⟩
    refine lv_aload_n hx hb dX10_minds_114 rfl (lv_at hl 1 rfl) ?_
    refine va_get (ci := 10) (v := .ref (ad 1)) (C := RX10) (T := TX10) (N := 28) hx hb hts in_X10 hown hC.1 hC.2.1 0 rfl rfl 0 (by decide) (hts _ q806) (fun _ h9 => h9) rfl dX10_minds_115 ?_
    refine lv_bipush (v := 43) hx hb dX10_minds_118 (by decide) ?_
    refine lv_dup2_11 hx hb dX10_minds_120 rfl rfl ?_
    refine va_iald hx hb hC.1 hC.2.1 1 0 rfl rfl (vp_in_iff.mpr (by decide)) dX10_minds_121 ?_
    refine lv_iconst (v := 1) hx hb dX10_minds_122 (by decide) ?_
    refine lv_iadd hx hb dX10_minds_123 ?_
    refine va_iast hx hb hC.1 hC.2.1 hC.2.2.1 hC.2.2.2 1 0 rfl rfl (vp_in_iff.mpr (by decide)) dX10_minds_124 (fun H locs hP hD hS => ?_)
    have hC : HC D gcl (gty d) A (mw d ad (upd (upd (upd (upd (upd w_61 (44 + (4 * (w_61 (43 : Int32).toNatClampNeg))).toNatClampNeg x1) ((44 + (4 * (w_61 (43 : Int32).toNatClampNeg))) + 1).toNatClampNeg x2) ((44 + (4 * (w_61 (43 : Int32).toNatClampNeg))) + 2).toNatClampNeg x3) ((44 + (4 * (w_61 (43 : Int32).toNatClampNeg))) + 3).toNatClampNeg x4) (43 : Int32).toNatClampNeg (((upd (upd (upd (upd w_61 (44 + (4 * (w_61 (43 : Int32).toNatClampNeg))).toNatClampNeg x1) ((44 + (4 * (w_61 (43 : Int32).toNatClampNeg))) + 1).toNatClampNeg x2) ((44 + (4 * (w_61 (43 : Int32).toNatClampNeg))) + 2).toNatClampNeg x3) ((44 + (4 * (w_61 (43 : Int32).toNatClampNeg))) + 3).toNatClampNeg x4) (43 : Int32).toNatClampNeg) + 1)) isKept people room work price askings asked hangs hung tenths sortWorth sortDays sorts text texted trace at_ fault readPeople readPerson readAskings readAsked readHangs readHung rest brings later) s H locs := ⟨hC.1, hP, hD, hS⟩
    have e_1 := (Option.some.inj hf)
    subst e_1
    exact K H locs ls _ trivial hC dX10_minds_125
  have hf := hj
  refine lv_icmp_ne (tgt := 61) hx hb dX10_minds_9 (by decide) (fun c_9 => ?_) (fun c_9 => ?_)
  · have hf := if_f hf c_9
    have e_1 := (Option.some.inj hf)
    subst e_1
    exact J_61 H locs ls hC (lv_sub hl [0, 1, 2, 3, 4] rfl)
  · have hf := if_t hf c_9
    refine lv_iconst (v := 0) hx hb dX10_minds_12 (by decide) ?_
    refine lv_istore (lv' := [(5, .int 0), (0, .ref (ad 0)), (1, .int x1), (2, .int x2), (3, .int x3), (4, .int x4)]) hx hb dX10_minds_13 hl (by decide) rfl (fun ls hl => ?_)
    obtain ⟨w_50, hL, hf⟩ := bnd_some hf
    have X_15 : ∀ (H : Heap) (locs : List Loc) (ls : Array Slot), HC D gcl (gty d) A (mw d ad w_50 isKept people room work price askings asked hangs hung tenths sortWorth sortDays sorts text texted trace at_ fault readPeople readPerson readAskings readAsked readHangs readHung rest brings later) s H locs → lv_has ls 6 [(0, .ref (ad 0)), (1, .int x1), (2, .int x2), (3, .int x3), (4, .int x4)] → W p l e R s m args below meth c H locs cells slots Q (F0 m 50 ls []) := by
      intro H locs ls hC hl
      refine lv_aload_n hx hb dX10_minds_50 rfl (lv_at hl 0 rfl) ?_
      refine va_get (ci := 10) (v := .ref (ad 1)) (C := RX10) (T := TX10) (N := 28) hx hb hts in_X10 hown hC.1 hC.2.1 0 rfl rfl 0 (by decide) (hts _ q806) (fun _ h9 => h9) rfl dX10_minds_51 ?_
      refine lv_bipush (v := 43) hx hb dX10_minds_54 (by decide) ?_
      refine lv_dup2_11 hx hb dX10_minds_56 rfl rfl ?_
      refine va_iald hx hb hC.1 hC.2.1 1 0 rfl rfl (vp_in_iff.mpr (by decide)) dX10_minds_57 ?_
      refine lv_iconst (v := 1) hx hb dX10_minds_58 (by decide) ?_
      refine lv_isub hx hb dX10_minds_59 ?_
      refine va_iast hx hb hC.1 hC.2.1 hC.2.2.1 hC.2.2.2 1 0 rfl rfl (vp_in_iff.mpr (by decide)) dX10_minds_60 (fun H locs hP hD hS => ?_)
      have hC : HC D gcl (gty d) A (mw d ad (upd w_50 (43 : Int32).toNatClampNeg ((w_50 (43 : Int32).toNatClampNeg) - 1)) isKept people room work price askings asked hangs hung tenths sortWorth sortDays sorts text texted trace at_ fault readPeople readPerson readAskings readAsked readHangs readHung rest brings later) s H locs := ⟨hC.1, hP, hD, hS⟩
      have e_1 := (Option.some.inj hf)
      subst e_1
      exact J_61 H locs ls hC (lv_sub hl [0, 1, 2, 3, 4] rfl)
    have L_15 : ∀ (n_15 : Nat) (x5_15 : Int32) (w_15 : Nat → Int32), m_minds_L15 n_15 x5_15 w_15 = some w_50 → ∀ (H : Heap) (locs : List Loc) (ls : Array Slot), HC D gcl (gty d) A (mw d ad w_15 isKept people room work price askings asked hangs hung tenths sortWorth sortDays sorts text texted trace at_ fault readPeople readPerson readAskings readAsked readHangs readHung rest brings later) s H locs → lv_has ls 6 [(0, .ref (ad 0)), (1, .int x1), (2, .int x2), (3, .int x3), (4, .int x4), (5, .int x5_15)] → W p l e R s m args below meth c H locs cells slots Q (F0 m 15 ls []) := by
      intro n_15
      induction n_15 with
      | zero => intro _ _ hf; cases hf
      | succ n_15 ih =>
        intro x5_15 w_15 hf H locs ls hC hl
        rw [m_minds_L15_s] at hf
        refine lv_iload hx hb dX10_minds_15 (lv_at hl 5 rfl) ?_
        refine lv_bipush (v := 44) hx hb dX10_minds_17 (by decide) ?_
        refine lv_icmp_ge (tgt := 50) hx hb dX10_minds_19 (by decide) (fun c_19 => ?_) (fun c_19 => ?_)
        · have hf := if_t hf c_19
          have e_1 := (Option.some.inj hf)
          subst e_1
          exact X_15 H locs ls hC (lv_sub hl [0, 1, 2, 3, 4] rfl)
        · have hf := if_f hf c_19
          refine lv_aload_n hx hb dX10_minds_22 rfl (lv_at hl 0 rfl) ?_
          refine va_get (ci := 10) (v := .ref (ad 1)) (C := RX10) (T := TX10) (N := 28) hx hb hts in_X10 hown hC.1 hC.2.1 0 rfl rfl 0 (by decide) (hts _ q806) (fun _ h9 => h9) rfl dX10_minds_23 ?_
          refine lv_bipush (v := 44) hx hb dX10_minds_26 (by decide) ?_
          refine lv_iload hx hb dX10_minds_28 (lv_at hl 5 rfl) ?_
          refine lv_iadd hx hb dX10_minds_30 ?_
          refine lv_aload_n hx hb dX10_minds_31 rfl (lv_at hl 0 rfl) ?_
          refine va_get (ci := 10) (v := .ref (ad 1)) (C := RX10) (T := TX10) (N := 28) hx hb hts in_X10 hown hC.1 hC.2.1 0 rfl rfl 0 (by decide) (hts _ q806) (fun _ h9 => h9) rfl dX10_minds_32 ?_
          refine lv_bipush (v := 44) hx hb dX10_minds_35 (by decide) ?_
          refine lv_iload hx hb dX10_minds_37 (lv_at hl 5 rfl) ?_
          refine lv_iadd hx hb dX10_minds_39 ?_
          refine lv_iconst (v := 4) hx hb dX10_minds_40 (by decide) ?_
          refine lv_iadd hx hb dX10_minds_41 ?_
          obtain ⟨hi_42, hf⟩ := ck_some hf
          refine va_iald hx hb hC.1 hC.2.1 1 0 rfl rfl hi_42 dX10_minds_42 ?_
          obtain ⟨hi_43, hf⟩ := ck_some hf
          refine va_iast hx hb hC.1 hC.2.1 hC.2.2.1 hC.2.2.2 1 0 rfl rfl hi_43 dX10_minds_43 (fun H locs hP hD hS => ?_)
          have hC : HC D gcl (gty d) A (mw d ad (upd w_15 (44 + x5_15).toNatClampNeg (w_15 ((44 + x5_15) + 4).toNatClampNeg)) isKept people room work price askings asked hangs hung tenths sortWorth sortDays sorts text texted trace at_ fault readPeople readPerson readAskings readAsked readHangs readHung rest brings later) s H locs := ⟨hC.1, hP, hD, hS⟩
          refine lv_iinc (v := x5_15 + 1) (lv' := [(5, .int (x5_15 + 1)), (0, .ref (ad 0)), (1, .int x1), (2, .int x2), (3, .int x3), (4, .int x4)]) hx hb dX10_minds_44 hl (k := 5) rfl rfl (by decide) rfl (fun ls hl => ?_)
          refine lv_goto (tgt := 15) hx hb dX10_minds_47 (by decide) ?_
          exact ih _ _ hf H locs ls hC (lv_sub hl [1, 2, 3, 4, 5, 0] rfl)
    exact L_15 _ _ _ hL H locs ls hC (lv_sub hl [1, 2, 3, 4, 5, 0] rfl)
set_option maxRecDepth 100000 in
theorem c_m_minds {l : Launch} {sz : Nat} {D : va_G} {d : Nat → ClassId} {ad : Nat → Nat} {w : Nat → Int32} {isKept : Nat → Int32} {people : Int32} {room : Nat → Int32} {work : Nat → Int32} {price : Nat → Int32} {askings : Int32} {asked : Nat → Int32} {hangs : Int32} {hung : Nat → Int32} {tenths : Nat → Int32} {sortWorth : Nat → Int32} {sortDays : Nat → Int32} {sorts : Int32} {text : Nat → Int32} {texted : Int32} {trace : Int64} {at_ : Int32} {fault : Int32} {readPeople : Int32} {readPerson : Nat → Int32} {readAskings : Int32} {readAsked : Nat → Int32} {readHangs : Int32} {readHung : Nat → Int32} {rest : Nat → Int32} {brings : Nat → Int64} {later : Nat → Int64} {x1 : Int32} {x2 : Int32} {x3 : Int32} {x4 : Int32} {w_r : Nat → Int32} (hf : m_minds w x1 x2 x3 x4 = some w_r) : MV l yX10_minds (ws_ yX10_minds cX10_minds 6 none) { frames := 0, cells := 0, slots := 0, locals := 0 } D gcl (gty d) (fun _ => True) (mw d ad w isKept people room work price askings asked hangs hung tenths sortWorth sortDays sorts text texted trace at_ fault readPeople readPerson readAskings readAsked readHangs readHung rest brings later) (mw d ad w_r isKept people room work price askings asked hangs hung tenths sortWorth sortDays sorts text texted trace at_ fault readPeople readPerson readAskings readAsked readHangs readHung rest brings later) sz [.ref (ad 0), .int x1, .int x2, .int x3, .int x4] :=
  MV.of (by decide) [.ref (ad 0), .int x1, .int x2, .int x3, .int x4] [(0, .ref (ad 0)), (1, .int x1), (2, .int x2), (3, .int x3), (4, .int x4)] (Nat.le_of_ble_eq_true rfl) rfl (fun p e s m below meth c ls Q hx hb hml hown hts hN hA hC hl K => w_m_minds hx hb hml hown hts hA (Nat.le_refl _) (Nat.le_refl _) (Nat.le_refl _) (Nat.le_refl _) hf hC hl K)

def m_type_L34 (x1 : Int64) : Nat → Int32 → (Nat → Int32) → Int32 → Option ((Nat → Int32) × Int32)
  | 0, _, _, _ => none
  | n_34 + 1, x4_34, text_34, texted_34 =>
  if x4_34 < 0 then (some (text_34, texted_34)) else
  ck texted_34 300 <| m_type_L34 x1 n_34 (x4_34 + (-1)) (upd text_34 texted_34.toNatClampNeg (((x1 >>> ((8 * x4_34).toInt64 &&& 63)) &&& 255).toInt32)) (texted_34 + 1)
theorem m_type_L34_s (x1 : Int64) (n_34 : Nat) (x4_34 : Int32) (text_34 : Nat → Int32) (texted_34 : Int32) : m_type_L34 x1 (n_34 + 1) x4_34 text_34 texted_34 = (
  if x4_34 < 0 then (some (text_34, texted_34)) else
  ck texted_34 300 <| m_type_L34 x1 n_34 (x4_34 + (-1)) (upd text_34 texted_34.toNatClampNeg (((x1 >>> ((8 * x4_34).toInt64 &&& 63)) &&& 255).toInt32)) (texted_34 + 1)) := rfl
def m_type (text : Nat → Int32) (texted : Int32) (x1 : Int64) (x3 : Int32) : Option (Int32 × (Nat → Int32) × Int32) :=
  bnd (m_in x3.toInt64 1 8) fun r_6 =>
  if r_6 = 0 then (some ((-1), text, texted)) else
  if (texted + x3) ≤ 300 then (bnd2 (m_type_L34 x1 g_fuel (x3 - 1) text texted) (fun text_76 texted_76 =>
  some (texted_76, text_76, texted_76))) else
  some ((-3), text, texted)
set_option maxHeartbeats 4000000 in
set_option maxRecDepth 100000 in
theorem w_m_type {p : Program} {l : Launch} {e : Env} {R : Room} {s : State} {m : MethodId} {args : Array Value} {below : List Frame} {meth : Method} {c : Code} {H : Heap} {locs : List Loc} {cells slots : Nat} {Q : State → Prop} {A : Nat → Prop} {ls : Array Slot} {D : va_G} {d : Nat → ClassId} {ad : Nat → Nat} {w : Nat → Int32} {isKept : Nat → Int32} {people : Int32} {room : Nat → Int32} {work : Nat → Int32} {price : Nat → Int32} {askings : Int32} {asked : Nat → Int32} {hangs : Int32} {hung : Nat → Int32} {tenths : Nat → Int32} {sortWorth : Nat → Int32} {sortDays : Nat → Int32} {sorts : Int32} {text : Nat → Int32} {texted : Int32} {trace : Int64} {at_ : Int32} {fault : Int32} {readPeople : Int32} {readPerson : Nat → Int32} {readAskings : Int32} {readAsked : Nat → Int32} {readHangs : Int32} {readHung : Nat → Int32} {rest : Nat → Int32} {brings : Nat → Int64} {later : Nat → Int64} {x1 : Int64} {x3 : Int32} {r : Int32} {text_r : Nat → Int32} {texted_r : Int32} (hx : p.tables.exec = Jvm.exec) (hb : c.code = cX10_type) (hml : c.maxLocals = 5) (hown : s.vm.findClass RX10 = some m.cls) (hts : ∀ w ∈ lw_all, w.before args s = true) (hA : ∀ q, s.heap.size ≤ q → A q) (hRf : 1 ≤ R.frames) (hRl : 25 ≤ R.locals) (hRc : cells ≤ R.cells) (hRs : slots ≤ R.slots) (hf : m_type text texted x1 x3 = some (r, text_r, texted_r)) (hC : HC D gcl (gty d) A (mw d ad w isKept people room work price askings asked hangs hung tenths sortWorth sortDays sorts text texted trace at_ fault readPeople readPerson readAskings readAsked readHangs readHung rest brings later) s H locs) (hl : lv_has ls 5 [(0, .ref (ad 0)), (1, .long x1), (3, .int x3)]) (K : ∀ (H : Heap) (locs : List Loc) (ls : Array Slot) (pc : Nat), narrow .int (.int r) = .int r → HC D gcl (gty d) A (mw d ad w isKept people room work price askings asked hangs hung tenths sortWorth sortDays sorts text_r texted_r trace at_ fault readPeople readPerson readAskings readAsked readHangs readHung rest brings later) s H locs → decode cX10_type pc = .ok (.ireturn, 1) → W p l e R s m args below meth c H locs cells slots Q (F0 m pc ls [.int r])) : W p l e R s m args below meth c H locs cells slots Q (F0 m 0 ls []) := by
  unfold m_type at hf
  refine lv_iload_n hx hb dX10_type_0 rfl (lv_at hl 2 rfl) ?_
  refine lv_i2l (v := x3.toInt64) hx hb dX10_type_1 rfl ?_
  refine lv_lconst (v := 1) hx hb dX10_type_2 (by decide) ?_
  refine lv_ldc2 (v := 8) hx hb hown (hts _ q897) dX10_type_3 ?_
  obtain ⟨r_6, hcall, hf⟩ := bnd_some hf
  refine hc_i (va_runS (As := [.long x3.toInt64, .long 1, .long 8]) (rest := []) ⟨hx, hb, hml, hown, hts⟩ (c_m_in hcall) (va_cwS 3 hts (lw_S q898 q899 q59 q900) rfl rfl rfl (by decide +kernel) ⟨(Nat.le_trans (Nat.le_of_ble_eq_true rfl) hRf), (Nat.le_trans (Nat.le_of_ble_eq_true rfl) hRl)⟩) (pre_S (fun _ _ _ _ h => h) (fun _ _ _ => trivial) hC) rfl rfl hl.1 rfl (lv_room (Nat.le_of_ble_eq_true rfl)) dX10_type_6 ⟨hRc, hRs⟩) hA hC (fun H locs hC => ?_)
  refine lv_if_ne (tgt := 14) hx hb dX10_type_9 (by decide) (fun c_9 => ?_) (fun c_9 => ?_)
  · have hf := if_f hf c_9
    refine lv_aload_n hx hb dX10_type_14 rfl (lv_at hl 0 rfl) ?_
    refine va_get (ci := 10) (v := .int texted) (C := RX10) (T := TX10) (N := 28) hx hb hts in_X10 hown hC.1 hC.2.1 0 rfl rfl 15 (by decide) (hts _ q821) (fun _ h9 => h9) rfl dX10_type_15 ?_
    refine lv_iload_n hx hb dX10_type_18 rfl (lv_at hl 2 rfl) ?_
    refine lv_iadd hx hb dX10_type_19 ?_
    refine lv_sipush (v := 300) hx hb dX10_type_20 (by decide) ?_
    refine lv_icmp_le (tgt := 29) hx hb dX10_type_23 (by decide) (fun c_23 => ?_) (fun c_23 => ?_)
    · have hf := if_t hf c_23
      refine lv_iload_n hx hb dX10_type_29 rfl (lv_at hl 2 rfl) ?_
      refine lv_iconst (v := 1) hx hb dX10_type_30 (by decide) ?_
      refine lv_isub hx hb dX10_type_31 ?_
      refine lv_istore (lv' := [(4, .int (x3 - 1)), (0, .ref (ad 0)), (1, .long x1), (3, .int x3)]) hx hb dX10_type_32 hl (by decide) rfl (fun ls hl => ?_)
      obtain ⟨text_76, texted_76, hL, hf⟩ := bnd2_some hf
      have X_34 : ∀ (H : Heap) (locs : List Loc) (ls : Array Slot), HC D gcl (gty d) A (mw d ad w isKept people room work price askings asked hangs hung tenths sortWorth sortDays sorts text_76 texted_76 trace at_ fault readPeople readPerson readAskings readAsked readHangs readHung rest brings later) s H locs → lv_has ls 5 [(0, .ref (ad 0))] → W p l e R s m args below meth c H locs cells slots Q (F0 m 76 ls []) := by
        intro H locs ls hC hl
        refine lv_aload_n hx hb dX10_type_76 rfl (lv_at hl 0 rfl) ?_
        refine va_get (ci := 10) (v := .int texted_76) (C := RX10) (T := TX10) (N := 28) hx hb hts in_X10 hown hC.1 hC.2.1 0 rfl rfl 15 (by decide) (hts _ q821) (fun _ h9 => h9) rfl dX10_type_77 ?_
        obtain ⟨e_1, e_2, e_3⟩ := so_3 (Option.some.inj hf)
        subst e_1
        subst e_2
        subst e_3
        exact K H locs ls _ rfl hC dX10_type_80
      have L_34 : ∀ (n_34 : Nat) (x4_34 : Int32) (text_34 : Nat → Int32) (texted_34 : Int32), m_type_L34 x1 n_34 x4_34 text_34 texted_34 = some (text_76, texted_76) → ∀ (H : Heap) (locs : List Loc) (ls : Array Slot), HC D gcl (gty d) A (mw d ad w isKept people room work price askings asked hangs hung tenths sortWorth sortDays sorts text_34 texted_34 trace at_ fault readPeople readPerson readAskings readAsked readHangs readHung rest brings later) s H locs → lv_has ls 5 [(0, .ref (ad 0)), (1, .long x1), (4, .int x4_34)] → W p l e R s m args below meth c H locs cells slots Q (F0 m 34 ls []) := by
        intro n_34
        induction n_34 with
        | zero => intro _ _ _ hf; cases hf
        | succ n_34 ih =>
          intro x4_34 text_34 texted_34 hf H locs ls hC hl
          rw [m_type_L34_s] at hf
          refine lv_iload hx hb dX10_type_34 (lv_at hl 2 rfl) ?_
          refine lv_if_lt (tgt := 76) hx hb dX10_type_36 (by decide) (fun c_36 => ?_) (fun c_36 => ?_)
          · have hf := if_t hf c_36
            obtain ⟨e_1, e_2⟩ := so_2 (Option.some.inj hf)
            subst e_1
            subst e_2
            exact X_34 H locs ls hC (lv_sub hl [0] rfl)
          · have hf := if_f hf c_36
            refine lv_aload_n hx hb dX10_type_39 rfl (lv_at hl 0 rfl) ?_
            refine va_get (ci := 10) (v := .ref (ad 11)) (C := RX10) (T := TX10) (N := 28) hx hb hts in_X10 hown hC.1 hC.2.1 0 rfl rfl 14 (by decide) (hts _ q820) (fun _ h9 => h9) rfl dX10_type_40 ?_
            refine lv_aload_n hx hb dX10_type_43 rfl (lv_at hl 0 rfl) ?_
            refine va_get (ci := 10) (v := .int texted_34) (C := RX10) (T := TX10) (N := 28) hx hb hts in_X10 hown hC.1 hC.2.1 0 rfl rfl 15 (by decide) (hts _ q821) (fun _ h9 => h9) rfl dX10_type_44 ?_
            refine lv_lload_n hx hb dX10_type_47 rfl (lv_at hl 1 rfl) ?_
            refine lv_bipush (v := 8) hx hb dX10_type_48 (by decide) ?_
            refine lv_iload hx hb dX10_type_50 (lv_at hl 2 rfl) ?_
            refine lv_imul hx hb dX10_type_52 ?_
            refine lv_lshr (v := x1 >>> ((8 * x4_34).toInt64 &&& 63)) hx hb dX10_type_53 rfl ?_
            refine lv_ldc2 (v := 255) hx hb hown (hts _ q901) dX10_type_54 ?_
            refine lv_land hx hb dX10_type_57 ?_
            refine lv_l2i (v := ((x1 >>> ((8 * x4_34).toInt64 &&& 63)) &&& 255).toInt32) hx hb dX10_type_58 rfl ?_
            obtain ⟨hi_59, hf⟩ := ck_some hf
            refine va_iast hx hb hC.1 hC.2.1 hC.2.2.1 hC.2.2.2 11 0 rfl rfl hi_59 dX10_type_59 (fun H locs hP hD hS => ?_)
            have hC : HC D gcl (gty d) A (mw d ad w isKept people room work price askings asked hangs hung tenths sortWorth sortDays sorts (upd text_34 texted_34.toNatClampNeg (((x1 >>> ((8 * x4_34).toInt64 &&& 63)) &&& 255).toInt32)) texted_34 trace at_ fault readPeople readPerson readAskings readAsked readHangs readHung rest brings later) s H locs := ⟨hC.1, hP, hD, hS⟩
            refine lv_aload_n hx hb dX10_type_60 rfl (lv_at hl 0 rfl) ?_
            refine lv_dup hx hb dX10_type_61 rfl ?_
            refine va_get (ci := 10) (v := .int texted_34) (C := RX10) (T := TX10) (N := 28) hx hb hts in_X10 hown hC.1 hC.2.1 0 rfl rfl 15 (by decide) (hts _ q821) (fun _ h9 => h9) rfl dX10_type_62 ?_
            refine lv_iconst (v := 1) hx hb dX10_type_65 (by decide) ?_
            refine lv_iadd hx hb dX10_type_66 ?_
            refine va_put (ci := 10) (v := .int (texted_34 + 1)) (ty := .int) (C := RX10) (T := TX10) (N := 28) hx hb hts in_X10 tyX10 tyX10_ok nmX10 hown hC.1 hC.2.1 hC.2.2.1 hC.2.2.2 0 rfl rfl 15 (by decide) (hts _ q821) (fun _ h9 => h9) rfl (tyX10_ok 15 (by decide)) rfl rfl (Nat.le_of_ble_eq_true rfl) dX10_type_67 (fun H locs hP hD hS => ?_)
            have hC : HC D gcl (gty d) A (mw d ad w isKept people room work price askings asked hangs hung tenths sortWorth sortDays sorts (upd text_34 texted_34.toNatClampNeg (((x1 >>> ((8 * x4_34).toInt64 &&& 63)) &&& 255).toInt32)) (texted_34 + 1) trace at_ fault readPeople readPerson readAskings readAsked readHangs readHung rest brings later) s H locs := ⟨hC.1, hP, hD, hS⟩
            refine lv_iinc (v := x4_34 + (-1)) (lv' := [(4, .int (x4_34 + (-1))), (0, .ref (ad 0)), (1, .long x1)]) hx hb dX10_type_70 hl (k := 2) rfl rfl (by decide) rfl (fun ls hl => ?_)
            refine lv_goto (tgt := 34) hx hb dX10_type_73 (by decide) ?_
            exact ih _ _ _ hf H locs ls hC (lv_sub hl [1, 2, 0] rfl)
      exact L_34 _ _ _ _ hL H locs ls hC (lv_sub hl [1, 2, 0] rfl)
    · have hf := if_f hf c_23
      refine lv_bipush (v := (-3)) hx hb dX10_type_26 (by decide) ?_
      obtain ⟨e_1, e_2, e_3⟩ := so_3 (Option.some.inj hf)
      subst e_1
      subst e_2
      subst e_3
      exact K H locs ls _ rfl hC dX10_type_28
  · have hf := if_t hf c_9
    refine lv_iconst (v := (-1)) hx hb dX10_type_12 (by decide) ?_
    obtain ⟨e_1, e_2, e_3⟩ := so_3 (Option.some.inj hf)
    subst e_1
    subst e_2
    subst e_3
    exact K H locs ls _ rfl hC dX10_type_13
set_option maxRecDepth 100000 in
theorem c_m_type {l : Launch} {sz : Nat} {D : va_G} {d : Nat → ClassId} {ad : Nat → Nat} {w : Nat → Int32} {isKept : Nat → Int32} {people : Int32} {room : Nat → Int32} {work : Nat → Int32} {price : Nat → Int32} {askings : Int32} {asked : Nat → Int32} {hangs : Int32} {hung : Nat → Int32} {tenths : Nat → Int32} {sortWorth : Nat → Int32} {sortDays : Nat → Int32} {sorts : Int32} {text : Nat → Int32} {texted : Int32} {trace : Int64} {at_ : Int32} {fault : Int32} {readPeople : Int32} {readPerson : Nat → Int32} {readAskings : Int32} {readAsked : Nat → Int32} {readHangs : Int32} {readHung : Nat → Int32} {rest : Nat → Int32} {brings : Nat → Int64} {later : Nat → Int64} {x1 : Int64} {x3 : Int32} {r : Int32} {text_r : Nat → Int32} {texted_r : Int32} (hf : m_type text texted x1 x3 = some (r, text_r, texted_r)) : MI l yX10_type (ws_ yX10_type cX10_type 5 (some .int)) { frames := 1, cells := 0, slots := 0, locals := 25 } D gcl (gty d) (fun _ => True) (mw d ad w isKept people room work price askings asked hangs hung tenths sortWorth sortDays sorts text texted trace at_ fault readPeople readPerson readAskings readAsked readHangs readHung rest brings later) (mw d ad w isKept people room work price askings asked hangs hung tenths sortWorth sortDays sorts text_r texted_r trace at_ fault readPeople readPerson readAskings readAsked readHangs readHung rest brings later) sz [.ref (ad 0), .long x1, .int x3] r :=
  MI.of (by decide) [.ref (ad 0), .long x1, .int x3] [(0, .ref (ad 0)), (1, .long x1), (3, .int x3)] (Nat.le_of_ble_eq_true rfl) rfl (fun p e s m below meth c ls Q hx hb hml hown hts hN hA hC hl K => w_m_type hx hb hml hown hts hA (Nat.le_refl _) (Nat.le_refl _) (Nat.le_refl _) (Nat.le_refl _) hf hC hl K)

def m_isEnd_L0 (text : Nat → Int32) (texted : Int32) : Nat → Int32 → Option (Int32)
  | 0, _ => none
  | n_0 + 1, at__0 =>
  if texted ≤ at__0 then (some at__0) else
  ck at__0 300 <| if (text at__0.toNatClampNeg) = 32 then (m_isEnd_L0 text texted n_0 (at__0 + 1)) else
  some at__0
theorem m_isEnd_L0_s (text : Nat → Int32) (texted : Int32) (n_0 : Nat) (at__0 : Int32) : m_isEnd_L0 text texted (n_0 + 1) at__0 = (
  if texted ≤ at__0 then (some at__0) else
  ck at__0 300 <| if (text at__0.toNatClampNeg) = 32 then (m_isEnd_L0 text texted n_0 (at__0 + 1)) else
  some at__0) := rfl
def m_isEnd (text : Nat → Int32) (texted : Int32) (at_ : Int32) : Option (Int32 × Int32) :=
  bnd (m_isEnd_L0 text texted g_fuel at_) (fun at__38 =>
  if at__38 = texted then (some (1, at__38)) else
  some (0, at__38))
set_option maxHeartbeats 4000000 in
set_option maxRecDepth 100000 in
theorem w_m_isEnd {p : Program} {l : Launch} {e : Env} {R : Room} {s : State} {m : MethodId} {args : Array Value} {below : List Frame} {meth : Method} {c : Code} {H : Heap} {locs : List Loc} {cells slots : Nat} {Q : State → Prop} {A : Nat → Prop} {ls : Array Slot} {D : va_G} {d : Nat → ClassId} {ad : Nat → Nat} {w : Nat → Int32} {isKept : Nat → Int32} {people : Int32} {room : Nat → Int32} {work : Nat → Int32} {price : Nat → Int32} {askings : Int32} {asked : Nat → Int32} {hangs : Int32} {hung : Nat → Int32} {tenths : Nat → Int32} {sortWorth : Nat → Int32} {sortDays : Nat → Int32} {sorts : Int32} {text : Nat → Int32} {texted : Int32} {trace : Int64} {at_ : Int32} {fault : Int32} {readPeople : Int32} {readPerson : Nat → Int32} {readAskings : Int32} {readAsked : Nat → Int32} {readHangs : Int32} {readHung : Nat → Int32} {rest : Nat → Int32} {brings : Nat → Int64} {later : Nat → Int64} {r : Int32} {at__r : Int32} (hx : p.tables.exec = Jvm.exec) (hb : c.code = cX10_isEnd) (hml : c.maxLocals = 1) (hown : s.vm.findClass RX10 = some m.cls) (hts : ∀ w ∈ lw_all, w.before args s = true) (hA : ∀ q, s.heap.size ≤ q → A q) (hRf : 0 ≤ R.frames) (hRl : 0 ≤ R.locals) (hRc : cells ≤ R.cells) (hRs : slots ≤ R.slots) (hf : m_isEnd text texted at_ = some (r, at__r)) (hC : HC D gcl (gty d) A (mw d ad w isKept people room work price askings asked hangs hung tenths sortWorth sortDays sorts text texted trace at_ fault readPeople readPerson readAskings readAsked readHangs readHung rest brings later) s H locs) (hl : lv_has ls 1 [(0, .ref (ad 0))]) (K : ∀ (H : Heap) (locs : List Loc) (ls : Array Slot) (pc : Nat), narrow .boolean (.int r) = .int r → HC D gcl (gty d) A (mw d ad w isKept people room work price askings asked hangs hung tenths sortWorth sortDays sorts text texted trace at__r fault readPeople readPerson readAskings readAsked readHangs readHung rest brings later) s H locs → decode cX10_isEnd pc = .ok (.ireturn, 1) → W p l e R s m args below meth c H locs cells slots Q (F0 m pc ls [.int r])) : W p l e R s m args below meth c H locs cells slots Q (F0 m 0 ls []) := by
  unfold m_isEnd at hf
  obtain ⟨at__38, hL, hf⟩ := bnd_some hf
  have X_0 : ∀ (H : Heap) (locs : List Loc) (ls : Array Slot), HC D gcl (gty d) A (mw d ad w isKept people room work price askings asked hangs hung tenths sortWorth sortDays sorts text texted trace at__38 fault readPeople readPerson readAskings readAsked readHangs readHung rest brings later) s H locs → lv_has ls 1 [(0, .ref (ad 0))] → W p l e R s m args below meth c H locs cells slots Q (F0 m 38 ls []) := by
    intro H locs ls hC hl
    refine lv_aload_n hx hb dX10_isEnd_38 rfl (lv_at hl 0 rfl) ?_
    refine va_get (ci := 10) (v := .int at__38) (C := RX10) (T := TX10) (N := 28) hx hb hts in_X10 hown hC.1 hC.2.1 0 rfl rfl 17 (by decide) (hts _ q823) (fun _ h9 => h9) rfl dX10_isEnd_39 ?_
    refine lv_aload_n hx hb dX10_isEnd_42 rfl (lv_at hl 0 rfl) ?_
    refine va_get (ci := 10) (v := .int texted) (C := RX10) (T := TX10) (N := 28) hx hb hts in_X10 hown hC.1 hC.2.1 0 rfl rfl 15 (by decide) (hts _ q821) (fun _ h9 => h9) rfl dX10_isEnd_43 ?_
    refine lv_icmp_ne (tgt := 53) hx hb dX10_isEnd_46 (by decide) (fun c_46 => ?_) (fun c_46 => ?_)
    · have hf := if_f hf c_46
      refine lv_iconst (v := 0) hx hb dX10_isEnd_53 (by decide) ?_
      obtain ⟨e_1, e_2⟩ := so_2 (Option.some.inj hf)
      subst e_1
      subst e_2
      exact K H locs ls _ rfl hC dX10_isEnd_54
    · have hf := if_t hf c_46
      refine lv_iconst (v := 1) hx hb dX10_isEnd_49 (by decide) ?_
      refine lv_goto (tgt := 54) hx hb dX10_isEnd_50 (by decide) ?_
      obtain ⟨e_1, e_2⟩ := so_2 (Option.some.inj hf)
      subst e_1
      subst e_2
      exact K H locs ls _ rfl hC dX10_isEnd_54
  have L_0 : ∀ (n_0 : Nat) (at__0 : Int32), m_isEnd_L0 text texted n_0 at__0 = some at__38 → ∀ (H : Heap) (locs : List Loc) (ls : Array Slot), HC D gcl (gty d) A (mw d ad w isKept people room work price askings asked hangs hung tenths sortWorth sortDays sorts text texted trace at__0 fault readPeople readPerson readAskings readAsked readHangs readHung rest brings later) s H locs → lv_has ls 1 [(0, .ref (ad 0))] → W p l e R s m args below meth c H locs cells slots Q (F0 m 0 ls []) := by
    intro n_0
    induction n_0 with
    | zero => intro _ hf; cases hf
    | succ n_0 ih =>
      intro at__0 hf H locs ls hC hl
      rw [m_isEnd_L0_s] at hf
      refine lv_aload_n hx hb dX10_isEnd_0 rfl (lv_at hl 0 rfl) ?_
      refine va_get (ci := 10) (v := .int at__0) (C := RX10) (T := TX10) (N := 28) hx hb hts in_X10 hown hC.1 hC.2.1 0 rfl rfl 17 (by decide) (hts _ q823) (fun _ h9 => h9) rfl dX10_isEnd_1 ?_
      refine lv_aload_n hx hb dX10_isEnd_4 rfl (lv_at hl 0 rfl) ?_
      refine va_get (ci := 10) (v := .int texted) (C := RX10) (T := TX10) (N := 28) hx hb hts in_X10 hown hC.1 hC.2.1 0 rfl rfl 15 (by decide) (hts _ q821) (fun _ h9 => h9) rfl dX10_isEnd_5 ?_
      refine lv_icmp_ge (tgt := 38) hx hb dX10_isEnd_8 (by decide) (fun c_8 => ?_) (fun c_8 => ?_)
      · have hf := if_t hf c_8
        have e_1 := (Option.some.inj hf)
        subst e_1
        exact X_0 H locs ls hC (lv_sub hl [0] rfl)
      · have hf := if_f hf c_8
        refine lv_aload_n hx hb dX10_isEnd_11 rfl (lv_at hl 0 rfl) ?_
        refine va_get (ci := 10) (v := .ref (ad 11)) (C := RX10) (T := TX10) (N := 28) hx hb hts in_X10 hown hC.1 hC.2.1 0 rfl rfl 14 (by decide) (hts _ q820) (fun _ h9 => h9) rfl dX10_isEnd_12 ?_
        refine lv_aload_n hx hb dX10_isEnd_15 rfl (lv_at hl 0 rfl) ?_
        refine va_get (ci := 10) (v := .int at__0) (C := RX10) (T := TX10) (N := 28) hx hb hts in_X10 hown hC.1 hC.2.1 0 rfl rfl 17 (by decide) (hts _ q823) (fun _ h9 => h9) rfl dX10_isEnd_16 ?_
        obtain ⟨hi_19, hf⟩ := ck_some hf
        refine va_iald hx hb hC.1 hC.2.1 11 0 rfl rfl hi_19 dX10_isEnd_19 ?_
        refine lv_bipush (v := 32) hx hb dX10_isEnd_20 (by decide) ?_
        refine lv_icmp_ne (tgt := 38) hx hb dX10_isEnd_22 (by decide) (fun c_22 => ?_) (fun c_22 => ?_)
        · have hf := if_f hf c_22
          have e_1 := (Option.some.inj hf)
          subst e_1
          exact X_0 H locs ls hC (lv_sub hl [0] rfl)
        · have hf := if_t hf c_22
          refine lv_aload_n hx hb dX10_isEnd_25 rfl (lv_at hl 0 rfl) ?_
          refine lv_dup hx hb dX10_isEnd_26 rfl ?_
          refine va_get (ci := 10) (v := .int at__0) (C := RX10) (T := TX10) (N := 28) hx hb hts in_X10 hown hC.1 hC.2.1 0 rfl rfl 17 (by decide) (hts _ q823) (fun _ h9 => h9) rfl dX10_isEnd_27 ?_
          refine lv_iconst (v := 1) hx hb dX10_isEnd_30 (by decide) ?_
          refine lv_iadd hx hb dX10_isEnd_31 ?_
          refine va_put (ci := 10) (v := .int (at__0 + 1)) (ty := .int) (C := RX10) (T := TX10) (N := 28) hx hb hts in_X10 tyX10 tyX10_ok nmX10 hown hC.1 hC.2.1 hC.2.2.1 hC.2.2.2 0 rfl rfl 17 (by decide) (hts _ q823) (fun _ h9 => h9) rfl (tyX10_ok 17 (by decide)) rfl rfl (Nat.le_of_ble_eq_true rfl) dX10_isEnd_32 (fun H locs hP hD hS => ?_)
          have hC : HC D gcl (gty d) A (mw d ad w isKept people room work price askings asked hangs hung tenths sortWorth sortDays sorts text texted trace (at__0 + 1) fault readPeople readPerson readAskings readAsked readHangs readHung rest brings later) s H locs := ⟨hC.1, hP, hD, hS⟩
          refine lv_goto (tgt := 0) hx hb dX10_isEnd_35 (by decide) ?_
          exact ih _ hf H locs ls hC (lv_sub hl [0] rfl)
  exact L_0 _ _ hL H locs ls hC (lv_sub hl [0] rfl)
set_option maxRecDepth 100000 in
theorem c_m_isEnd {l : Launch} {sz : Nat} {D : va_G} {d : Nat → ClassId} {ad : Nat → Nat} {w : Nat → Int32} {isKept : Nat → Int32} {people : Int32} {room : Nat → Int32} {work : Nat → Int32} {price : Nat → Int32} {askings : Int32} {asked : Nat → Int32} {hangs : Int32} {hung : Nat → Int32} {tenths : Nat → Int32} {sortWorth : Nat → Int32} {sortDays : Nat → Int32} {sorts : Int32} {text : Nat → Int32} {texted : Int32} {trace : Int64} {at_ : Int32} {fault : Int32} {readPeople : Int32} {readPerson : Nat → Int32} {readAskings : Int32} {readAsked : Nat → Int32} {readHangs : Int32} {readHung : Nat → Int32} {rest : Nat → Int32} {brings : Nat → Int64} {later : Nat → Int64} {r : Int32} {at__r : Int32} (hf : m_isEnd text texted at_ = some (r, at__r)) : MI l yX10_isEnd (ws_ yX10_isEnd cX10_isEnd 1 (some .boolean)) { frames := 0, cells := 0, slots := 0, locals := 0 } D gcl (gty d) (fun _ => True) (mw d ad w isKept people room work price askings asked hangs hung tenths sortWorth sortDays sorts text texted trace at_ fault readPeople readPerson readAskings readAsked readHangs readHung rest brings later) (mw d ad w isKept people room work price askings asked hangs hung tenths sortWorth sortDays sorts text texted trace at__r fault readPeople readPerson readAskings readAsked readHangs readHung rest brings later) sz [.ref (ad 0)] r :=
  MI.of (by decide) [.ref (ad 0)] [(0, .ref (ad 0))] (Nat.le_of_ble_eq_true rfl) rfl (fun p e s m below meth c ls Q hx hb hml hown hts hN hA hC hl K => w_m_isEnd hx hb hml hown hts hA (Nat.le_refl _) (Nat.le_refl _) (Nat.le_refl _) (Nat.le_refl _) hf hC hl K)

def m_takeNumber_L40 (text : Nat → Int32) (texted : Int32) : Nat → Int32 → Int32 → Option (Int32 × Int32)
  | 0, _, _ => none
  | n_40 + 1, x5_40, at__40 =>
  if texted ≤ at__40 then (some (x5_40, at__40)) else
  ck at__40 300 <| bnd (m_in ((text at__40.toNatClampNeg).toInt64) 48 57) fun r_67 =>
  if r_67 = 0 then (some (x5_40, at__40)) else
  ck at__40 300 <| bnd (m_lesser (((10 * x5_40) + (text at__40.toNatClampNeg)) - 48) 100) fun r_93 =>
  m_takeNumber_L40 text texted n_40 r_93 (at__40 + 1)
theorem m_takeNumber_L40_s (text : Nat → Int32) (texted : Int32) (n_40 : Nat) (x5_40 : Int32) (at__40 : Int32) : m_takeNumber_L40 text texted (n_40 + 1) x5_40 at__40 = (
  if texted ≤ at__40 then (some (x5_40, at__40)) else
  ck at__40 300 <| bnd (m_in ((text at__40.toNatClampNeg).toInt64) 48 57) fun r_67 =>
  if r_67 = 0 then (some (x5_40, at__40)) else
  ck at__40 300 <| bnd (m_lesser (((10 * x5_40) + (text at__40.toNatClampNeg)) - 48) 100) fun r_93 =>
  m_takeNumber_L40 text texted n_40 r_93 (at__40 + 1)) := rfl
def m_takeNumber (text : Nat → Int32) (texted : Int32) (at_ : Int32) (fault : Int32) (x1 : Int32) (x2 : Int32) (x3 : Int32) : Option (Int32 × Int32 × Int32) :=
  bnd2 (if 0 ≤ fault then (some (at_, fault)) else
  bnd2 (m_isEnd text texted at_) fun r_8 at__8 =>
  if r_8 = 0 then (some (at__8, fault)) else
  some (at__8, texted)) (fun (at__22 : Int32) (fault_22 : Int32) =>
  if fault_22 < 0 then (bnd2 (m_takeNumber_L40 text texted g_fuel 0 at__22) (fun x5_111 at__111 =>
  bnd (if at__111 ≤ at__22 then (some (0)) else
  if (at__111 - at__22) = 1 then (bnd (m_lesser x2 99) fun r_151 =>
  bnd (m_in x5_111.toInt64 x1.toInt64 r_151.toInt64) fun r_155 =>
  if r_155 = 0 then (some (0)) else
  if x5_111 = x3 then (some (0)) else
  some (1)) else
  ck at__22 300 <| if (text at__22.toNatClampNeg) = 48 then (some (0)) else
  bnd (m_lesser x2 99) fun r_151 =>
  bnd (m_in x5_111.toInt64 x1.toInt64 r_151.toInt64) fun r_155 =>
  if r_155 = 0 then (some (0)) else
  if x5_111 = x3 then (some (0)) else
  some (1)) (fun (t_172 : Int32) =>
  if t_172 = 0 then (some (x5_111, at__111, at__22)) else
  some (x5_111, at__111, fault_22)))) else
  some (0, at__22, fault_22))
set_option maxHeartbeats 4000000 in
set_option maxRecDepth 100000 in
theorem w_m_takeNumber {p : Program} {l : Launch} {e : Env} {R : Room} {s : State} {m : MethodId} {args : Array Value} {below : List Frame} {meth : Method} {c : Code} {H : Heap} {locs : List Loc} {cells slots : Nat} {Q : State → Prop} {A : Nat → Prop} {ls : Array Slot} {D : va_G} {d : Nat → ClassId} {ad : Nat → Nat} {w : Nat → Int32} {isKept : Nat → Int32} {people : Int32} {room : Nat → Int32} {work : Nat → Int32} {price : Nat → Int32} {askings : Int32} {asked : Nat → Int32} {hangs : Int32} {hung : Nat → Int32} {tenths : Nat → Int32} {sortWorth : Nat → Int32} {sortDays : Nat → Int32} {sorts : Int32} {text : Nat → Int32} {texted : Int32} {trace : Int64} {at_ : Int32} {fault : Int32} {readPeople : Int32} {readPerson : Nat → Int32} {readAskings : Int32} {readAsked : Nat → Int32} {readHangs : Int32} {readHung : Nat → Int32} {rest : Nat → Int32} {brings : Nat → Int64} {later : Nat → Int64} {x1 : Int32} {x2 : Int32} {x3 : Int32} {r : Int32} {at__r : Int32} {fault_r : Int32} (hx : p.tables.exec = Jvm.exec) (hb : c.code = cX10_takeNumber) (hml : c.maxLocals = 7) (hown : s.vm.findClass RX10 = some m.cls) (hts : ∀ w ∈ lw_all, w.before args s = true) (hA : ∀ q, s.heap.size ≤ q → A q) (hRf : 1 ≤ R.frames) (hRl : 25 ≤ R.locals) (hRc : cells ≤ R.cells) (hRs : slots ≤ R.slots) (hf : m_takeNumber text texted at_ fault x1 x2 x3 = some (r, at__r, fault_r)) (hC : HC D gcl (gty d) A (mw d ad w isKept people room work price askings asked hangs hung tenths sortWorth sortDays sorts text texted trace at_ fault readPeople readPerson readAskings readAsked readHangs readHung rest brings later) s H locs) (hl : lv_has ls 7 [(0, .ref (ad 0)), (1, .int x1), (2, .int x2), (3, .int x3)]) (K : ∀ (H : Heap) (locs : List Loc) (ls : Array Slot) (pc : Nat), narrow .int (.int r) = .int r → HC D gcl (gty d) A (mw d ad w isKept people room work price askings asked hangs hung tenths sortWorth sortDays sorts text texted trace at__r fault_r readPeople readPerson readAskings readAsked readHangs readHung rest brings later) s H locs → decode cX10_takeNumber pc = .ok (.ireturn, 1) → W p l e R s m args below meth c H locs cells slots Q (F0 m pc ls [.int r])) : W p l e R s m args below meth c H locs cells slots Q (F0 m 0 ls []) := by
  unfold m_takeNumber at hf
  refine lv_aload_n hx hb dX10_takeNumber_0 rfl (lv_at hl 0 rfl) ?_
  refine va_get (ci := 10) (v := .int fault) (C := RX10) (T := TX10) (N := 28) hx hb hts in_X10 hown hC.1 hC.2.1 0 rfl rfl 18 (by decide) (hts _ q824) (fun _ h9 => h9) rfl dX10_takeNumber_1 ?_
  obtain ⟨at__22, fault_22, hj, hf⟩ := bnd2_some hf
  have J_22 : ∀ (H : Heap) (locs : List Loc) (ls : Array Slot), HC D gcl (gty d) A (mw d ad w isKept people room work price askings asked hangs hung tenths sortWorth sortDays sorts text texted trace at__22 fault_22 readPeople readPerson readAskings readAsked readHangs readHung rest brings later) s H locs → lv_has ls 7 [(0, .ref (ad 0)), (1, .int x1), (2, .int x2), (3, .int x3)] → W p l e R s m args below meth c H locs cells slots Q (F0 m 22 ls []) := by
    intro H locs ls hC hl
    refine lv_aload_n hx hb dX10_takeNumber_22 rfl (lv_at hl 0 rfl) ?_
    refine va_get (ci := 10) (v := .int fault_22) (C := RX10) (T := TX10) (N := 28) hx hb hts in_X10 hown hC.1 hC.2.1 0 rfl rfl 18 (by decide) (hts _ q824) (fun _ h9 => h9) rfl dX10_takeNumber_23 ?_
    refine lv_if_lt (tgt := 31) hx hb dX10_takeNumber_26 (by decide) (fun c_26 => ?_) (fun c_26 => ?_)
    · have hf := if_t hf c_26
      refine lv_aload_n hx hb dX10_takeNumber_31 rfl (lv_at hl 0 rfl) ?_
      refine va_get (ci := 10) (v := .int at__22) (C := RX10) (T := TX10) (N := 28) hx hb hts in_X10 hown hC.1 hC.2.1 0 rfl rfl 17 (by decide) (hts _ q823) (fun _ h9 => h9) rfl dX10_takeNumber_32 ?_
      refine lv_istore (lv' := [(4, .int at__22), (0, .ref (ad 0)), (1, .int x1), (2, .int x2), (3, .int x3)]) hx hb dX10_takeNumber_35 hl (by decide) rfl (fun ls hl => ?_)
      refine lv_iconst (v := 0) hx hb dX10_takeNumber_37 (by decide) ?_
      refine lv_istore (lv' := [(5, .int 0), (4, .int at__22), (0, .ref (ad 0)), (1, .int x1), (2, .int x2), (3, .int x3)]) hx hb dX10_takeNumber_38 hl (by decide) rfl (fun ls hl => ?_)
      obtain ⟨x5_111, at__111, hL, hf⟩ := bnd2_some hf
      have X_40 : ∀ (H : Heap) (locs : List Loc) (ls : Array Slot), HC D gcl (gty d) A (mw d ad w isKept people room work price askings asked hangs hung tenths sortWorth sortDays sorts text texted trace at__111 fault_22 readPeople readPerson readAskings readAsked readHangs readHung rest brings later) s H locs → lv_has ls 7 [(0, .ref (ad 0)), (1, .int x1), (2, .int x2), (3, .int x3), (4, .int at__22), (5, .int x5_111)] → W p l e R s m args below meth c H locs cells slots Q (F0 m 111 ls []) := by
        intro H locs ls hC hl
        refine lv_aload_n hx hb dX10_takeNumber_111 rfl (lv_at hl 0 rfl) ?_
        refine va_get (ci := 10) (v := .int at__111) (C := RX10) (T := TX10) (N := 28) hx hb hts in_X10 hown hC.1 hC.2.1 0 rfl rfl 17 (by decide) (hts _ q823) (fun _ h9 => h9) rfl dX10_takeNumber_112 ?_
        refine lv_iload hx hb dX10_takeNumber_115 (lv_at hl 4 rfl) ?_
        obtain ⟨t_172, hj, hf⟩ := bnd_some hf
        have J_172 : ∀ (H : Heap) (locs : List Loc) (ls : Array Slot), HC D gcl (gty d) A (mw d ad w isKept people room work price askings asked hangs hung tenths sortWorth sortDays sorts text texted trace at__111 fault_22 readPeople readPerson readAskings readAsked readHangs readHung rest brings later) s H locs → lv_has ls 7 [(0, .ref (ad 0)), (4, .int at__22), (5, .int x5_111)] → W p l e R s m args below meth c H locs cells slots Q (F0 m 172 ls [.int t_172]) := by
          intro H locs ls hC hl
          refine lv_istore (lv' := [(6, .int t_172), (0, .ref (ad 0)), (4, .int at__22), (5, .int x5_111)]) hx hb dX10_takeNumber_172 hl (by decide) rfl (fun ls hl => ?_)
          refine lv_aload_n hx hb dX10_takeNumber_174 rfl (lv_at hl 1 rfl) ?_
          refine lv_iload hx hb dX10_takeNumber_175 (lv_at hl 0 rfl) ?_
          refine lv_if_eq (tgt := 187) hx hb dX10_takeNumber_177 (by decide) (fun c_177 => ?_) (fun c_177 => ?_)
          · have hf := if_t hf c_177
            refine lv_iload hx hb dX10_takeNumber_187 (lv_at hl 2 rfl) ?_
            refine va_put (ci := 10) (v := .int at__22) (ty := .int) (C := RX10) (T := TX10) (N := 28) hx hb hts in_X10 tyX10 tyX10_ok nmX10 hown hC.1 hC.2.1 hC.2.2.1 hC.2.2.2 0 rfl rfl 18 (by decide) (hts _ q824) (fun _ h9 => h9) rfl (tyX10_ok 18 (by decide)) rfl rfl (Nat.le_of_ble_eq_true rfl) dX10_takeNumber_189 (fun H locs hP hD hS => ?_)
            have hC : HC D gcl (gty d) A (mw d ad w isKept people room work price askings asked hangs hung tenths sortWorth sortDays sorts text texted trace at__111 at__22 readPeople readPerson readAskings readAsked readHangs readHung rest brings later) s H locs := ⟨hC.1, hP, hD, hS⟩
            refine lv_iload hx hb dX10_takeNumber_192 (lv_at hl 3 rfl) ?_
            obtain ⟨e_1, e_2, e_3⟩ := so_3 (Option.some.inj hf)
            subst e_1
            subst e_2
            subst e_3
            exact K H locs ls _ rfl hC dX10_takeNumber_194
          · have hf := if_f hf c_177
            refine lv_aload_n hx hb dX10_takeNumber_180 rfl (lv_at hl 1 rfl) ?_
            refine va_get (ci := 10) (v := .int fault_22) (C := RX10) (T := TX10) (N := 28) hx hb hts in_X10 hown hC.1 hC.2.1 0 rfl rfl 18 (by decide) (hts _ q824) (fun _ h9 => h9) rfl dX10_takeNumber_181 ?_
            refine lv_goto (tgt := 189) hx hb dX10_takeNumber_184 (by decide) ?_
            refine va_put (ci := 10) (v := .int fault_22) (ty := .int) (C := RX10) (T := TX10) (N := 28) hx hb hts in_X10 tyX10 tyX10_ok nmX10 hown hC.1 hC.2.1 hC.2.2.1 hC.2.2.2 0 rfl rfl 18 (by decide) (hts _ q824) (fun _ h9 => h9) rfl (tyX10_ok 18 (by decide)) rfl rfl (Nat.le_of_ble_eq_true rfl) dX10_takeNumber_189 (fun H locs hP hD hS => ?_)
            have hC : HC D gcl (gty d) A (mw d ad w isKept people room work price askings asked hangs hung tenths sortWorth sortDays sorts text texted trace at__111 fault_22 readPeople readPerson readAskings readAsked readHangs readHung rest brings later) s H locs := ⟨hC.1, hP, hD, hS⟩
            refine lv_iload hx hb dX10_takeNumber_192 (lv_at hl 3 rfl) ?_
            obtain ⟨e_1, e_2, e_3⟩ := so_3 (Option.some.inj hf)
            subst e_1
            subst e_2
            subst e_3
            exact K H locs ls _ rfl hC dX10_takeNumber_194
        have hf := hj
        refine lv_icmp_le (tgt := 171) hx hb dX10_takeNumber_117 (by decide) (fun c_117 => ?_) (fun c_117 => ?_)
        · have hf := if_t hf c_117
          refine lv_iconst (v := 0) hx hb dX10_takeNumber_171 (by decide) ?_
          have e_1 := (Option.some.inj hf)
          subst e_1
          exact J_172 H locs ls hC (lv_sub hl [0, 4, 5] rfl)
        · have hf := if_f hf c_117
          refine lv_aload_n hx hb dX10_takeNumber_120 rfl (lv_at hl 0 rfl) ?_
          refine va_get (ci := 10) (v := .int at__111) (C := RX10) (T := TX10) (N := 28) hx hb hts in_X10 hown hC.1 hC.2.1 0 rfl rfl 17 (by decide) (hts _ q823) (fun _ h9 => h9) rfl dX10_takeNumber_121 ?_
          refine lv_iload hx hb dX10_takeNumber_124 (lv_at hl 4 rfl) ?_
          refine lv_isub hx hb dX10_takeNumber_126 ?_
          refine lv_iconst (v := 1) hx hb dX10_takeNumber_127 (by decide) ?_
          refine lv_icmp_eq (tgt := 143) hx hb dX10_takeNumber_128 (by decide) (fun c_128 => ?_) (fun c_128 => ?_)
          · have hf := if_t hf c_128
            refine lv_iload hx hb dX10_takeNumber_143 (lv_at hl 5 rfl) ?_
            refine lv_i2l (v := x5_111.toInt64) hx hb dX10_takeNumber_145 rfl ?_
            refine lv_iload_n hx hb dX10_takeNumber_146 rfl (lv_at hl 1 rfl) ?_
            refine lv_i2l (v := x1.toInt64) hx hb dX10_takeNumber_147 rfl ?_
            refine lv_iload_n hx hb dX10_takeNumber_148 rfl (lv_at hl 2 rfl) ?_
            refine lv_bipush (v := 99) hx hb dX10_takeNumber_149 (by decide) ?_
            obtain ⟨r_151, hcall, hf⟩ := bnd_some hf
            refine hc_i (va_runS (As := [.int x2, .int 99]) (rest := [.long x1.toInt64, .long x5_111.toInt64]) ⟨hx, hb, hml, hown, hts⟩ (c_m_lesser hcall) (va_cwS 2 hts (lw_S q933 q934 q59 q935) rfl rfl rfl (by decide +kernel) ⟨(Nat.le_trans (Nat.le_of_ble_eq_true rfl) hRf), (Nat.le_trans (Nat.le_of_ble_eq_true rfl) hRl)⟩) (pre_S (fun _ _ _ _ h => h) (fun _ _ _ => trivial) hC) rfl rfl hl.1 rfl (lv_room (Nat.le_of_ble_eq_true rfl)) dX10_takeNumber_151 ⟨hRc, hRs⟩) hA hC (fun H locs hC => ?_)
            refine lv_i2l (v := r_151.toInt64) hx hb dX10_takeNumber_154 rfl ?_
            obtain ⟨r_155, hcall, hf⟩ := bnd_some hf
            refine hc_i (va_runS (As := [.long x5_111.toInt64, .long x1.toInt64, .long r_151.toInt64]) (rest := []) ⟨hx, hb, hml, hown, hts⟩ (c_m_in hcall) (va_cwS 3 hts (lw_S q898 q899 q59 q900) rfl rfl rfl (by decide +kernel) ⟨(Nat.le_trans (Nat.le_of_ble_eq_true rfl) hRf), (Nat.le_trans (Nat.le_of_ble_eq_true rfl) hRl)⟩) (pre_S (fun _ _ _ _ h => h) (fun _ _ _ => trivial) hC) rfl rfl hl.1 rfl (lv_room (Nat.le_of_ble_eq_true rfl)) dX10_takeNumber_155 ⟨hRc, hRs⟩) hA hC (fun H locs hC => ?_)
            refine lv_if_eq (tgt := 171) hx hb dX10_takeNumber_158 (by decide) (fun c_158 => ?_) (fun c_158 => ?_)
            · have hf := if_t hf c_158
              refine lv_iconst (v := 0) hx hb dX10_takeNumber_171 (by decide) ?_
              have e_1 := (Option.some.inj hf)
              subst e_1
              exact J_172 H locs ls hC (lv_sub hl [0, 4, 5] rfl)
            · have hf := if_f hf c_158
              refine lv_iload hx hb dX10_takeNumber_161 (lv_at hl 5 rfl) ?_
              refine lv_iload_n hx hb dX10_takeNumber_163 rfl (lv_at hl 3 rfl) ?_
              refine lv_icmp_eq (tgt := 171) hx hb dX10_takeNumber_164 (by decide) (fun c_164 => ?_) (fun c_164 => ?_)
              · have hf := if_t hf c_164
                refine lv_iconst (v := 0) hx hb dX10_takeNumber_171 (by decide) ?_
                have e_1 := (Option.some.inj hf)
                subst e_1
                exact J_172 H locs ls hC (lv_sub hl [0, 4, 5] rfl)
              · have hf := if_f hf c_164
                refine lv_iconst (v := 1) hx hb dX10_takeNumber_167 (by decide) ?_
                refine lv_goto (tgt := 172) hx hb dX10_takeNumber_168 (by decide) ?_
                have e_1 := (Option.some.inj hf)
                subst e_1
                exact J_172 H locs ls hC (lv_sub hl [0, 4, 5] rfl)
          · have hf := if_f hf c_128
            refine lv_aload_n hx hb dX10_takeNumber_131 rfl (lv_at hl 0 rfl) ?_
            refine va_get (ci := 10) (v := .ref (ad 11)) (C := RX10) (T := TX10) (N := 28) hx hb hts in_X10 hown hC.1 hC.2.1 0 rfl rfl 14 (by decide) (hts _ q820) (fun _ h9 => h9) rfl dX10_takeNumber_132 ?_
            refine lv_iload hx hb dX10_takeNumber_135 (lv_at hl 4 rfl) ?_
            obtain ⟨hi_137, hf⟩ := ck_some hf
            refine va_iald hx hb hC.1 hC.2.1 11 0 rfl rfl hi_137 dX10_takeNumber_137 ?_
            refine lv_bipush (v := 48) hx hb dX10_takeNumber_138 (by decide) ?_
            refine lv_icmp_eq (tgt := 171) hx hb dX10_takeNumber_140 (by decide) (fun c_140 => ?_) (fun c_140 => ?_)
            · have hf := if_t hf c_140
              refine lv_iconst (v := 0) hx hb dX10_takeNumber_171 (by decide) ?_
              have e_1 := (Option.some.inj hf)
              subst e_1
              exact J_172 H locs ls hC (lv_sub hl [0, 4, 5] rfl)
            · have hf := if_f hf c_140
              refine lv_iload hx hb dX10_takeNumber_143 (lv_at hl 5 rfl) ?_
              refine lv_i2l (v := x5_111.toInt64) hx hb dX10_takeNumber_145 rfl ?_
              refine lv_iload_n hx hb dX10_takeNumber_146 rfl (lv_at hl 1 rfl) ?_
              refine lv_i2l (v := x1.toInt64) hx hb dX10_takeNumber_147 rfl ?_
              refine lv_iload_n hx hb dX10_takeNumber_148 rfl (lv_at hl 2 rfl) ?_
              refine lv_bipush (v := 99) hx hb dX10_takeNumber_149 (by decide) ?_
              obtain ⟨r_151, hcall, hf⟩ := bnd_some hf
              refine hc_i (va_runS (As := [.int x2, .int 99]) (rest := [.long x1.toInt64, .long x5_111.toInt64]) ⟨hx, hb, hml, hown, hts⟩ (c_m_lesser hcall) (va_cwS 2 hts (lw_S q933 q934 q59 q935) rfl rfl rfl (by decide +kernel) ⟨(Nat.le_trans (Nat.le_of_ble_eq_true rfl) hRf), (Nat.le_trans (Nat.le_of_ble_eq_true rfl) hRl)⟩) (pre_S (fun _ _ _ _ h => h) (fun _ _ _ => trivial) hC) rfl rfl hl.1 rfl (lv_room (Nat.le_of_ble_eq_true rfl)) dX10_takeNumber_151 ⟨hRc, hRs⟩) hA hC (fun H locs hC => ?_)
              refine lv_i2l (v := r_151.toInt64) hx hb dX10_takeNumber_154 rfl ?_
              obtain ⟨r_155, hcall, hf⟩ := bnd_some hf
              refine hc_i (va_runS (As := [.long x5_111.toInt64, .long x1.toInt64, .long r_151.toInt64]) (rest := []) ⟨hx, hb, hml, hown, hts⟩ (c_m_in hcall) (va_cwS 3 hts (lw_S q898 q899 q59 q900) rfl rfl rfl (by decide +kernel) ⟨(Nat.le_trans (Nat.le_of_ble_eq_true rfl) hRf), (Nat.le_trans (Nat.le_of_ble_eq_true rfl) hRl)⟩) (pre_S (fun _ _ _ _ h => h) (fun _ _ _ => trivial) hC) rfl rfl hl.1 rfl (lv_room (Nat.le_of_ble_eq_true rfl)) dX10_takeNumber_155 ⟨hRc, hRs⟩) hA hC (fun H locs hC => ?_)
              refine lv_if_eq (tgt := 171) hx hb dX10_takeNumber_158 (by decide) (fun c_158 => ?_) (fun c_158 => ?_)
              · have hf := if_t hf c_158
                refine lv_iconst (v := 0) hx hb dX10_takeNumber_171 (by decide) ?_
                have e_1 := (Option.some.inj hf)
                subst e_1
                exact J_172 H locs ls hC (lv_sub hl [0, 4, 5] rfl)
              · have hf := if_f hf c_158
                refine lv_iload hx hb dX10_takeNumber_161 (lv_at hl 5 rfl) ?_
                refine lv_iload_n hx hb dX10_takeNumber_163 rfl (lv_at hl 3 rfl) ?_
                refine lv_icmp_eq (tgt := 171) hx hb dX10_takeNumber_164 (by decide) (fun c_164 => ?_) (fun c_164 => ?_)
                · have hf := if_t hf c_164
                  refine lv_iconst (v := 0) hx hb dX10_takeNumber_171 (by decide) ?_
                  have e_1 := (Option.some.inj hf)
                  subst e_1
                  exact J_172 H locs ls hC (lv_sub hl [0, 4, 5] rfl)
                · have hf := if_f hf c_164
                  refine lv_iconst (v := 1) hx hb dX10_takeNumber_167 (by decide) ?_
                  refine lv_goto (tgt := 172) hx hb dX10_takeNumber_168 (by decide) ?_
                  have e_1 := (Option.some.inj hf)
                  subst e_1
                  exact J_172 H locs ls hC (lv_sub hl [0, 4, 5] rfl)
      have L_40 : ∀ (n_40 : Nat) (x5_40 : Int32) (at__40 : Int32), m_takeNumber_L40 text texted n_40 x5_40 at__40 = some (x5_111, at__111) → ∀ (H : Heap) (locs : List Loc) (ls : Array Slot), HC D gcl (gty d) A (mw d ad w isKept people room work price askings asked hangs hung tenths sortWorth sortDays sorts text texted trace at__40 fault_22 readPeople readPerson readAskings readAsked readHangs readHung rest brings later) s H locs → lv_has ls 7 [(0, .ref (ad 0)), (1, .int x1), (2, .int x2), (3, .int x3), (4, .int at__22), (5, .int x5_40)] → W p l e R s m args below meth c H locs cells slots Q (F0 m 40 ls []) := by
        intro n_40
        induction n_40 with
        | zero => intro _ _ hf; cases hf
        | succ n_40 ih =>
          intro x5_40 at__40 hf H locs ls hC hl
          rw [m_takeNumber_L40_s] at hf
          refine lv_aload_n hx hb dX10_takeNumber_40 rfl (lv_at hl 0 rfl) ?_
          refine va_get (ci := 10) (v := .int at__40) (C := RX10) (T := TX10) (N := 28) hx hb hts in_X10 hown hC.1 hC.2.1 0 rfl rfl 17 (by decide) (hts _ q823) (fun _ h9 => h9) rfl dX10_takeNumber_41 ?_
          refine lv_aload_n hx hb dX10_takeNumber_44 rfl (lv_at hl 0 rfl) ?_
          refine va_get (ci := 10) (v := .int texted) (C := RX10) (T := TX10) (N := 28) hx hb hts in_X10 hown hC.1 hC.2.1 0 rfl rfl 15 (by decide) (hts _ q821) (fun _ h9 => h9) rfl dX10_takeNumber_45 ?_
          refine lv_icmp_ge (tgt := 111) hx hb dX10_takeNumber_48 (by decide) (fun c_48 => ?_) (fun c_48 => ?_)
          · have hf := if_t hf c_48
            obtain ⟨e_1, e_2⟩ := so_2 (Option.some.inj hf)
            subst e_1
            subst e_2
            exact X_40 H locs ls hC (lv_sub hl [0, 1, 2, 3, 4, 5] rfl)
          · have hf := if_f hf c_48
            refine lv_aload_n hx hb dX10_takeNumber_51 rfl (lv_at hl 0 rfl) ?_
            refine va_get (ci := 10) (v := .ref (ad 11)) (C := RX10) (T := TX10) (N := 28) hx hb hts in_X10 hown hC.1 hC.2.1 0 rfl rfl 14 (by decide) (hts _ q820) (fun _ h9 => h9) rfl dX10_takeNumber_52 ?_
            refine lv_aload_n hx hb dX10_takeNumber_55 rfl (lv_at hl 0 rfl) ?_
            refine va_get (ci := 10) (v := .int at__40) (C := RX10) (T := TX10) (N := 28) hx hb hts in_X10 hown hC.1 hC.2.1 0 rfl rfl 17 (by decide) (hts _ q823) (fun _ h9 => h9) rfl dX10_takeNumber_56 ?_
            obtain ⟨hi_59, hf⟩ := ck_some hf
            refine va_iald hx hb hC.1 hC.2.1 11 0 rfl rfl hi_59 dX10_takeNumber_59 ?_
            refine lv_i2l (v := (text at__40.toNatClampNeg).toInt64) hx hb dX10_takeNumber_60 rfl ?_
            refine lv_ldc2 (v := 48) hx hb hown (hts _ q931) dX10_takeNumber_61 ?_
            refine lv_ldc2 (v := 57) hx hb hown (hts _ q932) dX10_takeNumber_64 ?_
            obtain ⟨r_67, hcall, hf⟩ := bnd_some hf
            refine hc_i (va_runS (As := [.long ((text at__40.toNatClampNeg).toInt64), .long 48, .long 57]) (rest := []) ⟨hx, hb, hml, hown, hts⟩ (c_m_in hcall) (va_cwS 3 hts (lw_S q898 q899 q59 q900) rfl rfl rfl (by decide +kernel) ⟨(Nat.le_trans (Nat.le_of_ble_eq_true rfl) hRf), (Nat.le_trans (Nat.le_of_ble_eq_true rfl) hRl)⟩) (pre_S (fun _ _ _ _ h => h) (fun _ _ _ => trivial) hC) rfl rfl hl.1 rfl (lv_room (Nat.le_of_ble_eq_true rfl)) dX10_takeNumber_67 ⟨hRc, hRs⟩) hA hC (fun H locs hC => ?_)
            refine lv_if_eq (tgt := 111) hx hb dX10_takeNumber_70 (by decide) (fun c_70 => ?_) (fun c_70 => ?_)
            · have hf := if_t hf c_70
              obtain ⟨e_1, e_2⟩ := so_2 (Option.some.inj hf)
              subst e_1
              subst e_2
              exact X_40 H locs ls hC (lv_sub hl [0, 1, 2, 3, 4, 5] rfl)
            · have hf := if_f hf c_70
              refine lv_bipush (v := 10) hx hb dX10_takeNumber_73 (by decide) ?_
              refine lv_iload hx hb dX10_takeNumber_75 (lv_at hl 5 rfl) ?_
              refine lv_imul hx hb dX10_takeNumber_77 ?_
              refine lv_aload_n hx hb dX10_takeNumber_78 rfl (lv_at hl 0 rfl) ?_
              refine va_get (ci := 10) (v := .ref (ad 11)) (C := RX10) (T := TX10) (N := 28) hx hb hts in_X10 hown hC.1 hC.2.1 0 rfl rfl 14 (by decide) (hts _ q820) (fun _ h9 => h9) rfl dX10_takeNumber_79 ?_
              refine lv_aload_n hx hb dX10_takeNumber_82 rfl (lv_at hl 0 rfl) ?_
              refine va_get (ci := 10) (v := .int at__40) (C := RX10) (T := TX10) (N := 28) hx hb hts in_X10 hown hC.1 hC.2.1 0 rfl rfl 17 (by decide) (hts _ q823) (fun _ h9 => h9) rfl dX10_takeNumber_83 ?_
              obtain ⟨hi_86, hf⟩ := ck_some hf
              refine va_iald hx hb hC.1 hC.2.1 11 0 rfl rfl hi_86 dX10_takeNumber_86 ?_
              refine lv_iadd hx hb dX10_takeNumber_87 ?_
              refine lv_bipush (v := 48) hx hb dX10_takeNumber_88 (by decide) ?_
              refine lv_isub hx hb dX10_takeNumber_90 ?_
              refine lv_bipush (v := 100) hx hb dX10_takeNumber_91 (by decide) ?_
              obtain ⟨r_93, hcall, hf⟩ := bnd_some hf
              refine hc_i (va_runS (As := [.int (((10 * x5_40) + (text at__40.toNatClampNeg)) - 48), .int 100]) (rest := []) ⟨hx, hb, hml, hown, hts⟩ (c_m_lesser hcall) (va_cwS 2 hts (lw_S q933 q934 q59 q935) rfl rfl rfl (by decide +kernel) ⟨(Nat.le_trans (Nat.le_of_ble_eq_true rfl) hRf), (Nat.le_trans (Nat.le_of_ble_eq_true rfl) hRl)⟩) (pre_S (fun _ _ _ _ h => h) (fun _ _ _ => trivial) hC) rfl rfl hl.1 rfl (lv_room (Nat.le_of_ble_eq_true rfl)) dX10_takeNumber_93 ⟨hRc, hRs⟩) hA hC (fun H locs hC => ?_)
              refine lv_istore (lv' := [(5, .int r_93), (0, .ref (ad 0)), (1, .int x1), (2, .int x2), (3, .int x3), (4, .int at__22)]) hx hb dX10_takeNumber_96 hl (by decide) rfl (fun ls hl => ?_)
              refine lv_aload_n hx hb dX10_takeNumber_98 rfl (lv_at hl 1 rfl) ?_
              refine lv_dup hx hb dX10_takeNumber_99 rfl ?_
              refine va_get (ci := 10) (v := .int at__40) (C := RX10) (T := TX10) (N := 28) hx hb hts in_X10 hown hC.1 hC.2.1 0 rfl rfl 17 (by decide) (hts _ q823) (fun _ h9 => h9) rfl dX10_takeNumber_100 ?_
              refine lv_iconst (v := 1) hx hb dX10_takeNumber_103 (by decide) ?_
              refine lv_iadd hx hb dX10_takeNumber_104 ?_
              refine va_put (ci := 10) (v := .int (at__40 + 1)) (ty := .int) (C := RX10) (T := TX10) (N := 28) hx hb hts in_X10 tyX10 tyX10_ok nmX10 hown hC.1 hC.2.1 hC.2.2.1 hC.2.2.2 0 rfl rfl 17 (by decide) (hts _ q823) (fun _ h9 => h9) rfl (tyX10_ok 17 (by decide)) rfl rfl (Nat.le_of_ble_eq_true rfl) dX10_takeNumber_105 (fun H locs hP hD hS => ?_)
              have hC : HC D gcl (gty d) A (mw d ad w isKept people room work price askings asked hangs hung tenths sortWorth sortDays sorts text texted trace (at__40 + 1) fault_22 readPeople readPerson readAskings readAsked readHangs readHung rest brings later) s H locs := ⟨hC.1, hP, hD, hS⟩
              refine lv_goto (tgt := 40) hx hb dX10_takeNumber_108 (by decide) ?_
              exact ih _ _ hf H locs ls hC (lv_sub hl [1, 2, 3, 4, 5, 0] rfl)
      exact L_40 _ _ _ hL H locs ls hC (lv_sub hl [2, 3, 4, 5, 1, 0] rfl)
    · have hf := if_f hf c_26
      refine lv_iconst (v := 0) hx hb dX10_takeNumber_29 (by decide) ?_
      obtain ⟨e_1, e_2, e_3⟩ := so_3 (Option.some.inj hf)
      subst e_1
      subst e_2
      subst e_3
      exact K H locs ls _ rfl hC dX10_takeNumber_30
  have hf := hj
  refine lv_if_ge (tgt := 22) hx hb dX10_takeNumber_4 (by decide) (fun c_4 => ?_) (fun c_4 => ?_)
  · have hf := if_t hf c_4
    obtain ⟨e_1, e_2⟩ := so_2 (Option.some.inj hf)
    subst e_1
    subst e_2
    exact J_22 H locs ls hC (lv_sub hl [0, 1, 2, 3] rfl)
  · have hf := if_f hf c_4
    refine lv_aload_n hx hb dX10_takeNumber_7 rfl (lv_at hl 0 rfl) ?_
    obtain ⟨r_8, at__8, hcall, hf⟩ := bnd2_some hf
    refine hc_i (va_runV (C := RX10) (As := []) (rest := []) ⟨hx, hb, hml, hown, hts⟩ (c_m_isEnd hcall) (cwV 0 hts (lw_V q910 q912 qs23 q59 q913) rfl rfl rfl (by decide +kernel) ⟨(Nat.le_trans (Nat.le_of_ble_eq_true rfl) hRf), (Nat.le_trans (Nat.le_of_ble_eq_true rfl) hRl)⟩) (pre_V (q0 := 0) (ci := 10) (fun _ _ _ _ h => h) (fun _ _ _ => trivial) hC rfl rfl) rfl rfl hl.1 rfl (lv_room (Nat.le_of_ble_eq_true rfl)) dX10_takeNumber_8 ⟨hRc, hRs⟩) hA hC (fun H locs hC => ?_)
    refine lv_if_eq (tgt := 22) hx hb dX10_takeNumber_11 (by decide) (fun c_11 => ?_) (fun c_11 => ?_)
    · have hf := if_t hf c_11
      obtain ⟨e_1, e_2⟩ := so_2 (Option.some.inj hf)
      subst e_1
      subst e_2
      exact J_22 H locs ls hC (lv_sub hl [0, 1, 2, 3] rfl)
    · have hf := if_f hf c_11
      refine lv_aload_n hx hb dX10_takeNumber_14 rfl (lv_at hl 0 rfl) ?_
      refine lv_aload_n hx hb dX10_takeNumber_15 rfl (lv_at hl 0 rfl) ?_
      refine va_get (ci := 10) (v := .int texted) (C := RX10) (T := TX10) (N := 28) hx hb hts in_X10 hown hC.1 hC.2.1 0 rfl rfl 15 (by decide) (hts _ q821) (fun _ h9 => h9) rfl dX10_takeNumber_16 ?_
      refine va_put (ci := 10) (v := .int texted) (ty := .int) (C := RX10) (T := TX10) (N := 28) hx hb hts in_X10 tyX10 tyX10_ok nmX10 hown hC.1 hC.2.1 hC.2.2.1 hC.2.2.2 0 rfl rfl 18 (by decide) (hts _ q824) (fun _ h9 => h9) rfl (tyX10_ok 18 (by decide)) rfl rfl (Nat.le_of_ble_eq_true rfl) dX10_takeNumber_19 (fun H locs hP hD hS => ?_)
      have hC : HC D gcl (gty d) A (mw d ad w isKept people room work price askings asked hangs hung tenths sortWorth sortDays sorts text texted trace at__8 texted readPeople readPerson readAskings readAsked readHangs readHung rest brings later) s H locs := ⟨hC.1, hP, hD, hS⟩
      obtain ⟨e_1, e_2⟩ := so_2 (Option.some.inj hf)
      subst e_1
      subst e_2
      exact J_22 H locs ls hC (lv_sub hl [0, 1, 2, 3] rfl)
set_option maxRecDepth 100000 in
theorem c_m_takeNumber {l : Launch} {sz : Nat} {D : va_G} {d : Nat → ClassId} {ad : Nat → Nat} {w : Nat → Int32} {isKept : Nat → Int32} {people : Int32} {room : Nat → Int32} {work : Nat → Int32} {price : Nat → Int32} {askings : Int32} {asked : Nat → Int32} {hangs : Int32} {hung : Nat → Int32} {tenths : Nat → Int32} {sortWorth : Nat → Int32} {sortDays : Nat → Int32} {sorts : Int32} {text : Nat → Int32} {texted : Int32} {trace : Int64} {at_ : Int32} {fault : Int32} {readPeople : Int32} {readPerson : Nat → Int32} {readAskings : Int32} {readAsked : Nat → Int32} {readHangs : Int32} {readHung : Nat → Int32} {rest : Nat → Int32} {brings : Nat → Int64} {later : Nat → Int64} {x1 : Int32} {x2 : Int32} {x3 : Int32} {r : Int32} {at__r : Int32} {fault_r : Int32} (hf : m_takeNumber text texted at_ fault x1 x2 x3 = some (r, at__r, fault_r)) : MI l yX10_takeNumber (ws_ yX10_takeNumber cX10_takeNumber 7 (some .int)) { frames := 1, cells := 0, slots := 0, locals := 25 } D gcl (gty d) (fun _ => True) (mw d ad w isKept people room work price askings asked hangs hung tenths sortWorth sortDays sorts text texted trace at_ fault readPeople readPerson readAskings readAsked readHangs readHung rest brings later) (mw d ad w isKept people room work price askings asked hangs hung tenths sortWorth sortDays sorts text texted trace at__r fault_r readPeople readPerson readAskings readAsked readHangs readHung rest brings later) sz [.ref (ad 0), .int x1, .int x2, .int x3] r :=
  MI.of (by decide) [.ref (ad 0), .int x1, .int x2, .int x3] [(0, .ref (ad 0)), (1, .int x1), (2, .int x2), (3, .int x3)] (Nat.le_of_ble_eq_true rfl) rfl (fun p e s m below meth c ls Q hx hb hml hown hts hN hA hC hl K => w_m_takeNumber hx hb hml hown hts hA (Nat.le_refl _) (Nat.le_refl _) (Nat.le_refl _) (Nat.le_refl _) hf hC hl K)

def m_takeLetters_L7 (at_ : Int32) (text : Nat → Int32) (texted : Int32) : Nat → Int64 → Int32 → Option (Int64 × Int32)
  | 0, _, _ => none
  | n_7 + 1, x1_7, at__7 =>
  if texted ≤ at__7 then (some (x1_7, at__7)) else
  ck at__7 300 <| bnd (m_in ((text at__7.toNatClampNeg).toInt64) 97 122) fun r_34 =>
  if r_34 = 0 then (some (x1_7, at__7)) else
  bnd (if 7 ≤ (at__7 - at_) then (some (x1_7)) else
  ck at__7 300 <| some (((32 * x1_7) + ((text at__7.toNatClampNeg).toInt64)) - 96)) (fun (t_75 : Int64) =>
  m_takeLetters_L7 at_ text texted n_7 t_75 (at__7 + 1))
theorem m_takeLetters_L7_s (at_ : Int32) (text : Nat → Int32) (texted : Int32) (n_7 : Nat) (x1_7 : Int64) (at__7 : Int32) : m_takeLetters_L7 at_ text texted (n_7 + 1) x1_7 at__7 = (
  if texted ≤ at__7 then (some (x1_7, at__7)) else
  ck at__7 300 <| bnd (m_in ((text at__7.toNatClampNeg).toInt64) 97 122) fun r_34 =>
  if r_34 = 0 then (some (x1_7, at__7)) else
  bnd (if 7 ≤ (at__7 - at_) then (some (x1_7)) else
  ck at__7 300 <| some (((32 * x1_7) + ((text at__7.toNatClampNeg).toInt64)) - 96)) (fun (t_75 : Int64) =>
  m_takeLetters_L7 at_ text texted n_7 t_75 (at__7 + 1))) := rfl
def m_takeLetters (text : Nat → Int32) (texted : Int32) (at_ : Int32) : Option (Int64 × Int32) :=
  bnd2 (m_takeLetters_L7 at_ text texted g_fuel 0 at_) (fun x1_89 at__89 =>
  some (x1_89, at__89))
set_option maxHeartbeats 4000000 in
set_option maxRecDepth 100000 in
theorem w_m_takeLetters {p : Program} {l : Launch} {e : Env} {R : Room} {s : State} {m : MethodId} {args : Array Value} {below : List Frame} {meth : Method} {c : Code} {H : Heap} {locs : List Loc} {cells slots : Nat} {Q : State → Prop} {A : Nat → Prop} {ls : Array Slot} {D : va_G} {d : Nat → ClassId} {ad : Nat → Nat} {w : Nat → Int32} {isKept : Nat → Int32} {people : Int32} {room : Nat → Int32} {work : Nat → Int32} {price : Nat → Int32} {askings : Int32} {asked : Nat → Int32} {hangs : Int32} {hung : Nat → Int32} {tenths : Nat → Int32} {sortWorth : Nat → Int32} {sortDays : Nat → Int32} {sorts : Int32} {text : Nat → Int32} {texted : Int32} {trace : Int64} {at_ : Int32} {fault : Int32} {readPeople : Int32} {readPerson : Nat → Int32} {readAskings : Int32} {readAsked : Nat → Int32} {readHangs : Int32} {readHung : Nat → Int32} {rest : Nat → Int32} {brings : Nat → Int64} {later : Nat → Int64} {r : Int64} {at__r : Int32} (hx : p.tables.exec = Jvm.exec) (hb : c.code = cX10_takeLetters) (hml : c.maxLocals = 4) (hown : s.vm.findClass RX10 = some m.cls) (hts : ∀ w ∈ lw_all, w.before args s = true) (hA : ∀ q, s.heap.size ≤ q → A q) (hRf : 1 ≤ R.frames) (hRl : 25 ≤ R.locals) (hRc : cells ≤ R.cells) (hRs : slots ≤ R.slots) (hf : m_takeLetters text texted at_ = some (r, at__r)) (hC : HC D gcl (gty d) A (mw d ad w isKept people room work price askings asked hangs hung tenths sortWorth sortDays sorts text texted trace at_ fault readPeople readPerson readAskings readAsked readHangs readHung rest brings later) s H locs) (hl : lv_has ls 4 [(0, .ref (ad 0))]) (K : ∀ (H : Heap) (locs : List Loc) (ls : Array Slot) (pc : Nat), True → HC D gcl (gty d) A (mw d ad w isKept people room work price askings asked hangs hung tenths sortWorth sortDays sorts text texted trace at__r fault readPeople readPerson readAskings readAsked readHangs readHung rest brings later) s H locs → decode cX10_takeLetters pc = .ok (.lreturn, 1) → W p l e R s m args below meth c H locs cells slots Q (F0 m pc ls [.long r])) : W p l e R s m args below meth c H locs cells slots Q (F0 m 0 ls []) := by
  unfold m_takeLetters at hf
  refine lv_lconst (v := 0) hx hb dX10_takeLetters_0 (by decide) ?_
  refine lv_lstore_n (lv' := [(1, .long 0), (0, .ref (ad 0))]) hx hb dX10_takeLetters_1 rfl hl (by decide) rfl (fun ls hl => ?_)
  refine lv_aload_n hx hb dX10_takeLetters_2 rfl (lv_at hl 1 rfl) ?_
  refine va_get (ci := 10) (v := .int at_) (C := RX10) (T := TX10) (N := 28) hx hb hts in_X10 hown hC.1 hC.2.1 0 rfl rfl 17 (by decide) (hts _ q823) (fun _ h9 => h9) rfl dX10_takeLetters_3 ?_
  refine lv_istore_n (lv' := [(3, .int at_), (1, .long 0), (0, .ref (ad 0))]) hx hb dX10_takeLetters_6 rfl hl (by decide) rfl (fun ls hl => ?_)
  obtain ⟨x1_89, at__89, hL, hf⟩ := bnd2_some hf
  have X_7 : ∀ (H : Heap) (locs : List Loc) (ls : Array Slot), HC D gcl (gty d) A (mw d ad w isKept people room work price askings asked hangs hung tenths sortWorth sortDays sorts text texted trace at__89 fault readPeople readPerson readAskings readAsked readHangs readHung rest brings later) s H locs → lv_has ls 4 [(1, .long x1_89)] → W p l e R s m args below meth c H locs cells slots Q (F0 m 89 ls []) := by
    intro H locs ls hC hl
    refine lv_lload_n hx hb dX10_takeLetters_89 rfl (lv_at hl 0 rfl) ?_
    obtain ⟨e_1, e_2⟩ := so_2 (Option.some.inj hf)
    subst e_1
    subst e_2
    exact K H locs ls _ trivial hC dX10_takeLetters_90
  have L_7 : ∀ (n_7 : Nat) (x1_7 : Int64) (at__7 : Int32), m_takeLetters_L7 at_ text texted n_7 x1_7 at__7 = some (x1_89, at__89) → ∀ (H : Heap) (locs : List Loc) (ls : Array Slot), HC D gcl (gty d) A (mw d ad w isKept people room work price askings asked hangs hung tenths sortWorth sortDays sorts text texted trace at__7 fault readPeople readPerson readAskings readAsked readHangs readHung rest brings later) s H locs → lv_has ls 4 [(0, .ref (ad 0)), (1, .long x1_7), (3, .int at_)] → W p l e R s m args below meth c H locs cells slots Q (F0 m 7 ls []) := by
    intro n_7
    induction n_7 with
    | zero => intro _ _ hf; cases hf
    | succ n_7 ih =>
      intro x1_7 at__7 hf H locs ls hC hl
      rw [m_takeLetters_L7_s] at hf
      refine lv_aload_n hx hb dX10_takeLetters_7 rfl (lv_at hl 0 rfl) ?_
      refine va_get (ci := 10) (v := .int at__7) (C := RX10) (T := TX10) (N := 28) hx hb hts in_X10 hown hC.1 hC.2.1 0 rfl rfl 17 (by decide) (hts _ q823) (fun _ h9 => h9) rfl dX10_takeLetters_8 ?_
      refine lv_aload_n hx hb dX10_takeLetters_11 rfl (lv_at hl 0 rfl) ?_
      refine va_get (ci := 10) (v := .int texted) (C := RX10) (T := TX10) (N := 28) hx hb hts in_X10 hown hC.1 hC.2.1 0 rfl rfl 15 (by decide) (hts _ q821) (fun _ h9 => h9) rfl dX10_takeLetters_12 ?_
      refine lv_icmp_ge (tgt := 89) hx hb dX10_takeLetters_15 (by decide) (fun c_15 => ?_) (fun c_15 => ?_)
      · have hf := if_t hf c_15
        obtain ⟨e_1, e_2⟩ := so_2 (Option.some.inj hf)
        subst e_1
        subst e_2
        exact X_7 H locs ls hC (lv_sub hl [1] rfl)
      · have hf := if_f hf c_15
        refine lv_aload_n hx hb dX10_takeLetters_18 rfl (lv_at hl 0 rfl) ?_
        refine va_get (ci := 10) (v := .ref (ad 11)) (C := RX10) (T := TX10) (N := 28) hx hb hts in_X10 hown hC.1 hC.2.1 0 rfl rfl 14 (by decide) (hts _ q820) (fun _ h9 => h9) rfl dX10_takeLetters_19 ?_
        refine lv_aload_n hx hb dX10_takeLetters_22 rfl (lv_at hl 0 rfl) ?_
        refine va_get (ci := 10) (v := .int at__7) (C := RX10) (T := TX10) (N := 28) hx hb hts in_X10 hown hC.1 hC.2.1 0 rfl rfl 17 (by decide) (hts _ q823) (fun _ h9 => h9) rfl dX10_takeLetters_23 ?_
        obtain ⟨hi_26, hf⟩ := ck_some hf
        refine va_iald hx hb hC.1 hC.2.1 11 0 rfl rfl hi_26 dX10_takeLetters_26 ?_
        refine lv_i2l (v := (text at__7.toNatClampNeg).toInt64) hx hb dX10_takeLetters_27 rfl ?_
        refine lv_ldc2 (v := 97) hx hb hown (hts _ q922) dX10_takeLetters_28 ?_
        refine lv_ldc2 (v := 122) hx hb hown (hts _ q923) dX10_takeLetters_31 ?_
        obtain ⟨r_34, hcall, hf⟩ := bnd_some hf
        refine hc_i (va_runS (As := [.long ((text at__7.toNatClampNeg).toInt64), .long 97, .long 122]) (rest := []) ⟨hx, hb, hml, hown, hts⟩ (c_m_in hcall) (va_cwS 3 hts (lw_S q898 q899 q59 q900) rfl rfl rfl (by decide +kernel) ⟨(Nat.le_trans (Nat.le_of_ble_eq_true rfl) hRf), (Nat.le_trans (Nat.le_of_ble_eq_true rfl) hRl)⟩) (pre_S (fun _ _ _ _ h => h) (fun _ _ _ => trivial) hC) rfl rfl hl.1 rfl (lv_room (Nat.le_of_ble_eq_true rfl)) dX10_takeLetters_34 ⟨hRc, hRs⟩) hA hC (fun H locs hC => ?_)
        refine lv_if_eq (tgt := 89) hx hb dX10_takeLetters_37 (by decide) (fun c_37 => ?_) (fun c_37 => ?_)
        · have hf := if_t hf c_37
          obtain ⟨e_1, e_2⟩ := so_2 (Option.some.inj hf)
          subst e_1
          subst e_2
          exact X_7 H locs ls hC (lv_sub hl [1] rfl)
        · have hf := if_f hf c_37
          refine lv_aload_n hx hb dX10_takeLetters_40 rfl (lv_at hl 0 rfl) ?_
          refine va_get (ci := 10) (v := .int at__7) (C := RX10) (T := TX10) (N := 28) hx hb hts in_X10 hown hC.1 hC.2.1 0 rfl rfl 17 (by decide) (hts _ q823) (fun _ h9 => h9) rfl dX10_takeLetters_41 ?_
          refine lv_iload_n hx hb dX10_takeLetters_44 rfl (lv_at hl 2 rfl) ?_
          refine lv_isub hx hb dX10_takeLetters_45 ?_
          refine lv_bipush (v := 7) hx hb dX10_takeLetters_46 (by decide) ?_
          obtain ⟨t_75, hj, hf⟩ := bnd_some hf
          refine wj (g1 := F0 m 75 ls [.long t_75]) ?_ (fun J_75 => ?_)
          · refine lv_lstore_n (lv' := [(1, .long t_75), (0, .ref (ad 0)), (3, .int at_)]) hx hb dX10_takeLetters_75 rfl hl (by decide) rfl (fun ls hl => ?_)
            refine lv_aload_n hx hb dX10_takeLetters_76 rfl (lv_at hl 1 rfl) ?_
            refine lv_dup hx hb dX10_takeLetters_77 rfl ?_
            refine va_get (ci := 10) (v := .int at__7) (C := RX10) (T := TX10) (N := 28) hx hb hts in_X10 hown hC.1 hC.2.1 0 rfl rfl 17 (by decide) (hts _ q823) (fun _ h9 => h9) rfl dX10_takeLetters_78 ?_
            refine lv_iconst (v := 1) hx hb dX10_takeLetters_81 (by decide) ?_
            refine lv_iadd hx hb dX10_takeLetters_82 ?_
            refine va_put (ci := 10) (v := .int (at__7 + 1)) (ty := .int) (C := RX10) (T := TX10) (N := 28) hx hb hts in_X10 tyX10 tyX10_ok nmX10 hown hC.1 hC.2.1 hC.2.2.1 hC.2.2.2 0 rfl rfl 17 (by decide) (hts _ q823) (fun _ h9 => h9) rfl (tyX10_ok 17 (by decide)) rfl rfl (Nat.le_of_ble_eq_true rfl) dX10_takeLetters_83 (fun H locs hP hD hS => ?_)
            have hC : HC D gcl (gty d) A (mw d ad w isKept people room work price askings asked hangs hung tenths sortWorth sortDays sorts text texted trace (at__7 + 1) fault readPeople readPerson readAskings readAsked readHangs readHung rest brings later) s H locs := ⟨hC.1, hP, hD, hS⟩
            refine lv_goto (tgt := 7) hx hb dX10_takeLetters_86 (by decide) ?_
            exact ih _ _ hf H locs ls hC (lv_sub hl [1, 0, 2] rfl)
          · have hf := hj
            refine lv_icmp_ge (tgt := 74) hx hb dX10_takeLetters_48 (by decide) (fun c_48 => ?_) (fun c_48 => ?_)
            · have hf := if_t hf c_48
              refine lv_lload_n hx hb dX10_takeLetters_74 rfl (lv_at hl 1 rfl) ?_
              have e_1 := (Option.some.inj hf)
              subst e_1
              exact J_75
            · have hf := if_f hf c_48
              refine lv_ldc2 (v := 32) hx hb hown (hts _ q924) dX10_takeLetters_51 ?_
              refine lv_lload_n hx hb dX10_takeLetters_54 rfl (lv_at hl 1 rfl) ?_
              refine lv_lmul hx hb dX10_takeLetters_55 ?_
              refine lv_aload_n hx hb dX10_takeLetters_56 rfl (lv_at hl 0 rfl) ?_
              refine va_get (ci := 10) (v := .ref (ad 11)) (C := RX10) (T := TX10) (N := 28) hx hb hts in_X10 hown hC.1 hC.2.1 0 rfl rfl 14 (by decide) (hts _ q820) (fun _ h9 => h9) rfl dX10_takeLetters_57 ?_
              refine lv_aload_n hx hb dX10_takeLetters_60 rfl (lv_at hl 0 rfl) ?_
              refine va_get (ci := 10) (v := .int at__7) (C := RX10) (T := TX10) (N := 28) hx hb hts in_X10 hown hC.1 hC.2.1 0 rfl rfl 17 (by decide) (hts _ q823) (fun _ h9 => h9) rfl dX10_takeLetters_61 ?_
              obtain ⟨hi_64, hf⟩ := ck_some hf
              refine va_iald hx hb hC.1 hC.2.1 11 0 rfl rfl hi_64 dX10_takeLetters_64 ?_
              refine lv_i2l (v := (text at__7.toNatClampNeg).toInt64) hx hb dX10_takeLetters_65 rfl ?_
              refine lv_ladd hx hb dX10_takeLetters_66 ?_
              refine lv_ldc2 (v := 96) hx hb hown (hts _ q925) dX10_takeLetters_67 ?_
              refine lv_lsub hx hb dX10_takeLetters_70 ?_
              refine lv_goto (tgt := 75) hx hb dX10_takeLetters_71 (by decide) ?_
              have e_1 := (Option.some.inj hf)
              subst e_1
              exact J_75
  exact L_7 _ _ _ hL H locs ls hC (lv_sub hl [2, 1, 0] rfl)
set_option maxRecDepth 100000 in
theorem c_m_takeLetters {l : Launch} {sz : Nat} {D : va_G} {d : Nat → ClassId} {ad : Nat → Nat} {w : Nat → Int32} {isKept : Nat → Int32} {people : Int32} {room : Nat → Int32} {work : Nat → Int32} {price : Nat → Int32} {askings : Int32} {asked : Nat → Int32} {hangs : Int32} {hung : Nat → Int32} {tenths : Nat → Int32} {sortWorth : Nat → Int32} {sortDays : Nat → Int32} {sorts : Int32} {text : Nat → Int32} {texted : Int32} {trace : Int64} {at_ : Int32} {fault : Int32} {readPeople : Int32} {readPerson : Nat → Int32} {readAskings : Int32} {readAsked : Nat → Int32} {readHangs : Int32} {readHung : Nat → Int32} {rest : Nat → Int32} {brings : Nat → Int64} {later : Nat → Int64} {r : Int64} {at__r : Int32} (hf : m_takeLetters text texted at_ = some (r, at__r)) : ML l yX10_takeLetters (ws_ yX10_takeLetters cX10_takeLetters 4 (some .long)) { frames := 1, cells := 0, slots := 0, locals := 25 } D gcl (gty d) (fun _ => True) (mw d ad w isKept people room work price askings asked hangs hung tenths sortWorth sortDays sorts text texted trace at_ fault readPeople readPerson readAskings readAsked readHangs readHung rest brings later) (mw d ad w isKept people room work price askings asked hangs hung tenths sortWorth sortDays sorts text texted trace at__r fault readPeople readPerson readAskings readAsked readHangs readHung rest brings later) sz [.ref (ad 0)] r :=
  ML.of (by decide) [.ref (ad 0)] [(0, .ref (ad 0))] (Nat.le_of_ble_eq_true rfl) rfl (fun p e s m below meth c ls Q hx hb hml hown hts hN hA hC hl K => w_m_takeLetters hx hb hml hown hts hA (Nat.le_refl _) (Nat.le_refl _) (Nat.le_refl _) (Nat.le_refl _) hf hC hl K)

def m_asking (w : Nat → Int32) (people : Int32) (askings : Int32) (asked : Nat → Int32) (x1 : Int32) (x2 : Int32) : Option (Int32) :=
  bnd (m_isAsking askings x1) fun r_2 =>
  if r_2 = 0 then (some (-1)) else
  bnd (m_in x2.toInt64 0 7) fun r_14 =>
  if r_14 = 0 then (some (-1)) else
  ck (3 + x1) 300 <| ltv (if (w (3 + x1).toNatClampNeg) = 1 then (1) else
  0) (fun (t_39 : Int32) =>
  if 5 ≤ x2 then (if x2 = 5 then (ck (3 + x1) 300 <| some (w (3 + x1).toNatClampNeg)) else
  if x2 = 6 then (if t_39 = 0 then (some 0) else
  ck (11 + x1) 300 <| some (w (11 + x1).toNatClampNeg)) else
  bnd (m_sleeveOf w people x1) fun r_102 =>
  some r_102) else
  ck ((5 * x1) + x2) 40 <| some (asked ((5 * x1) + x2).toNatClampNeg))
set_option maxHeartbeats 4000000 in
set_option maxRecDepth 100000 in
theorem w_m_asking {p : Program} {l : Launch} {e : Env} {R : Room} {s : State} {m : MethodId} {args : Array Value} {below : List Frame} {meth : Method} {c : Code} {H : Heap} {locs : List Loc} {cells slots : Nat} {Q : State → Prop} {A : Nat → Prop} {ls : Array Slot} {D : va_G} {d : Nat → ClassId} {ad : Nat → Nat} {w : Nat → Int32} {isKept : Nat → Int32} {people : Int32} {room : Nat → Int32} {work : Nat → Int32} {price : Nat → Int32} {askings : Int32} {asked : Nat → Int32} {hangs : Int32} {hung : Nat → Int32} {tenths : Nat → Int32} {sortWorth : Nat → Int32} {sortDays : Nat → Int32} {sorts : Int32} {text : Nat → Int32} {texted : Int32} {trace : Int64} {at_ : Int32} {fault : Int32} {readPeople : Int32} {readPerson : Nat → Int32} {readAskings : Int32} {readAsked : Nat → Int32} {readHangs : Int32} {readHung : Nat → Int32} {rest : Nat → Int32} {brings : Nat → Int64} {later : Nat → Int64} {x1 : Int32} {x2 : Int32} {r : Int32} (hx : p.tables.exec = Jvm.exec) (hb : c.code = cX10_asking) (hml : c.maxLocals = 4) (hown : s.vm.findClass RX10 = some m.cls) (hts : ∀ w ∈ lw_all, w.before args s = true) (hA : ∀ q, s.heap.size ≤ q → A q) (hRf : 2 ≤ R.frames) (hRl : 46 ≤ R.locals) (hRc : cells ≤ R.cells) (hRs : slots ≤ R.slots) (hf : m_asking w people askings asked x1 x2 = some r) (hC : HC D gcl (gty d) A (mw d ad w isKept people room work price askings asked hangs hung tenths sortWorth sortDays sorts text texted trace at_ fault readPeople readPerson readAskings readAsked readHangs readHung rest brings later) s H locs) (hl : lv_has ls 4 [(0, .ref (ad 0)), (1, .int x1), (2, .int x2)]) (K : ∀ (H : Heap) (locs : List Loc) (ls : Array Slot) (pc : Nat), narrow .int (.int r) = .int r → HC D gcl (gty d) A (mw d ad w isKept people room work price askings asked hangs hung tenths sortWorth sortDays sorts text texted trace at_ fault readPeople readPerson readAskings readAsked readHangs readHung rest brings later) s H locs → decode cX10_asking pc = .ok (.ireturn, 1) → W p l e R s m args below meth c H locs cells slots Q (F0 m pc ls [.int r])) : W p l e R s m args below meth c H locs cells slots Q (F0 m 0 ls []) := by
  unfold m_asking at hf
  refine lv_aload_n hx hb dX10_asking_0 rfl (lv_at hl 0 rfl) ?_
  refine lv_iload_n hx hb dX10_asking_1 rfl (lv_at hl 1 rfl) ?_
  obtain ⟨r_2, hcall, hf⟩ := bnd_some hf
  refine hc_i (va_runV (C := RX10) (As := [.int x1]) (rest := []) ⟨hx, hb, hml, hown, hts⟩ (c_m_isAsking hcall) (cwV 1 hts (lw_V q951 q953 qs28 q59 q954) rfl rfl rfl (by decide +kernel) ⟨(Nat.le_trans (Nat.le_of_ble_eq_true rfl) hRf), (Nat.le_trans (Nat.le_of_ble_eq_true rfl) hRl)⟩) (pre_V (q0 := 0) (ci := 10) (fun _ _ _ _ h => h) (fun _ _ _ => trivial) hC rfl rfl) rfl rfl hl.1 rfl (lv_room (Nat.le_of_ble_eq_true rfl)) dX10_asking_2 ⟨hRc, hRs⟩) hA hC (fun H locs hC => ?_)
  refine lv_if_eq (tgt := 20) hx hb dX10_asking_5 (by decide) (fun c_5 => ?_) (fun c_5 => ?_)
  · have hf := if_t hf c_5
    refine lv_iconst (v := (-1)) hx hb dX10_asking_20 (by decide) ?_
    have e_1 := (Option.some.inj hf)
    subst e_1
    exact K H locs ls _ rfl hC dX10_asking_21
  · have hf := if_f hf c_5
    refine lv_iload_n hx hb dX10_asking_8 rfl (lv_at hl 2 rfl) ?_
    refine lv_i2l (v := x2.toInt64) hx hb dX10_asking_9 rfl ?_
    refine lv_lconst (v := 0) hx hb dX10_asking_10 (by decide) ?_
    refine lv_ldc2 (v := 7) hx hb hown (hts _ q955) dX10_asking_11 ?_
    obtain ⟨r_14, hcall, hf⟩ := bnd_some hf
    refine hc_i (va_runS (As := [.long x2.toInt64, .long 0, .long 7]) (rest := []) ⟨hx, hb, hml, hown, hts⟩ (c_m_in hcall) (va_cwS 3 hts (lw_S q898 q899 q59 q900) rfl rfl rfl (by decide +kernel) ⟨(Nat.le_trans (Nat.le_of_ble_eq_true rfl) hRf), (Nat.le_trans (Nat.le_of_ble_eq_true rfl) hRl)⟩) (pre_S (fun _ _ _ _ h => h) (fun _ _ _ => trivial) hC) rfl rfl hl.1 rfl (lv_room (Nat.le_of_ble_eq_true rfl)) dX10_asking_14 ⟨hRc, hRs⟩) hA hC (fun H locs hC => ?_)
    refine lv_if_ne (tgt := 22) hx hb dX10_asking_17 (by decide) (fun c_17 => ?_) (fun c_17 => ?_)
    · have hf := if_f hf c_17
      refine lv_aload_n hx hb dX10_asking_22 rfl (lv_at hl 0 rfl) ?_
      refine va_get (ci := 10) (v := .ref (ad 1)) (C := RX10) (T := TX10) (N := 28) hx hb hts in_X10 hown hC.1 hC.2.1 0 rfl rfl 0 (by decide) (hts _ q806) (fun _ h9 => h9) rfl dX10_asking_23 ?_
      refine lv_iconst (v := 3) hx hb dX10_asking_26 (by decide) ?_
      refine lv_iload_n hx hb dX10_asking_27 rfl (lv_at hl 1 rfl) ?_
      refine lv_iadd hx hb dX10_asking_28 ?_
      obtain ⟨hi_29, hf⟩ := ck_some hf
      refine va_iald hx hb hC.1 hC.2.1 1 0 rfl rfl hi_29 dX10_asking_29 ?_
      refine lv_iconst (v := 1) hx hb dX10_asking_30 (by decide) ?_
      obtain ⟨t_39, hj, hf⟩ := ltv_some hf
      refine wj (g1 := F0 m 39 ls [.int t_39]) ?_ (fun J_39 => ?_)
      · refine lv_istore_n (lv' := [(3, .int t_39), (0, .ref (ad 0)), (1, .int x1), (2, .int x2)]) hx hb dX10_asking_39 rfl hl (by decide) rfl (fun ls hl => ?_)
        refine lv_iload_n hx hb dX10_asking_40 rfl (lv_at hl 3 rfl) ?_
        refine lv_iconst (v := 5) hx hb dX10_asking_41 (by decide) ?_
        refine lv_icmp_ge (tgt := 58) hx hb dX10_asking_42 (by decide) (fun c_42 => ?_) (fun c_42 => ?_)
        · have hf := if_t hf c_42
          refine lv_iload_n hx hb dX10_asking_58 rfl (lv_at hl 3 rfl) ?_
          refine lv_iconst (v := 5) hx hb dX10_asking_59 (by decide) ?_
          refine lv_icmp_ne (tgt := 74) hx hb dX10_asking_60 (by decide) (fun c_60 => ?_) (fun c_60 => ?_)
          · have hf := if_f hf c_60
            refine lv_iload_n hx hb dX10_asking_74 rfl (lv_at hl 3 rfl) ?_
            refine lv_bipush (v := 6) hx hb dX10_asking_75 (by decide) ?_
            refine lv_icmp_ne (tgt := 100) hx hb dX10_asking_77 (by decide) (fun c_77 => ?_) (fun c_77 => ?_)
            · have hf := if_f hf c_77
              refine lv_aload_n hx hb dX10_asking_100 rfl (lv_at hl 1 rfl) ?_
              refine lv_iload_n hx hb dX10_asking_101 rfl (lv_at hl 2 rfl) ?_
              obtain ⟨r_102, hcall, hf⟩ := bnd_some hf
              refine hc_i (va_runV (C := RX10) (As := [.int x1]) (rest := []) ⟨hx, hb, hml, hown, hts⟩ (c_m_sleeveOf hcall) (cwV 1 hts (lw_V q956 q958 qs29 q59 q959) rfl rfl rfl (by decide +kernel) ⟨(Nat.le_trans (Nat.le_of_ble_eq_true rfl) hRf), (Nat.le_trans (Nat.le_of_ble_eq_true rfl) hRl)⟩) (pre_V (q0 := 0) (ci := 10) (fun _ _ _ _ h => h) (fun _ _ _ => trivial) hC rfl rfl) rfl rfl hl.1 rfl (lv_room (Nat.le_of_ble_eq_true rfl)) dX10_asking_102 ⟨hRc, hRs⟩) hA hC (fun H locs hC => ?_)
              have e_1 := (Option.some.inj hf)
              subst e_1
              exact K H locs ls _ rfl hC dX10_asking_105
            · have hf := if_t hf c_77
              refine lv_iload_n hx hb dX10_asking_80 rfl (lv_at hl 0 rfl) ?_
              refine lv_if_eq (tgt := 96) hx hb dX10_asking_81 (by decide) (fun c_81 => ?_) (fun c_81 => ?_)
              · have hf := if_t hf c_81
                refine lv_iconst (v := 0) hx hb dX10_asking_96 (by decide) ?_
                refine lv_goto (tgt := 105) hx hb dX10_asking_97 (by decide) ?_
                have e_1 := (Option.some.inj hf)
                subst e_1
                exact K H locs ls _ rfl hC dX10_asking_105
              · have hf := if_f hf c_81
                refine lv_aload_n hx hb dX10_asking_84 rfl (lv_at hl 1 rfl) ?_
                refine va_get (ci := 10) (v := .ref (ad 1)) (C := RX10) (T := TX10) (N := 28) hx hb hts in_X10 hown hC.1 hC.2.1 0 rfl rfl 0 (by decide) (hts _ q806) (fun _ h9 => h9) rfl dX10_asking_85 ?_
                refine lv_bipush (v := 11) hx hb dX10_asking_88 (by decide) ?_
                refine lv_iload_n hx hb dX10_asking_90 rfl (lv_at hl 2 rfl) ?_
                refine lv_iadd hx hb dX10_asking_91 ?_
                obtain ⟨hi_92, hf⟩ := ck_some hf
                refine va_iald hx hb hC.1 hC.2.1 1 0 rfl rfl hi_92 dX10_asking_92 ?_
                refine lv_goto (tgt := 105) hx hb dX10_asking_93 (by decide) ?_
                have e_1 := (Option.some.inj hf)
                subst e_1
                exact K H locs ls _ rfl hC dX10_asking_105
          · have hf := if_t hf c_60
            refine lv_aload_n hx hb dX10_asking_63 rfl (lv_at hl 1 rfl) ?_
            refine va_get (ci := 10) (v := .ref (ad 1)) (C := RX10) (T := TX10) (N := 28) hx hb hts in_X10 hown hC.1 hC.2.1 0 rfl rfl 0 (by decide) (hts _ q806) (fun _ h9 => h9) rfl dX10_asking_64 ?_
            refine lv_iconst (v := 3) hx hb dX10_asking_67 (by decide) ?_
            refine lv_iload_n hx hb dX10_asking_68 rfl (lv_at hl 2 rfl) ?_
            refine lv_iadd hx hb dX10_asking_69 ?_
            obtain ⟨hi_70, hf⟩ := ck_some hf
            refine va_iald hx hb hC.1 hC.2.1 1 0 rfl rfl hi_70 dX10_asking_70 ?_
            refine lv_goto (tgt := 105) hx hb dX10_asking_71 (by decide) ?_
            have e_1 := (Option.some.inj hf)
            subst e_1
            exact K H locs ls _ rfl hC dX10_asking_105
        · have hf := if_f hf c_42
          refine lv_aload_n hx hb dX10_asking_45 rfl (lv_at hl 1 rfl) ?_
          refine va_get (ci := 10) (v := .ref (ad 6)) (C := RX10) (T := TX10) (N := 28) hx hb hts in_X10 hown hC.1 hC.2.1 0 rfl rfl 7 (by decide) (hts _ q813) (fun _ h9 => h9) rfl dX10_asking_46 ?_
          refine lv_iconst (v := 5) hx hb dX10_asking_49 (by decide) ?_
          refine lv_iload_n hx hb dX10_asking_50 rfl (lv_at hl 2 rfl) ?_
          refine lv_imul hx hb dX10_asking_51 ?_
          refine lv_iload_n hx hb dX10_asking_52 rfl (lv_at hl 3 rfl) ?_
          refine lv_iadd hx hb dX10_asking_53 ?_
          obtain ⟨hi_54, hf⟩ := ck_some hf
          refine va_iald hx hb hC.1 hC.2.1 6 0 rfl rfl hi_54 dX10_asking_54 ?_
          refine lv_goto (tgt := 105) hx hb dX10_asking_55 (by decide) ?_
          have e_1 := (Option.some.inj hf)
          subst e_1
          exact K H locs ls _ rfl hC dX10_asking_105
      · have hf := hj
        refine lv_icmp_ne (tgt := 38) hx hb dX10_asking_31 (by decide) (fun c_31 => ?_) (fun c_31 => ?_)
        · have hf := if_f hf c_31
          refine lv_iconst (v := 0) hx hb dX10_asking_38 (by decide) ?_
          have e_1 := hf
          subst e_1
          exact J_39
        · have hf := if_t hf c_31
          refine lv_iconst (v := 1) hx hb dX10_asking_34 (by decide) ?_
          refine lv_goto (tgt := 39) hx hb dX10_asking_35 (by decide) ?_
          have e_1 := hf
          subst e_1
          exact J_39
    · have hf := if_t hf c_17
      refine lv_iconst (v := (-1)) hx hb dX10_asking_20 (by decide) ?_
      have e_1 := (Option.some.inj hf)
      subst e_1
      exact K H locs ls _ rfl hC dX10_asking_21
set_option maxRecDepth 100000 in
theorem c_m_asking {l : Launch} {sz : Nat} {D : va_G} {d : Nat → ClassId} {ad : Nat → Nat} {w : Nat → Int32} {isKept : Nat → Int32} {people : Int32} {room : Nat → Int32} {work : Nat → Int32} {price : Nat → Int32} {askings : Int32} {asked : Nat → Int32} {hangs : Int32} {hung : Nat → Int32} {tenths : Nat → Int32} {sortWorth : Nat → Int32} {sortDays : Nat → Int32} {sorts : Int32} {text : Nat → Int32} {texted : Int32} {trace : Int64} {at_ : Int32} {fault : Int32} {readPeople : Int32} {readPerson : Nat → Int32} {readAskings : Int32} {readAsked : Nat → Int32} {readHangs : Int32} {readHung : Nat → Int32} {rest : Nat → Int32} {brings : Nat → Int64} {later : Nat → Int64} {x1 : Int32} {x2 : Int32} {r : Int32} (hf : m_asking w people askings asked x1 x2 = some r) : MI l yX10_asking (ws_ yX10_asking cX10_asking 4 (some .int)) { frames := 2, cells := 0, slots := 0, locals := 46 } D gcl (gty d) (fun _ => True) (mw d ad w isKept people room work price askings asked hangs hung tenths sortWorth sortDays sorts text texted trace at_ fault readPeople readPerson readAskings readAsked readHangs readHung rest brings later) (mw d ad w isKept people room work price askings asked hangs hung tenths sortWorth sortDays sorts text texted trace at_ fault readPeople readPerson readAskings readAsked readHangs readHung rest brings later) sz [.ref (ad 0), .int x1, .int x2] r :=
  MI.of (by decide) [.ref (ad 0), .int x1, .int x2] [(0, .ref (ad 0)), (1, .int x1), (2, .int x2)] (Nat.le_of_ble_eq_true rfl) rfl (fun p e s m below meth c ls Q hx hb hml hown hts hN hA hC hl K => w_m_asking hx hb hml hown hts hA (Nat.le_refl _) (Nat.le_refl _) (Nat.le_refl _) (Nat.le_refl _) hf hC hl K)
