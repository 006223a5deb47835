set_option maxRecDepth 100000

def x_isPerson (people : Int32) (x1 : Int32) : Option (Int32) :=
  bnd (x_in x1 0 (people - 1)) fun r_11 =>
  ckz r_11 <| some r_11
set_option maxHeartbeats 4000000 in
set_option maxRecDepth 100000 in
theorem w_x_isPerson {p : Program} {l : Launch} {e : Env} {R : Room} {s : State} {m : MethodId} {args : Array Value} {below : List Frame} {meth : Method} {c : Code} {H : Heap} {locs : List Loc} {cells slots : Nat} {Q : State → Prop} {A : Nat → Prop} {ls : Array Slot} {D : va_G} {d : Nat → ClassId} {ad : Nat → Nat} {ba : Nat → Nat} {ta : Nat → Nat} {imgs : va_W} {room : Nat → Int32} {work : Nat → Int32} {price : Nat → Int32} {whom : Nat → Int32} {bday : Nat → Int32} {units : Nat → Int32} {worth : Nat → Int32} {due : Nat → Int32} {under : Nat → Int32} {people : Int32} {askings : Int32} {hangs : Int32} {items : Int32} {many : Nat → Int32} {slip : Nat → Nat → Int32} {became : Nat → Int32} {left : Nat → Int32} {what : Nat → Int32} {which : Nat → Int32} {whose : Nat → Int32} {place : Nat → Int32} {deeds : Int32} {day : Int32} {won : Int32} {lost : Int32} {kept : Int32} {text : Nat → Int32} {typed : Int32} {rest : Nat → Int32} {bestSet : Int32} {tenths : Nat → Int32} {sortWorth : Nat → Int32} {sortDays : Nat → Int32} {row : Nat → Int32} {trace : Int64} {x1 : Int32} {r : Int32} (hx : p.tables.exec = Jvm.exec) (hb : c.code = cX0_isPerson) (hml : c.maxLocals = 2) (hown : s.vm.findClass RX0 = some m.cls) (hts : ∀ w ∈ lw_all, w.before args s = true) (hN : NX s) (hA : ∀ q, s.heap.size ≤ q → A q) (hRf : 1 ≤ R.frames) (hRl : 22 ≤ R.locals) (hRc : cells ≤ R.cells) (hRs : slots ≤ R.slots) (hf : x_isPerson people x1 = some r) (hC : HC D gcl (gty d) A (xw d ad ba ta imgs room work price whom bday units worth due under people askings hangs items many slip became left what which whose place deeds day won lost kept text typed rest bestSet tenths sortWorth sortDays row trace) s H locs) (hl : lv_has ls 2 [(0, .ref (ad 0)), (1, .int x1)]) (K : ∀ (H : Heap) (locs : List Loc) (ls : Array Slot) (pc : Nat), narrow .boolean (.int r) = .int r → HC D gcl (gty d) A (xw d ad ba ta imgs room work price whom bday units worth due under people askings hangs items many slip became left what which whose place deeds day won lost kept text typed rest bestSet tenths sortWorth sortDays row trace) s H locs → decode cX0_isPerson pc = .ok (.ireturn, 1) → W p l e R s m args below meth c H locs cells slots Q (F0 m pc ls [.int r])) : W p l e R s m args below meth c H locs cells slots Q (F0 m 0 ls []) := by
  unfold x_isPerson at hf
  refine lv_iload_n hx hb dX0_isPerson_0 rfl (lv_at hl 1 rfl) ?_
  refine lv_iconst (v := 0) hx hb dX0_isPerson_1 (by decide) ?_
  refine lv_aload_n hx hb dX0_isPerson_2 rfl (lv_at hl 0 rfl) ?_
  refine va_get (ci := 0) (v := .ref (ba 0)) (C := RX0) (T := TX0) (N := 13) hx hb hts in_X0 hown hC.1 hC.2.1 (26) rfl rfl 0 (by decide) (hts _ q302) (fun _ h9 => h9) rfl dX0_isPerson_3 ?_
  refine va_getN (ci := 1) (v := .int people) (C := RX1) (T := TX1) (N := 13) (host := "SleeveSlips") hx hb hts in_X1 hown hC.1 hC.2.1 (0) rfl rfl 9 (by decide) (va_Nw.use rfl (hN.1 20)) (fun _ h9 => h9) rfl dX0_isPerson_6 ?_
  refine lv_iconst (v := 1) hx hb dX0_isPerson_9 (by decide) ?_
  refine lv_isub hx hb dX0_isPerson_10 ?_
  obtain ⟨r_11, hcall, hf⟩ := bnd_some hf
  refine hc_i (va_runS (As := [.int x1, .int 0, .int (people - 1)]) (rest := []) ⟨hx, hb, hml, hown, hts⟩ (c_x_in hcall) (va_cwS 3 hts (lw_S q358 q359 q48 q360) rfl rfl rfl (by decide +kernel) ⟨(Nat.le_trans (Nat.le_of_ble_eq_true rfl) hRf), (Nat.le_trans (Nat.le_of_ble_eq_true rfl) hRl)⟩) (pre_S (fun _ _ _ _ h => h) (fun _ _ _ => trivial) hC) rfl rfl hl.1 rfl (lv_room (Nat.le_of_ble_eq_true rfl)) dX0_isPerson_11 ⟨hRc, hRs⟩) hA hC (fun H locs hC => ?_)
  obtain ⟨hz_14, hf⟩ := ckz_some hf
  have e_1 := (Option.some.inj hf)
  subst e_1
  exact K H locs ls _ (nz_01 hz_14) hC dX0_isPerson_14
set_option maxRecDepth 100000 in
theorem c_x_isPerson {l : Launch} {sz : Nat} {D : va_G} {d : Nat → ClassId} {ad : Nat → Nat} {ba : Nat → Nat} {ta : Nat → Nat} {imgs : va_W} {room : Nat → Int32} {work : Nat → Int32} {price : Nat → Int32} {whom : Nat → Int32} {bday : Nat → Int32} {units : Nat → Int32} {worth : Nat → Int32} {due : Nat → Int32} {under : Nat → Int32} {people : Int32} {askings : Int32} {hangs : Int32} {items : Int32} {many : Nat → Int32} {slip : Nat → Nat → Int32} {became : Nat → Int32} {left : Nat → Int32} {what : Nat → Int32} {which : Nat → Int32} {whose : Nat → Int32} {place : Nat → Int32} {deeds : Int32} {day : Int32} {won : Int32} {lost : Int32} {kept : Int32} {text : Nat → Int32} {typed : Int32} {rest : Nat → Int32} {bestSet : Int32} {tenths : Nat → Int32} {sortWorth : Nat → Int32} {sortDays : Nat → Int32} {row : Nat → Int32} {trace : Int64} {x1 : Int32} {r : Int32} (hf : x_isPerson people x1 = some r) : MI l yX0_isPerson (ws_ yX0_isPerson cX0_isPerson 2 (some .boolean)) { frames := 1, cells := 0, slots := 0, locals := 22 } D gcl (gty d) NX (xw d ad ba ta imgs room work price whom bday units worth due under people askings hangs items many slip became left what which whose place deeds day won lost kept text typed rest bestSet tenths sortWorth sortDays row trace) (xw d ad ba ta imgs room work price whom bday units worth due under people askings hangs items many slip became left what which whose place deeds day won lost kept text typed rest bestSet tenths sortWorth sortDays row trace) sz [.ref (ad 0), .int x1] r :=
  MI.of (by decide) [.ref (ad 0), .int x1] [(0, .ref (ad 0)), (1, .int x1)] (Nat.le_of_ble_eq_true rfl) rfl (fun p e s m below meth c ls Q hx hb hml hown hts hN hA hC hl K => w_x_isPerson hx hb hml hown hts hN hA (Nat.le_refl _) (Nat.le_refl _) (Nat.le_refl _) (Nat.le_refl _) hf hC hl K)

def x_isAsking (askings : Int32) (x1 : Int32) : Option (Int32) :=
  bnd (x_in x1 0 (askings - 1)) fun r_11 =>
  ckz r_11 <| some r_11
set_option maxHeartbeats 4000000 in
set_option maxRecDepth 100000 in
theorem w_x_isAsking {p : Program} {l : Launch} {e : Env} {R : Room} {s : State} {m : MethodId} {args : Array Value} {below : List Frame} {meth : Method} {c : Code} {H : Heap} {locs : List Loc} {cells slots : Nat} {Q : State → Prop} {A : Nat → Prop} {ls : Array Slot} {D : va_G} {d : Nat → ClassId} {ad : Nat → Nat} {ba : Nat → Nat} {ta : Nat → Nat} {imgs : va_W} {room : Nat → Int32} {work : Nat → Int32} {price : Nat → Int32} {whom : Nat → Int32} {bday : Nat → Int32} {units : Nat → Int32} {worth : Nat → Int32} {due : Nat → Int32} {under : Nat → Int32} {people : Int32} {askings : Int32} {hangs : Int32} {items : Int32} {many : Nat → Int32} {slip : Nat → Nat → Int32} {became : Nat → Int32} {left : Nat → Int32} {what : Nat → Int32} {which : Nat → Int32} {whose : Nat → Int32} {place : Nat → Int32} {deeds : Int32} {day : Int32} {won : Int32} {lost : Int32} {kept : Int32} {text : Nat → Int32} {typed : Int32} {rest : Nat → Int32} {bestSet : Int32} {tenths : Nat → Int32} {sortWorth : Nat → Int32} {sortDays : Nat → Int32} {row : Nat → Int32} {trace : Int64} {x1 : Int32} {r : Int32} (hx : p.tables.exec = Jvm.exec) (hb : c.code = cX0_isAsking) (hml : c.maxLocals = 2) (hown : s.vm.findClass RX0 = some m.cls) (hts : ∀ w ∈ lw_all, w.before args s = true) (hN : NX s) (hA : ∀ q, s.heap.size ≤ q → A q) (hRf : 1 ≤ R.frames) (hRl : 22 ≤ R.locals) (hRc : cells ≤ R.cells) (hRs : slots ≤ R.slots) (hf : x_isAsking askings x1 = some r) (hC : HC D gcl (gty d) A (xw d ad ba ta imgs room work price whom bday units worth due under people askings hangs items many slip became left what which whose place deeds day won lost kept text typed rest bestSet tenths sortWorth sortDays row trace) s H locs) (hl : lv_has ls 2 [(0, .ref (ad 0)), (1, .int x1)]) (K : ∀ (H : Heap) (locs : List Loc) (ls : Array Slot) (pc : Nat), narrow .boolean (.int r) = .int r → HC D gcl (gty d) A (xw d ad ba ta imgs room work price whom bday units worth due under people askings hangs items many slip became left what which whose place deeds day won lost kept text typed rest bestSet tenths sortWorth sortDays row trace) s H locs → decode cX0_isAsking pc = .ok (.ireturn, 1) → W p l e R s m args below meth c H locs cells slots Q (F0 m pc ls [.int r])) : W p l e R s m args below meth c H locs cells slots Q (F0 m 0 ls []) := by
  unfold x_isAsking at hf
  refine lv_iload_n hx hb dX0_isAsking_0 rfl (lv_at hl 1 rfl) ?_
  refine lv_iconst (v := 0) hx hb dX0_isAsking_1 (by decide) ?_
  refine lv_aload_n hx hb dX0_isAsking_2 rfl (lv_at hl 0 rfl) ?_
  refine va_get (ci := 0) (v := .ref (ba 0)) (C := RX0) (T := TX0) (N := 13) hx hb hts in_X0 hown hC.1 hC.2.1 (26) rfl rfl 0 (by decide) (hts _ q302) (fun _ h9 => h9) rfl dX0_isAsking_3 ?_
  refine va_getN (ci := 1) (v := .int askings) (C := RX1) (T := TX1) (N := 13) (host := "SleeveSlips") hx hb hts in_X1 hown hC.1 hC.2.1 (0) rfl rfl 10 (by decide) (va_Nw.use rfl (hN.1 22)) (fun _ h9 => h9) rfl dX0_isAsking_6 ?_
  refine lv_iconst (v := 1) hx hb dX0_isAsking_9 (by decide) ?_
  refine lv_isub hx hb dX0_isAsking_10 ?_
  obtain ⟨r_11, hcall, hf⟩ := bnd_some hf
  refine hc_i (va_runS (As := [.int x1, .int 0, .int (askings - 1)]) (rest := []) ⟨hx, hb, hml, hown, hts⟩ (c_x_in hcall) (va_cwS 3 hts (lw_S q358 q359 q48 q360) rfl rfl rfl (by decide +kernel) ⟨(Nat.le_trans (Nat.le_of_ble_eq_true rfl) hRf), (Nat.le_trans (Nat.le_of_ble_eq_true rfl) hRl)⟩) (pre_S (fun _ _ _ _ h => h) (fun _ _ _ => trivial) hC) rfl rfl hl.1 rfl (lv_room (Nat.le_of_ble_eq_true rfl)) dX0_isAsking_11 ⟨hRc, hRs⟩) hA hC (fun H locs hC => ?_)
  obtain ⟨hz_14, hf⟩ := ckz_some hf
  have e_1 := (Option.some.inj hf)
  subst e_1
  exact K H locs ls _ (nz_01 hz_14) hC dX0_isAsking_14
set_option maxRecDepth 100000 in
theorem c_x_isAsking {l : Launch} {sz : Nat} {D : va_G} {d : Nat → ClassId} {ad : Nat → Nat} {ba : Nat → Nat} {ta : Nat → Nat} {imgs : va_W} {room : Nat → Int32} {work : Nat → Int32} {price : Nat → Int32} {whom : Nat → Int32} {bday : Nat → Int32} {units : Nat → Int32} {worth : Nat → Int32} {due : Nat → Int32} {under : Nat → Int32} {people : Int32} {askings : Int32} {hangs : Int32} {items : Int32} {many : Nat → Int32} {slip : Nat → Nat → Int32} {became : Nat → Int32} {left : Nat → Int32} {what : Nat → Int32} {which : Nat → Int32} {whose : Nat → Int32} {place : Nat → Int32} {deeds : Int32} {day : Int32} {won : Int32} {lost : Int32} {kept : Int32} {text : Nat → Int32} {typed : Int32} {rest : Nat → Int32} {bestSet : Int32} {tenths : Nat → Int32} {sortWorth : Nat → Int32} {sortDays : Nat → Int32} {row : Nat → Int32} {trace : Int64} {x1 : Int32} {r : Int32} (hf : x_isAsking askings x1 = some r) : MI l yX0_isAsking (ws_ yX0_isAsking cX0_isAsking 2 (some .boolean)) { frames := 1, cells := 0, slots := 0, locals := 22 } D gcl (gty d) NX (xw d ad ba ta imgs room work price whom bday units worth due under people askings hangs items many slip became left what which whose place deeds day won lost kept text typed rest bestSet tenths sortWorth sortDays row trace) (xw d ad ba ta imgs room work price whom bday units worth due under people askings hangs items many slip became left what which whose place deeds day won lost kept text typed rest bestSet tenths sortWorth sortDays row trace) sz [.ref (ad 0), .int x1] r :=
  MI.of (by decide) [.ref (ad 0), .int x1] [(0, .ref (ad 0)), (1, .int x1)] (Nat.le_of_ble_eq_true rfl) rfl (fun p e s m below meth c ls Q hx hb hml hown hts hN hA hC hl K => w_x_isAsking hx hb hml hown hts hN hA (Nat.le_refl _) (Nat.le_refl _) (Nat.le_refl _) (Nat.le_refl _) hf hC hl K)

def x_type_L32 (x1 : Int64) : Nat → Int32 → (Nat → Int32) → Int32 → Option ((Nat → Int32) × Int32)
  | 0, _, _, _ => none
  | n_32 + 1, x4_32, text_32, typed_32 =>
  if x4_32 < 0 then (some (text_32, typed_32)) else
  ck typed_32 300 <| x_type_L32 x1 n_32 (x4_32 + (-1)) (upd text_32 typed_32.toNatClampNeg (vp_nar .byte (((x1 >>> ((8 * x4_32).toInt64 &&& 63)).toInt32).toInt8.toInt32))) (typed_32 + 1)
theorem x_type_L32_s (x1 : Int64) (n_32 : Nat) (x4_32 : Int32) (text_32 : Nat → Int32) (typed_32 : Int32) : x_type_L32 x1 (n_32 + 1) x4_32 text_32 typed_32 = (
  if x4_32 < 0 then (some (text_32, typed_32)) else
  ck typed_32 300 <| x_type_L32 x1 n_32 (x4_32 + (-1)) (upd text_32 typed_32.toNatClampNeg (vp_nar .byte (((x1 >>> ((8 * x4_32).toInt64 &&& 63)).toInt32).toInt8.toInt32))) (typed_32 + 1)) := rfl
def x_type (text : Nat → Int32) (typed : Int32) (x1 : Int64) (x3 : Int32) : Option (Int32 × (Nat → Int32) × Int32) :=
  bnd (x_in x3 1 8) fun r_4 =>
  if r_4 = 0 then (some ((-1), text, typed)) else
  if (typed + x3) ≤ 300 then (bnd2 (x_type_L32 x1 g_fuel (x3 - 1) text typed) (fun text_71 typed_71 =>
  some (typed_71, text_71, typed_71))) else
  some ((-3), text, typed)
set_option maxHeartbeats 4000000 in
set_option maxRecDepth 100000 in
theorem w_x_type {p : Program} {l : Launch} {e : Env} {R : Room} {s : State} {m : MethodId} {args : Array Value} {below : List Frame} {meth : Method} {c : Code} {H : Heap} {locs : List Loc} {cells slots : Nat} {Q : State → Prop} {A : Nat → Prop} {ls : Array Slot} {D : va_G} {d : Nat → ClassId} {ad : Nat → Nat} {ba : Nat → Nat} {ta : Nat → Nat} {imgs : va_W} {room : Nat → Int32} {work : Nat → Int32} {price : Nat → Int32} {whom : Nat → Int32} {bday : Nat → Int32} {units : Nat → Int32} {worth : Nat → Int32} {due : Nat → Int32} {under : Nat → Int32} {people : Int32} {askings : Int32} {hangs : Int32} {items : Int32} {many : Nat → Int32} {slip : Nat → Nat → Int32} {became : Nat → Int32} {left : Nat → Int32} {what : Nat → Int32} {which : Nat → Int32} {whose : Nat → Int32} {place : Nat → Int32} {deeds : Int32} {day : Int32} {won : Int32} {lost : Int32} {kept : Int32} {text : Nat → Int32} {typed : Int32} {rest : Nat → Int32} {bestSet : Int32} {tenths : Nat → Int32} {sortWorth : Nat → Int32} {sortDays : Nat → Int32} {row : Nat → Int32} {trace : Int64} {x1 : Int64} {x3 : Int32} {r : Int32} {text_r : Nat → Int32} {typed_r : Int32} (hx : p.tables.exec = Jvm.exec) (hb : c.code = cX0_type) (hml : c.maxLocals = 5) (hown : s.vm.findClass RX0 = some m.cls) (hts : ∀ w ∈ lw_all, w.before args s = true) (hN : NX s) (hA : ∀ q, s.heap.size ≤ q → A q) (hRf : 1 ≤ R.frames) (hRl : 22 ≤ R.locals) (hRc : cells ≤ R.cells) (hRs : slots ≤ R.slots) (hf : x_type text typed x1 x3 = some (r, text_r, typed_r)) (hC : HC D gcl (gty d) A (xw d ad ba ta imgs room work price whom bday units worth due under people askings hangs items many slip became left what which whose place deeds day won lost kept text typed rest bestSet tenths sortWorth sortDays row trace) s H locs) (hl : lv_has ls 5 [(0, .ref (ad 0)), (1, .long x1), (3, .int x3)]) (K : ∀ (H : Heap) (locs : List Loc) (ls : Array Slot) (pc : Nat), narrow .int (.int r) = .int r → HC D gcl (gty d) A (xw d ad ba ta imgs room work price whom bday units worth due under people askings hangs items many slip became left what which whose place deeds day won lost kept text_r typed_r rest bestSet tenths sortWorth sortDays row trace) s H locs → decode cX0_type pc = .ok (.ireturn, 1) → W p l e R s m args below meth c H locs cells slots Q (F0 m pc ls [.int r])) : W p l e R s m args below meth c H locs cells slots Q (F0 m 0 ls []) := by
  unfold x_type at hf
  refine lv_iload_n hx hb dX0_type_0 rfl (lv_at hl 2 rfl) ?_
  refine lv_iconst (v := 1) hx hb dX0_type_1 (by decide) ?_
  refine lv_bipush (v := 8) hx hb dX0_type_2 (by decide) ?_
  obtain ⟨r_4, hcall, hf⟩ := bnd_some hf
  refine hc_i (va_runS (As := [.int x3, .int 1, .int 8]) (rest := []) ⟨hx, hb, hml, hown, hts⟩ (c_x_in hcall) (va_cwS 3 hts (lw_S q358 q359 q48 q360) rfl rfl rfl (by decide +kernel) ⟨(Nat.le_trans (Nat.le_of_ble_eq_true rfl) hRf), (Nat.le_trans (Nat.le_of_ble_eq_true rfl) hRl)⟩) (pre_S (fun _ _ _ _ h => h) (fun _ _ _ => trivial) hC) rfl rfl hl.1 rfl (lv_room (Nat.le_of_ble_eq_true rfl)) dX0_type_4 ⟨hRc, hRs⟩) hA hC (fun H locs hC => ?_)
  refine lv_if_ne (tgt := 12) hx hb dX0_type_7 (by decide) (fun c_7 => ?_) (fun c_7 => ?_)
  · have hf := if_f hf c_7
    refine lv_aload_n hx hb dX0_type_12 rfl (lv_at hl 0 rfl) ?_
    refine va_get (ci := 0) (v := .int typed) (C := RX0) (T := TX0) (N := 13) hx hb hts in_X0 hown hC.1 hC.2.1 (26) rfl rfl 4 (by decide) (hts _ q312) (fun _ h9 => h9) rfl dX0_type_13 ?_
    refine lv_iload_n hx hb dX0_type_16 rfl (lv_at hl 2 rfl) ?_
    refine lv_iadd hx hb dX0_type_17 ?_
    refine lv_sipush (v := 300) hx hb dX0_type_18 (by decide) ?_
    refine lv_icmp_le (tgt := 27) hx hb dX0_type_21 (by decide) (fun c_21 => ?_) (fun c_21 => ?_)
    · have hf := if_t hf c_21
      refine lv_iload_n hx hb dX0_type_27 rfl (lv_at hl 2 rfl) ?_
      refine lv_iconst (v := 1) hx hb dX0_type_28 (by decide) ?_
      refine lv_isub hx hb dX0_type_29 ?_
      refine lv_istore (lv' := [(4, .int (x3 - 1)), (0, .ref (ad 0)), (1, .long x1), (3, .int x3)]) hx hb dX0_type_30 hl (by decide) rfl (fun ls hl => ?_)
      obtain ⟨text_71, typed_71, hL, hf⟩ := bnd2_some hf
      have X_32 : ∀ (H : Heap) (locs : List Loc) (ls : Array Slot), HC D gcl (gty d) A (xw d ad ba ta imgs room work price whom bday units worth due under people askings hangs items many slip became left what which whose place deeds day won lost kept text_71 typed_71 rest bestSet tenths sortWorth sortDays row trace) s H locs → lv_has ls 5 [(0, .ref (ad 0))] → W p l e R s m args below meth c H locs cells slots Q (F0 m 71 ls []) := by
        intro H locs ls hC hl
        refine lv_aload_n hx hb dX0_type_71 rfl (lv_at hl 0 rfl) ?_
        refine va_get (ci := 0) (v := .int typed_71) (C := RX0) (T := TX0) (N := 13) hx hb hts in_X0 hown hC.1 hC.2.1 (26) rfl rfl 4 (by decide) (hts _ q312) (fun _ h9 => h9) rfl dX0_type_72 ?_
        obtain ⟨e_1, e_2, e_3⟩ := so_3 (Option.some.inj hf)
        subst e_1
        subst e_2
        subst e_3
        exact K H locs ls _ rfl hC dX0_type_75
      have L_32 : ∀ (n_32 : Nat) (x4_32 : Int32) (text_32 : Nat → Int32) (typed_32 : Int32), x_type_L32 x1 n_32 x4_32 text_32 typed_32 = some (text_71, typed_71) → ∀ (H : Heap) (locs : List Loc) (ls : Array Slot), HC D gcl (gty d) A (xw d ad ba ta imgs room work price whom bday units worth due under people askings hangs items many slip became left what which whose place deeds day won lost kept text_32 typed_32 rest bestSet tenths sortWorth sortDays row trace) s H locs → lv_has ls 5 [(0, .ref (ad 0)), (1, .long x1), (4, .int x4_32)] → W p l e R s m args below meth c H locs cells slots Q (F0 m 32 ls []) := by
        intro n_32
        induction n_32 with
        | zero => intro _ _ _ hf; cases hf
        | succ n_32 ih =>
          intro x4_32 text_32 typed_32 hf H locs ls hC hl
          rw [x_type_L32_s] at hf
          refine lv_iload hx hb dX0_type_32 (lv_at hl 2 rfl) ?_
          refine lv_if_lt (tgt := 71) hx hb dX0_type_34 (by decide) (fun c_34 => ?_) (fun c_34 => ?_)
          · have hf := if_t hf c_34
            obtain ⟨e_1, e_2⟩ := so_2 (Option.some.inj hf)
            subst e_1
            subst e_2
            exact X_32 H locs ls hC (lv_sub hl [0] rfl)
          · have hf := if_f hf c_34
            refine lv_aload_n hx hb dX0_type_37 rfl (lv_at hl 0 rfl) ?_
            refine va_get (ci := 0) (v := .ref (ad 1)) (C := RX0) (T := TX0) (N := 13) hx hb hts in_X0 hown hC.1 hC.2.1 (26) rfl rfl 3 (by decide) (hts _ q310) (fun _ h9 => h9) rfl dX0_type_38 ?_
            refine lv_aload_n hx hb dX0_type_41 rfl (lv_at hl 0 rfl) ?_
            refine va_get (ci := 0) (v := .int typed_32) (C := RX0) (T := TX0) (N := 13) hx hb hts in_X0 hown hC.1 hC.2.1 (26) rfl rfl 4 (by decide) (hts _ q312) (fun _ h9 => h9) rfl dX0_type_42 ?_
            refine lv_lload_n hx hb dX0_type_45 rfl (lv_at hl 1 rfl) ?_
            refine lv_bipush (v := 8) hx hb dX0_type_46 (by decide) ?_
            refine lv_iload hx hb dX0_type_48 (lv_at hl 2 rfl) ?_
            refine lv_imul hx hb dX0_type_50 ?_
            refine lv_lshr (v := x1 >>> ((8 * x4_32).toInt64 &&& 63)) hx hb dX0_type_51 rfl ?_
            refine lv_l2i (v := (x1 >>> ((8 * x4_32).toInt64 &&& 63)).toInt32) hx hb dX0_type_52 rfl ?_
            refine lv_i2b (v := ((x1 >>> ((8 * x4_32).toInt64 &&& 63)).toInt32).toInt8.toInt32) hx hb dX0_type_53 rfl ?_
            obtain ⟨hi_54, hf⟩ := ck_some hf
            refine va_bast hx hb hC.1 hC.2.1 hC.2.2.1 hC.2.2.2 (27) 1 rfl rfl hi_54 dX0_type_54 (fun H locs hP hD hS => ?_)
            have hC : HC D gcl (gty d) A (xw d ad ba ta imgs room work price whom bday units worth due under people askings hangs items many slip became left what which whose place deeds day won lost kept (upd text_32 typed_32.toNatClampNeg (vp_nar .byte (((x1 >>> ((8 * x4_32).toInt64 &&& 63)).toInt32).toInt8.toInt32))) typed_32 rest bestSet tenths sortWorth sortDays row trace) s H locs := ⟨hC.1, hP, hD, hS⟩
            refine lv_aload_n hx hb dX0_type_55 rfl (lv_at hl 0 rfl) ?_
            refine lv_dup hx hb dX0_type_56 rfl ?_
            refine va_get (ci := 0) (v := .int typed_32) (C := RX0) (T := TX0) (N := 13) hx hb hts in_X0 hown hC.1 hC.2.1 (26) rfl rfl 4 (by decide) (hts _ q312) (fun _ h9 => h9) rfl dX0_type_57 ?_
            refine lv_iconst (v := 1) hx hb dX0_type_60 (by decide) ?_
            refine lv_iadd hx hb dX0_type_61 ?_
            refine va_put (ci := 0) (v := .int (typed_32 + 1)) (ty := .int) (C := RX0) (T := TX0) (N := 13) hx hb hts in_X0 tyX0 tyX0_ok nmX0 hown hC.1 hC.2.1 hC.2.2.1 hC.2.2.2 (26) rfl rfl 4 (by decide) (hts _ q312) (fun _ h9 => h9) rfl (tyX0_ok 4 (by decide)) rfl rfl (Nat.le_of_ble_eq_true rfl) dX0_type_62 (fun H locs hP hD hS => ?_)
            have hC : HC D gcl (gty d) A (xw d ad ba ta imgs room work price whom bday units worth due under people askings hangs items many slip became left what which whose place deeds day won lost kept (upd text_32 typed_32.toNatClampNeg (vp_nar .byte (((x1 >>> ((8 * x4_32).toInt64 &&& 63)).toInt32).toInt8.toInt32))) (typed_32 + 1) rest bestSet tenths sortWorth sortDays row trace) s H locs := ⟨hC.1, hP, hD, hS⟩
            refine lv_iinc (v := x4_32 + (-1)) (lv' := [(4, .int (x4_32 + (-1))), (0, .ref (ad 0)), (1, .long x1)]) hx hb dX0_type_65 hl (k := 2) rfl rfl (by decide) rfl (fun ls hl => ?_)
            refine lv_goto (tgt := 32) hx hb dX0_type_68 (by decide) ?_
            exact ih _ _ _ hf H locs ls hC (lv_sub hl [1, 2, 0] rfl)
      exact L_32 _ _ _ _ hL H locs ls hC (lv_sub hl [1, 2, 0] rfl)
    · have hf := if_f hf c_21
      refine lv_bipush (v := (-3)) hx hb dX0_type_24 (by decide) ?_
      obtain ⟨e_1, e_2, e_3⟩ := so_3 (Option.some.inj hf)
      subst e_1
      subst e_2
      subst e_3
      exact K H locs ls _ rfl hC dX0_type_26
  · have hf := if_t hf c_7
    refine lv_iconst (v := (-1)) hx hb dX0_type_10 (by decide) ?_
    obtain ⟨e_1, e_2, e_3⟩ := so_3 (Option.some.inj hf)
    subst e_1
    subst e_2
    subst e_3
    exact K H locs ls _ rfl hC dX0_type_11
set_option maxRecDepth 100000 in
theorem c_x_type {l : Launch} {sz : Nat} {D : va_G} {d : Nat → ClassId} {ad : Nat → Nat} {ba : Nat → Nat} {ta : Nat → Nat} {imgs : va_W} {room : Nat → Int32} {work : Nat → Int32} {price : Nat → Int32} {whom : Nat → Int32} {bday : Nat → Int32} {units : Nat → Int32} {worth : Nat → Int32} {due : Nat → Int32} {under : Nat → Int32} {people : Int32} {askings : Int32} {hangs : Int32} {items : Int32} {many : Nat → Int32} {slip : Nat → Nat → Int32} {became : Nat → Int32} {left : Nat → Int32} {what : Nat → Int32} {which : Nat → Int32} {whose : Nat → Int32} {place : Nat → Int32} {deeds : Int32} {day : Int32} {won : Int32} {lost : Int32} {kept : Int32} {text : Nat → Int32} {typed : Int32} {rest : Nat → Int32} {bestSet : Int32} {tenths : Nat → Int32} {sortWorth : Nat → Int32} {sortDays : Nat → Int32} {row : Nat → Int32} {trace : Int64} {x1 : Int64} {x3 : Int32} {r : Int32} {text_r : Nat → Int32} {typed_r : Int32} (hf : x_type text typed x1 x3 = some (r, text_r, typed_r)) : MI l yX0_type (ws_ yX0_type cX0_type 5 (some .int)) { frames := 1, cells := 0, slots := 0, locals := 22 } D gcl (gty d) NX (xw d ad ba ta imgs room work price whom bday units worth due under people askings hangs items many slip became left what which whose place deeds day won lost kept text typed rest bestSet tenths sortWorth sortDays row trace) (xw d ad ba ta imgs room work price whom bday units worth due under people askings hangs items many slip became left what which whose place deeds day won lost kept text_r typed_r rest bestSet tenths sortWorth sortDays row trace) sz [.ref (ad 0), .long x1, .int x3] r :=
  MI.of (by decide) [.ref (ad 0), .long x1, .int x3] [(0, .ref (ad 0)), (1, .long x1), (3, .int x3)] (Nat.le_of_ble_eq_true rfl) rfl (fun p e s m below meth c ls Q hx hb hml hown hts hN hA hC hl K => w_x_type hx hb hml hown hts hN hA (Nat.le_refl _) (Nat.le_refl _) (Nat.le_refl _) (Nat.le_refl _) hf hC hl K)

def x_clear (typed : Int32) : Option (Int32 × Int32) :=
  some (typed, 0)
set_option maxHeartbeats 4000000 in
set_option maxRecDepth 100000 in
theorem w_x_clear {p : Program} {l : Launch} {e : Env} {R : Room} {s : State} {m : MethodId} {args : Array Value} {below : List Frame} {meth : Method} {c : Code} {H : Heap} {locs : List Loc} {cells slots : Nat} {Q : State → Prop} {A : Nat → Prop} {ls : Array Slot} {D : va_G} {d : Nat → ClassId} {ad : Nat → Nat} {ba : Nat → Nat} {ta : Nat → Nat} {imgs : va_W} {room : Nat → Int32} {work : Nat → Int32} {price : Nat → Int32} {whom : Nat → Int32} {bday : Nat → Int32} {units : Nat → Int32} {worth : Nat → Int32} {due : Nat → Int32} {under : Nat → Int32} {people : Int32} {askings : Int32} {hangs : Int32} {items : Int32} {many : Nat → Int32} {slip : Nat → Nat → Int32} {became : Nat → Int32} {left : Nat → Int32} {what : Nat → Int32} {which : Nat → Int32} {whose : Nat → Int32} {place : Nat → Int32} {deeds : Int32} {day : Int32} {won : Int32} {lost : Int32} {kept : Int32} {text : Nat → Int32} {typed : Int32} {rest : Nat → Int32} {bestSet : Int32} {tenths : Nat → Int32} {sortWorth : Nat → Int32} {sortDays : Nat → Int32} {row : Nat → Int32} {trace : Int64} {r : Int32} {typed_r : Int32} (hx : p.tables.exec = Jvm.exec) (hb : c.code = cX0_clear) (hml : c.maxLocals = 2) (hown : s.vm.findClass RX0 = some m.cls) (hts : ∀ w ∈ lw_all, w.before args s = true) (hN : NX s) (hA : ∀ q, s.heap.size ≤ q → A q) (hRf : 0 ≤ R.frames) (hRl : 0 ≤ R.locals) (hRc : cells ≤ R.cells) (hRs : slots ≤ R.slots) (hf : x_clear typed = some (r, typed_r)) (hC : HC D gcl (gty d) A (xw d ad ba ta imgs room work price whom bday units worth due under people askings hangs items many slip became left what which whose place deeds day won lost kept text typed rest bestSet tenths sortWorth sortDays row trace) s H locs) (hl : lv_has ls 2 [(0, .ref (ad 0))]) (K : ∀ (H : Heap) (locs : List Loc) (ls : Array Slot) (pc : Nat), narrow .int (.int r) = .int r → HC D gcl (gty d) A (xw d ad ba ta imgs room work price whom bday units worth due under people askings hangs items many slip became left what which whose place deeds day won lost kept text typed_r rest bestSet tenths sortWorth sortDays row trace) s H locs → decode cX0_clear pc = .ok (.ireturn, 1) → W p l e R s m args below meth c H locs cells slots Q (F0 m pc ls [.int r])) : W p l e R s m args below meth c H locs cells slots Q (F0 m 0 ls []) := by
  unfold x_clear at hf
  refine lv_aload_n hx hb dX0_clear_0 rfl (lv_at hl 0 rfl) ?_
  refine va_get (ci := 0) (v := .int typed) (C := RX0) (T := TX0) (N := 13) hx hb hts in_X0 hown hC.1 hC.2.1 (26) rfl rfl 4 (by decide) (hts _ q312) (fun _ h9 => h9) rfl dX0_clear_1 ?_
  refine lv_istore_n (lv' := [(1, .int typed), (0, .ref (ad 0))]) hx hb dX0_clear_4 rfl hl (by decide) rfl (fun ls hl => ?_)
  refine lv_aload_n hx hb dX0_clear_5 rfl (lv_at hl 1 rfl) ?_
  refine lv_iconst (v := 0) hx hb dX0_clear_6 (by decide) ?_
  refine va_put (ci := 0) (v := .int 0) (ty := .int) (C := RX0) (T := TX0) (N := 13) hx hb hts in_X0 tyX0 tyX0_ok nmX0 hown hC.1 hC.2.1 hC.2.2.1 hC.2.2.2 (26) rfl rfl 4 (by decide) (hts _ q312) (fun _ h9 => h9) rfl (tyX0_ok 4 (by decide)) rfl rfl (Nat.le_of_ble_eq_true rfl) dX0_clear_7 (fun H locs hP hD hS => ?_)
  have hC : HC D gcl (gty d) A (xw d ad ba ta imgs room work price whom bday units worth due under people askings hangs items many slip became left what which whose place deeds day won lost kept text 0 rest bestSet tenths sortWorth sortDays row trace) s H locs := ⟨hC.1, hP, hD, hS⟩
  refine lv_iload_n hx hb dX0_clear_10 rfl (lv_at hl 0 rfl) ?_
  obtain ⟨e_1, e_2⟩ := so_2 (Option.some.inj hf)
  subst e_1
  subst e_2
  exact K H locs ls _ rfl hC dX0_clear_11
set_option maxRecDepth 100000 in
theorem c_x_clear {l : Launch} {sz : Nat} {D : va_G} {d : Nat → ClassId} {ad : Nat → Nat} {ba : Nat → Nat} {ta : Nat → Nat} {imgs : va_W} {room : Nat → Int32} {work : Nat → Int32} {price : Nat → Int32} {whom : Nat → Int32} {bday : Nat → Int32} {units : Nat → Int32} {worth : Nat → Int32} {due : Nat → Int32} {under : Nat → Int32} {people : Int32} {askings : Int32} {hangs : Int32} {items : Int32} {many : Nat → Int32} {slip : Nat → Nat → Int32} {became : Nat → Int32} {left : Nat → Int32} {what : Nat → Int32} {which : Nat → Int32} {whose : Nat → Int32} {place : Nat → Int32} {deeds : Int32} {day : Int32} {won : Int32} {lost : Int32} {kept : Int32} {text : Nat → Int32} {typed : Int32} {rest : Nat → Int32} {bestSet : Int32} {tenths : Nat → Int32} {sortWorth : Nat → Int32} {sortDays : Nat → Int32} {row : Nat → Int32} {trace : Int64} {r : Int32} {typed_r : Int32} (hf : x_clear typed = some (r, typed_r)) : MI l yX0_clear (ws_ yX0_clear cX0_clear 2 (some .int)) { frames := 0, cells := 0, slots := 0, locals := 0 } D gcl (gty d) NX (xw d ad ba ta imgs room work price whom bday units worth due under people askings hangs items many slip became left what which whose place deeds day won lost kept text typed rest bestSet tenths sortWorth sortDays row trace) (xw d ad ba ta imgs room work price whom bday units worth due under people askings hangs items many slip became left what which whose place deeds day won lost kept text typed_r rest bestSet tenths sortWorth sortDays row trace) sz [.ref (ad 0)] r :=
  MI.of (by decide) [.ref (ad 0)] [(0, .ref (ad 0))] (Nat.le_of_ble_eq_true rfl) rfl (fun p e s m below meth c ls Q hx hb hml hown hts hN hA hC hl K => w_x_clear hx hb hml hown hts hN hA (Nat.le_refl _) (Nat.le_refl _) (Nat.le_refl _) (Nat.le_refl _) hf hC hl K)

def x_person (room : Nat → Int32) (work : Nat → Int32) (price : Nat → Int32) (people : Int32) (many : Nat → Int32) (x1 : Int32) (x2 : Int32) : Option (Int32) :=
  bnd (x_isPerson people x1) fun r_2 =>
  if r_2 = 0 then (some (-1)) else
  bnd (x_in x2 0 3) fun r_11 =>
  if r_11 = 0 then (some (-1)) else
  if x2 = 0 then (ck x1 4 <| some (room x1.toNatClampNeg)) else
  if x2 = 1 then (ck x1 4 <| some (work x1.toNatClampNeg)) else
  if x2 = 2 then (ck x1 4 <| some (price x1.toNatClampNeg)) else
  ck x1 4 <| some (many x1.toNatClampNeg)
set_option maxHeartbeats 4000000 in
set_option maxRecDepth 100000 in
theorem w_x_person {p : Program} {l : Launch} {e : Env} {R : Room} {s : State} {m : MethodId} {args : Array Value} {below : List Frame} {meth : Method} {c : Code} {H : Heap} {locs : List Loc} {cells slots : Nat} {Q : State → Prop} {A : Nat → Prop} {ls : Array Slot} {D : va_G} {d : Nat → ClassId} {ad : Nat → Nat} {ba : Nat → Nat} {ta : Nat → Nat} {imgs : va_W} {room : Nat → Int32} {work : Nat → Int32} {price : Nat → Int32} {whom : Nat → Int32} {bday : Nat → Int32} {units : Nat → Int32} {worth : Nat → Int32} {due : Nat → Int32} {under : Nat → Int32} {people : Int32} {askings : Int32} {hangs : Int32} {items : Int32} {many : Nat → Int32} {slip : Nat → Nat → Int32} {became : Nat → Int32} {left : Nat → Int32} {what : Nat → Int32} {which : Nat → Int32} {whose : Nat → Int32} {place : Nat → Int32} {deeds : Int32} {day : Int32} {won : Int32} {lost : Int32} {kept : Int32} {text : Nat → Int32} {typed : Int32} {rest : Nat → Int32} {bestSet : Int32} {tenths : Nat → Int32} {sortWorth : Nat → Int32} {sortDays : Nat → Int32} {row : Nat → Int32} {trace : Int64} {x1 : Int32} {x2 : Int32} {r : Int32} (hx : p.tables.exec = Jvm.exec) (hb : c.code = cX0_person) (hml : c.maxLocals = 3) (hown : s.vm.findClass RX0 = some m.cls) (hts : ∀ w ∈ lw_all, w.before args s = true) (hN : NX s) (hA : ∀ q, s.heap.size ≤ q → A q) (hRf : 2 ≤ R.frames) (hRl : 43 ≤ R.locals) (hRc : cells ≤ R.cells) (hRs : slots ≤ R.slots) (hf : x_person room work price people many x1 x2 = some r) (hC : HC D gcl (gty d) A (xw d ad ba ta imgs room work price whom bday units worth due under people askings hangs items many slip became left what which whose place deeds day won lost kept text typed rest bestSet tenths sortWorth sortDays row trace) s H locs) (hl : lv_has ls 3 [(0, .ref (ad 0)), (1, .int x1), (2, .int x2)]) (K : ∀ (H : Heap) (locs : List Loc) (ls : Array Slot) (pc : Nat), narrow .int (.int r) = .int r → HC D gcl (gty d) A (xw d ad ba ta imgs room work price whom bday units worth due under people askings hangs items many slip became left what which whose place deeds day won lost kept text typed rest bestSet tenths sortWorth sortDays row trace) s H locs → decode cX0_person pc = .ok (.ireturn, 1) → W p l e R s m args below meth c H locs cells slots Q (F0 m pc ls [.int r])) : W p l e R s m args below meth c H locs cells slots Q (F0 m 0 ls []) := by
  unfold x_person at hf
  refine lv_aload_n hx hb dX0_person_0 rfl (lv_at hl 0 rfl) ?_
  refine lv_iload_n hx hb dX0_person_1 rfl (lv_at hl 1 rfl) ?_
  obtain ⟨r_2, hcall, hf⟩ := bnd_some hf
  refine hc_i (va_runV (C := RX0) (As := [.int x1]) (rest := []) ⟨hx, hb, hml, hown, hts⟩ (c_x_isPerson hcall) (cwV 1 hts (lw_V q555 q557 qs8 q48 q558) rfl rfl rfl (by decide +kernel) ⟨(Nat.le_trans (Nat.le_of_ble_eq_true rfl) hRf), (Nat.le_trans (Nat.le_of_ble_eq_true rfl) hRl)⟩) (pre_V (q0 := 26) (ci := 0) NX.calling (fun U _ hW => NX.warm hW hN) hC rfl rfl) rfl rfl hl.1 rfl (lv_room (Nat.le_of_ble_eq_true rfl)) dX0_person_2 ⟨hRc, hRs⟩) hA hC (fun H locs hC => ?_)
  refine lv_if_eq (tgt := 17) hx hb dX0_person_5 (by decide) (fun c_5 => ?_) (fun c_5 => ?_)
  · have hf := if_t hf c_5
    refine lv_iconst (v := (-1)) hx hb dX0_person_17 (by decide) ?_
    have e_1 := (Option.some.inj hf)
    subst e_1
    exact K H locs ls _ rfl hC dX0_person_18
  · have hf := if_f hf c_5
    refine lv_iload_n hx hb dX0_person_8 rfl (lv_at hl 2 rfl) ?_
    refine lv_iconst (v := 0) hx hb dX0_person_9 (by decide) ?_
    refine lv_iconst (v := 3) hx hb dX0_person_10 (by decide) ?_
    obtain ⟨r_11, hcall, hf⟩ := bnd_some hf
    refine hc_i (va_runS (As := [.int x2, .int 0, .int 3]) (rest := []) ⟨hx, hb, hml, hown, hts⟩ (c_x_in hcall) (va_cwS 3 hts (lw_S q358 q359 q48 q360) rfl rfl rfl (by decide +kernel) ⟨(Nat.le_trans (Nat.le_of_ble_eq_true rfl) hRf), (Nat.le_trans (Nat.le_of_ble_eq_true rfl) hRl)⟩) (pre_S (fun _ _ _ _ h => h) (fun _ _ _ => trivial) hC) rfl rfl hl.1 rfl (lv_room (Nat.le_of_ble_eq_true rfl)) dX0_person_11 ⟨hRc, hRs⟩) hA hC (fun H locs hC => ?_)
    refine lv_if_ne (tgt := 19) hx hb dX0_person_14 (by decide) (fun c_14 => ?_) (fun c_14 => ?_)
    · have hf := if_f hf c_14
      refine lv_iload_n hx hb dX0_person_19 rfl (lv_at hl 2 rfl) ?_
      refine lv_if_ne (tgt := 35) hx hb dX0_person_20 (by decide) (fun c_20 => ?_) (fun c_20 => ?_)
      · have hf := if_f hf c_20
        refine lv_iload_n hx hb dX0_person_35 rfl (lv_at hl 2 rfl) ?_
        refine lv_iconst (v := 1) hx hb dX0_person_36 (by decide) ?_
        refine lv_icmp_ne (tgt := 52) hx hb dX0_person_37 (by decide) (fun c_37 => ?_) (fun c_37 => ?_)
        · have hf := if_f hf c_37
          refine lv_iload_n hx hb dX0_person_52 rfl (lv_at hl 2 rfl) ?_
          refine lv_iconst (v := 2) hx hb dX0_person_53 (by decide) ?_
          refine lv_icmp_ne (tgt := 69) hx hb dX0_person_54 (by decide) (fun c_54 => ?_) (fun c_54 => ?_)
          · have hf := if_f hf c_54
            refine lv_aload_n hx hb dX0_person_69 rfl (lv_at hl 0 rfl) ?_
            refine va_get (ci := 0) (v := .ref (ta 0)) (C := RX0) (T := TX0) (N := 13) hx hb hts in_X0 hown hC.1 hC.2.1 (26) rfl rfl 1 (by decide) (hts _ q305) (fun _ h9 => h9) rfl dX0_person_70 ?_
            refine va_getN (ci := 2) (v := .ref (ta 1)) (C := RX2) (T := TX2) (N := 12) (host := "SleeveSlips") hx hb hts in_X2 hown hC.1 hC.2.1 (10) rfl rfl 0 (by decide) (va_Nw.use rfl (hN.1 33)) (fun _ h9 => h9) rfl dX0_person_73 ?_
            refine lv_iload_n hx hb dX0_person_76 rfl (lv_at hl 1 rfl) ?_
            obtain ⟨hi_77, hf⟩ := ck_some hf
            refine va_aldq hx hb hC.1 hC.2.1 11 4 rfl rfl hi_77 dX0_person_77 ?_
            refine va_getN (ci := 3) (v := .int (many x1.toNatClampNeg)) (C := RX3) (T := TX3) (N := 2) (host := "SleeveSlips") hx hb hts in_X3 hown hC.1 hC.2.1 (12 + x1.toNatClampNeg) (xw_sl (vp_lt hi_77)) rfl 1 (by decide) (va_Nw.use rfl (hN.1 31)) (fun _ h9 => h9) rfl dX0_person_78 ?_
            have e_1 := (Option.some.inj hf)
            subst e_1
            exact K H locs ls _ rfl hC dX0_person_81
          · have hf := if_t hf c_54
            refine lv_aload_n hx hb dX0_person_57 rfl (lv_at hl 0 rfl) ?_
            refine va_get (ci := 0) (v := .ref (ba 0)) (C := RX0) (T := TX0) (N := 13) hx hb hts in_X0 hown hC.1 hC.2.1 (26) rfl rfl 0 (by decide) (hts _ q302) (fun _ h9 => h9) rfl dX0_person_58 ?_
            refine va_getN (ci := 1) (v := .ref (ba 3)) (C := RX1) (T := TX1) (N := 13) (host := "SleeveSlips") hx hb hts in_X1 hown hC.1 hC.2.1 (0) rfl rfl 2 (by decide) (va_Nw.use rfl (hN.1 7)) (fun _ h9 => h9) rfl dX0_person_61 ?_
            refine lv_iload_n hx hb dX0_person_64 rfl (lv_at hl 1 rfl) ?_
            obtain ⟨hi_65, hf⟩ := ck_some hf
            refine va_iald hx hb hC.1 hC.2.1 (3) 0 rfl rfl hi_65 dX0_person_65 ?_
            refine lv_goto (tgt := 81) hx hb dX0_person_66 (by decide) ?_
            have e_1 := (Option.some.inj hf)
            subst e_1
            exact K H locs ls _ rfl hC dX0_person_81
        · have hf := if_t hf c_37
          refine lv_aload_n hx hb dX0_person_40 rfl (lv_at hl 0 rfl) ?_
          refine va_get (ci := 0) (v := .ref (ba 0)) (C := RX0) (T := TX0) (N := 13) hx hb hts in_X0 hown hC.1 hC.2.1 (26) rfl rfl 0 (by decide) (hts _ q302) (fun _ h9 => h9) rfl dX0_person_41 ?_
          refine va_getN (ci := 1) (v := .ref (ba 2)) (C := RX1) (T := TX1) (N := 13) (host := "SleeveSlips") hx hb hts in_X1 hown hC.1 hC.2.1 (0) rfl rfl 1 (by decide) (va_Nw.use rfl (hN.1 5)) (fun _ h9 => h9) rfl dX0_person_44 ?_
          refine lv_iload_n hx hb dX0_person_47 rfl (lv_at hl 1 rfl) ?_
          obtain ⟨hi_48, hf⟩ := ck_some hf
          refine va_iald hx hb hC.1 hC.2.1 (2) 0 rfl rfl hi_48 dX0_person_48 ?_
          refine lv_goto (tgt := 81) hx hb dX0_person_49 (by decide) ?_
          have e_1 := (Option.some.inj hf)
          subst e_1
          exact K H locs ls _ rfl hC dX0_person_81
      · have hf := if_t hf c_20
        refine lv_aload_n hx hb dX0_person_23 rfl (lv_at hl 0 rfl) ?_
        refine va_get (ci := 0) (v := .ref (ba 0)) (C := RX0) (T := TX0) (N := 13) hx hb hts in_X0 hown hC.1 hC.2.1 (26) rfl rfl 0 (by decide) (hts _ q302) (fun _ h9 => h9) rfl dX0_person_24 ?_
        refine va_getN (ci := 1) (v := .ref (ba 1)) (C := RX1) (T := TX1) (N := 13) (host := "SleeveSlips") hx hb hts in_X1 hown hC.1 hC.2.1 (0) rfl rfl 0 (by decide) (va_Nw.use rfl (hN.1 2)) (fun _ h9 => h9) rfl dX0_person_27 ?_
        refine lv_iload_n hx hb dX0_person_30 rfl (lv_at hl 1 rfl) ?_
        obtain ⟨hi_31, hf⟩ := ck_some hf
        refine va_iald hx hb hC.1 hC.2.1 (1) 0 rfl rfl hi_31 dX0_person_31 ?_
        refine lv_goto (tgt := 81) hx hb dX0_person_32 (by decide) ?_
        have e_1 := (Option.some.inj hf)
        subst e_1
        exact K H locs ls _ rfl hC dX0_person_81
    · have hf := if_t hf c_14
      refine lv_iconst (v := (-1)) hx hb dX0_person_17 (by decide) ?_
      have e_1 := (Option.some.inj hf)
      subst e_1
      exact K H locs ls _ rfl hC dX0_person_18
set_option maxRecDepth 100000 in
theorem c_x_person {l : Launch} {sz : Nat} {D : va_G} {d : Nat → ClassId} {ad : Nat → Nat} {ba : Nat → Nat} {ta : Nat → Nat} {imgs : va_W} {room : Nat → Int32} {work : Nat → Int32} {price : Nat → Int32} {whom : Nat → Int32} {bday : Nat → Int32} {units : Nat → Int32} {worth : Nat → Int32} {due : Nat → Int32} {under : Nat → Int32} {people : Int32} {askings : Int32} {hangs : Int32} {items : Int32} {many : Nat → Int32} {slip : Nat → Nat → Int32} {became : Nat → Int32} {left : Nat → Int32} {what : Nat → Int32} {which : Nat → Int32} {whose : Nat → Int32} {place : Nat → Int32} {deeds : Int32} {day : Int32} {won : Int32} {lost : Int32} {kept : Int32} {text : Nat → Int32} {typed : Int32} {rest : Nat → Int32} {bestSet : Int32} {tenths : Nat → Int32} {sortWorth : Nat → Int32} {sortDays : Nat → Int32} {row : Nat → Int32} {trace : Int64} {x1 : Int32} {x2 : Int32} {r : Int32} (hf : x_person room work price people many x1 x2 = some r) : MI l yX0_person (ws_ yX0_person cX0_person 3 (some .int)) { frames := 2, cells := 0, slots := 0, locals := 43 } D gcl (gty d) NX (xw d ad ba ta imgs room work price whom bday units worth due under people askings hangs items many slip became left what which whose place deeds day won lost kept text typed rest bestSet tenths sortWorth sortDays row trace) (xw d ad ba ta imgs room work price whom bday units worth due under people askings hangs items many slip became left what which whose place deeds day won lost kept text typed rest bestSet tenths sortWorth sortDays row trace) sz [.ref (ad 0), .int x1, .int x2] r :=
  MI.of (by decide) [.ref (ad 0), .int x1, .int x2] [(0, .ref (ad 0)), (1, .int x1), (2, .int x2)] (Nat.le_of_ble_eq_true rfl) rfl (fun p e s m below meth c ls Q hx hb hml hown hts hN hA hC hl K => w_x_person hx hb hml hown hts hN hA (Nat.le_refl _) (Nat.le_refl _) (Nat.le_refl _) (Nat.le_refl _) hf hC hl K)

def x_asking (whom : Nat → Int32) (bday : Nat → Int32) (units : Nat → Int32) (worth : Nat → Int32) (due : Nat → Int32) (askings : Int32) (many : Nat → Int32) (slip : Nat → Nat → Int32) (became : Nat → Int32) (left : Nat → Int32) (x1 : Int32) (x2 : Int32) : Option (Int32) :=
  bnd (x_isAsking askings x1) fun r_2 =>
  if r_2 = 0 then (some (-1)) else
  if x2 = 0 then (ck x1 8 <| some (whom x1.toNatClampNeg)) else
  if x2 = 1 then (ck x1 8 <| some (bday x1.toNatClampNeg)) else
  if x2 = 2 then (ck x1 8 <| some (units x1.toNatClampNeg)) else
  if x2 = 3 then (ck x1 8 <| some (worth x1.toNatClampNeg)) else
  if x2 = 4 then (ck x1 8 <| some (due x1.toNatClampNeg)) else
  if x2 = 5 then (ck x1 8 <| some (became x1.toNatClampNeg)) else
  if x2 = 6 then (ck x1 8 <| if (became x1.toNatClampNeg) = 1 then (ck x1 8 <| some (left x1.toNatClampNeg)) else
  some 0) else
  if x2 = 7 then (bnd (x_sleeveOf many slip x1) fun r_148 =>
  some r_148) else
  some (-1)
set_option maxHeartbeats 4000000 in
set_option maxRecDepth 100000 in
theorem w_x_asking {p : Program} {l : Launch} {e : Env} {R : Room} {s : State} {m : MethodId} {args : Array Value} {below : List Frame} {meth : Method} {c : Code} {H : Heap} {locs : List Loc} {cells slots : Nat} {Q : State → Prop} {A : Nat → Prop} {ls : Array Slot} {D : va_G} {d : Nat → ClassId} {ad : Nat → Nat} {ba : Nat → Nat} {ta : Nat → Nat} {imgs : va_W} {room : Nat → Int32} {work : Nat → Int32} {price : Nat → Int32} {whom : Nat → Int32} {bday : Nat → Int32} {units : Nat → Int32} {worth : Nat → Int32} {due : Nat → Int32} {under : Nat → Int32} {people : Int32} {askings : Int32} {hangs : Int32} {items : Int32} {many : Nat → Int32} {slip : Nat → Nat → Int32} {became : Nat → Int32} {left : Nat → Int32} {what : Nat → Int32} {which : Nat → Int32} {whose : Nat → Int32} {place : Nat → Int32} {deeds : Int32} {day : Int32} {won : Int32} {lost : Int32} {kept : Int32} {text : Nat → Int32} {typed : Int32} {rest : Nat → Int32} {bestSet : Int32} {tenths : Nat → Int32} {sortWorth : Nat → Int32} {sortDays : Nat → Int32} {row : Nat → Int32} {trace : Int64} {x1 : Int32} {x2 : Int32} {r : Int32} (hx : p.tables.exec = Jvm.exec) (hb : c.code = cX0_asking) (hml : c.maxLocals = 3) (hown : s.vm.findClass RX0 = some m.cls) (hts : ∀ w ∈ lw_all, w.before args s = true) (hN : NX s) (hA : ∀ q, s.heap.size ≤ q → A q) (hRf : 2 ≤ R.frames) (hRl : 46 ≤ R.locals) (hRc : cells ≤ R.cells) (hRs : slots ≤ R.slots) (hf : x_asking whom bday units worth due askings many slip became left x1 x2 = some r) (hC : HC D gcl (gty d) A (xw d ad ba ta imgs room work price whom bday units worth due under people askings hangs items many slip became left what which whose place deeds day won lost kept text typed rest bestSet tenths sortWorth sortDays row trace) s H locs) (hl : lv_has ls 3 [(0, .ref (ad 0)), (1, .int x1), (2, .int x2)]) (K : ∀ (H : Heap) (locs : List Loc) (ls : Array Slot) (pc : Nat), narrow .int (.int r) = .int r → HC D gcl (gty d) A (xw d ad ba ta imgs room work price whom bday units worth due under people askings hangs items many slip became left what which whose place deeds day won lost kept text typed rest bestSet tenths sortWorth sortDays row trace) s H locs → decode cX0_asking pc = .ok (.ireturn, 1) → W p l e R s m args below meth c H locs cells slots Q (F0 m pc ls [.int r])) : W p l e R s m args below meth c H locs cells slots Q (F0 m 0 ls []) := by
  unfold x_asking at hf
  refine lv_aload_n hx hb dX0_asking_0 rfl (lv_at hl 0 rfl) ?_
  refine lv_iload_n hx hb dX0_asking_1 rfl (lv_at hl 1 rfl) ?_
  obtain ⟨r_2, hcall, hf⟩ := bnd_some hf
  refine hc_i (va_runV (C := RX0) (As := [.int x1]) (rest := []) ⟨hx, hb, hml, hown, hts⟩ (c_x_isAsking hcall) (cwV 1 hts (lw_V q563 q565 qs9 q48 q566) rfl rfl rfl (by decide +kernel) ⟨(Nat.le_trans (Nat.le_of_ble_eq_true rfl) hRf), (Nat.le_trans (Nat.le_of_ble_eq_true rfl) hRl)⟩) (pre_V (q0 := 26) (ci := 0) NX.calling (fun U _ hW => NX.warm hW hN) hC rfl rfl) rfl rfl hl.1 rfl (lv_room (Nat.le_of_ble_eq_true rfl)) dX0_asking_2 ⟨hRc, hRs⟩) hA hC (fun H locs hC => ?_)
  refine lv_if_ne (tgt := 10) hx hb dX0_asking_5 (by decide) (fun c_5 => ?_) (fun c_5 => ?_)
  · have hf := if_f hf c_5
    refine lv_iload_n hx hb dX0_asking_10 rfl (lv_at hl 2 rfl) ?_
    by_cases c_11_0 : x2 = 0
    · have hf := if_t hf c_11_0
      refine lv_tableIn (tgt := 56) hx hb dX0_asking_11 (by rw [c_11_0]; decide) (by rw [c_11_0]; decide) (by rw [c_11_0]; rfl) (by decide) ?_
      refine lv_aload_n hx hb dX0_asking_56 rfl (lv_at hl 0 rfl) ?_
      refine va_get (ci := 0) (v := .ref (ba 0)) (C := RX0) (T := TX0) (N := 13) hx hb hts in_X0 hown hC.1 hC.2.1 (26) rfl rfl 0 (by decide) (hts _ q302) (fun _ h9 => h9) rfl dX0_asking_57 ?_
      refine va_getN (ci := 1) (v := .ref (ba 4)) (C := RX1) (T := TX1) (N := 13) (host := "SleeveSlips") hx hb hts in_X1 hown hC.1 hC.2.1 (0) rfl rfl 3 (by decide) (va_Nw.use rfl (hN.1 9)) (fun _ h9 => h9) rfl dX0_asking_60 ?_
      refine lv_iload_n hx hb dX0_asking_63 rfl (lv_at hl 1 rfl) ?_
      obtain ⟨hi_64, hf⟩ := ck_some hf
      refine va_iald hx hb hC.1 hC.2.1 (4) 0 rfl rfl hi_64 dX0_asking_64 ?_
      have e_1 := (Option.some.inj hf)
      subst e_1
      exact K H locs ls _ rfl hC dX0_asking_65
    · have hf := if_f hf c_11_0
      by_cases c_11_1 : x2 = 1
      · have hf := if_t hf c_11_1
        refine lv_tableIn (tgt := 66) hx hb dX0_asking_11 (by rw [c_11_1]; decide) (by rw [c_11_1]; decide) (by rw [c_11_1]; rfl) (by decide) ?_
        refine lv_aload_n hx hb dX0_asking_66 rfl (lv_at hl 0 rfl) ?_
        refine va_get (ci := 0) (v := .ref (ba 0)) (C := RX0) (T := TX0) (N := 13) hx hb hts in_X0 hown hC.1 hC.2.1 (26) rfl rfl 0 (by decide) (hts _ q302) (fun _ h9 => h9) rfl dX0_asking_67 ?_
        refine va_getN (ci := 1) (v := .ref (ba 5)) (C := RX1) (T := TX1) (N := 13) (host := "SleeveSlips") hx hb hts in_X1 hown hC.1 hC.2.1 (0) rfl rfl 4 (by decide) (va_Nw.use rfl (hN.1 11)) (fun _ h9 => h9) rfl dX0_asking_70 ?_
        refine lv_iload_n hx hb dX0_asking_73 rfl (lv_at hl 1 rfl) ?_
        obtain ⟨hi_74, hf⟩ := ck_some hf
        refine va_iald hx hb hC.1 hC.2.1 (5) 0 rfl rfl hi_74 dX0_asking_74 ?_
        have e_1 := (Option.some.inj hf)
        subst e_1
        exact K H locs ls _ rfl hC dX0_asking_75
      · have hf := if_f hf c_11_1
        by_cases c_11_2 : x2 = 2
        · have hf := if_t hf c_11_2
          refine lv_tableIn (tgt := 76) hx hb dX0_asking_11 (by rw [c_11_2]; decide) (by rw [c_11_2]; decide) (by rw [c_11_2]; rfl) (by decide) ?_
          refine lv_aload_n hx hb dX0_asking_76 rfl (lv_at hl 0 rfl) ?_
          refine va_get (ci := 0) (v := .ref (ba 0)) (C := RX0) (T := TX0) (N := 13) hx hb hts in_X0 hown hC.1 hC.2.1 (26) rfl rfl 0 (by decide) (hts _ q302) (fun _ h9 => h9) rfl dX0_asking_77 ?_
          refine va_getN (ci := 1) (v := .ref (ba 6)) (C := RX1) (T := TX1) (N := 13) (host := "SleeveSlips") hx hb hts in_X1 hown hC.1 hC.2.1 (0) rfl rfl 5 (by decide) (va_Nw.use rfl (hN.1 13)) (fun _ h9 => h9) rfl dX0_asking_80 ?_
          refine lv_iload_n hx hb dX0_asking_83 rfl (lv_at hl 1 rfl) ?_
          obtain ⟨hi_84, hf⟩ := ck_some hf
          refine va_iald hx hb hC.1 hC.2.1 (6) 0 rfl rfl hi_84 dX0_asking_84 ?_
          have e_1 := (Option.some.inj hf)
          subst e_1
          exact K H locs ls _ rfl hC dX0_asking_85
        · have hf := if_f hf c_11_2
          by_cases c_11_3 : x2 = 3
          · have hf := if_t hf c_11_3
            refine lv_tableIn (tgt := 86) hx hb dX0_asking_11 (by rw [c_11_3]; decide) (by rw [c_11_3]; decide) (by rw [c_11_3]; rfl) (by decide) ?_
            refine lv_aload_n hx hb dX0_asking_86 rfl (lv_at hl 0 rfl) ?_
            refine va_get (ci := 0) (v := .ref (ba 0)) (C := RX0) (T := TX0) (N := 13) hx hb hts in_X0 hown hC.1 hC.2.1 (26) rfl rfl 0 (by decide) (hts _ q302) (fun _ h9 => h9) rfl dX0_asking_87 ?_
            refine va_getN (ci := 1) (v := .ref (ba 7)) (C := RX1) (T := TX1) (N := 13) (host := "SleeveSlips") hx hb hts in_X1 hown hC.1 hC.2.1 (0) rfl rfl 6 (by decide) (va_Nw.use rfl (hN.1 15)) (fun _ h9 => h9) rfl dX0_asking_90 ?_
            refine lv_iload_n hx hb dX0_asking_93 rfl (lv_at hl 1 rfl) ?_
            obtain ⟨hi_94, hf⟩ := ck_some hf
            refine va_iald hx hb hC.1 hC.2.1 (7) 0 rfl rfl hi_94 dX0_asking_94 ?_
            have e_1 := (Option.some.inj hf)
            subst e_1
            exact K H locs ls _ rfl hC dX0_asking_95
          · have hf := if_f hf c_11_3
            by_cases c_11_4 : x2 = 4
            · have hf := if_t hf c_11_4
              refine lv_tableIn (tgt := 96) hx hb dX0_asking_11 (by rw [c_11_4]; decide) (by rw [c_11_4]; decide) (by rw [c_11_4]; rfl) (by decide) ?_
              refine lv_aload_n hx hb dX0_asking_96 rfl (lv_at hl 0 rfl) ?_
              refine va_get (ci := 0) (v := .ref (ba 0)) (C := RX0) (T := TX0) (N := 13) hx hb hts in_X0 hown hC.1 hC.2.1 (26) rfl rfl 0 (by decide) (hts _ q302) (fun _ h9 => h9) rfl dX0_asking_97 ?_
              refine va_getN (ci := 1) (v := .ref (ba 8)) (C := RX1) (T := TX1) (N := 13) (host := "SleeveSlips") hx hb hts in_X1 hown hC.1 hC.2.1 (0) rfl rfl 7 (by decide) (va_Nw.use rfl (hN.1 17)) (fun _ h9 => h9) rfl dX0_asking_100 ?_
              refine lv_iload_n hx hb dX0_asking_103 rfl (lv_at hl 1 rfl) ?_
              obtain ⟨hi_104, hf⟩ := ck_some hf
              refine va_iald hx hb hC.1 hC.2.1 (8) 0 rfl rfl hi_104 dX0_asking_104 ?_
              have e_1 := (Option.some.inj hf)
              subst e_1
              exact K H locs ls _ rfl hC dX0_asking_105
            · have hf := if_f hf c_11_4
              by_cases c_11_5 : x2 = 5
              · have hf := if_t hf c_11_5
                refine lv_tableIn (tgt := 106) hx hb dX0_asking_11 (by rw [c_11_5]; decide) (by rw [c_11_5]; decide) (by rw [c_11_5]; rfl) (by decide) ?_
                refine lv_aload_n hx hb dX0_asking_106 rfl (lv_at hl 0 rfl) ?_
                refine va_get (ci := 0) (v := .ref (ta 0)) (C := RX0) (T := TX0) (N := 13) hx hb hts in_X0 hown hC.1 hC.2.1 (26) rfl rfl 1 (by decide) (hts _ q305) (fun _ h9 => h9) rfl dX0_asking_107 ?_
                refine va_getN (ci := 2) (v := .ref (ta 10)) (C := RX2) (T := TX2) (N := 12) (host := "SleeveSlips") hx hb hts in_X2 hown hC.1 hC.2.1 (10) rfl rfl 1 (by decide) (va_Nw.use rfl (hN.1 34)) (fun _ h9 => h9) rfl dX0_asking_110 ?_
                refine lv_iload_n hx hb dX0_asking_113 rfl (lv_at hl 1 rfl) ?_
                obtain ⟨hi_114, hf⟩ := ck_some hf
                refine va_iald hx hb hC.1 hC.2.1 (20) 0 rfl rfl hi_114 dX0_asking_114 ?_
                have e_1 := (Option.some.inj hf)
                subst e_1
                exact K H locs ls _ rfl hC dX0_asking_115
              · have hf := if_f hf c_11_5
                by_cases c_11_6 : x2 = 6
                · have hf := if_t hf c_11_6
                  refine lv_tableIn (tgt := 116) hx hb dX0_asking_11 (by rw [c_11_6]; decide) (by rw [c_11_6]; decide) (by rw [c_11_6]; rfl) (by decide) ?_
                  refine lv_aload_n hx hb dX0_asking_116 rfl (lv_at hl 0 rfl) ?_
                  refine va_get (ci := 0) (v := .ref (ta 0)) (C := RX0) (T := TX0) (N := 13) hx hb hts in_X0 hown hC.1 hC.2.1 (26) rfl rfl 1 (by decide) (hts _ q305) (fun _ h9 => h9) rfl dX0_asking_117 ?_
                  refine va_getN (ci := 2) (v := .ref (ta 10)) (C := RX2) (T := TX2) (N := 12) (host := "SleeveSlips") hx hb hts in_X2 hown hC.1 hC.2.1 (10) rfl rfl 1 (by decide) (va_Nw.use rfl (hN.1 34)) (fun _ h9 => h9) rfl dX0_asking_120 ?_
                  refine lv_iload_n hx hb dX0_asking_123 rfl (lv_at hl 1 rfl) ?_
                  obtain ⟨hi_124, hf⟩ := ck_some hf
                  refine va_iald hx hb hC.1 hC.2.1 (20) 0 rfl rfl hi_124 dX0_asking_124 ?_
                  refine lv_iconst (v := 1) hx hb dX0_asking_125 (by decide) ?_
                  refine lv_icmp_ne (tgt := 141) hx hb dX0_asking_126 (by decide) (fun c_126 => ?_) (fun c_126 => ?_)
                  · have hf := if_f hf c_126
                    refine lv_iconst (v := 0) hx hb dX0_asking_141 (by decide) ?_
                    have e_1 := (Option.some.inj hf)
                    subst e_1
                    exact K H locs ls _ rfl hC dX0_asking_142
                  · have hf := if_t hf c_126
                    refine lv_aload_n hx hb dX0_asking_129 rfl (lv_at hl 0 rfl) ?_
                    refine va_get (ci := 0) (v := .ref (ta 0)) (C := RX0) (T := TX0) (N := 13) hx hb hts in_X0 hown hC.1 hC.2.1 (26) rfl rfl 1 (by decide) (hts _ q305) (fun _ h9 => h9) rfl dX0_asking_130 ?_
                    refine va_getN (ci := 2) (v := .ref (ta 11)) (C := RX2) (T := TX2) (N := 12) (host := "SleeveSlips") hx hb hts in_X2 hown hC.1 hC.2.1 (10) rfl rfl 2 (by decide) (va_Nw.use rfl (hN.1 35)) (fun _ h9 => h9) rfl dX0_asking_133 ?_
                    refine lv_iload_n hx hb dX0_asking_136 rfl (lv_at hl 1 rfl) ?_
                    obtain ⟨hi_137, hf⟩ := ck_some hf
                    refine va_iald hx hb hC.1 hC.2.1 (21) 0 rfl rfl hi_137 dX0_asking_137 ?_
                    refine lv_goto (tgt := 142) hx hb dX0_asking_138 (by decide) ?_
                    have e_1 := (Option.some.inj hf)
                    subst e_1
                    exact K H locs ls _ rfl hC dX0_asking_142
                · have hf := if_f hf c_11_6
                  by_cases c_11_7 : x2 = 7
                  · have hf := if_t hf c_11_7
                    refine lv_tableIn (tgt := 143) hx hb dX0_asking_11 (by rw [c_11_7]; decide) (by rw [c_11_7]; decide) (by rw [c_11_7]; rfl) (by decide) ?_
                    refine lv_aload_n hx hb dX0_asking_143 rfl (lv_at hl 0 rfl) ?_
                    refine va_get (ci := 0) (v := .ref (ta 0)) (C := RX0) (T := TX0) (N := 13) hx hb hts in_X0 hown hC.1 hC.2.1 (26) rfl rfl 1 (by decide) (hts _ q305) (fun _ h9 => h9) rfl dX0_asking_144 ?_
                    refine lv_iload_n hx hb dX0_asking_147 rfl (lv_at hl 1 rfl) ?_
                    obtain ⟨r_148, hcall, hf⟩ := bnd_some hf
                    refine hs_i (va_runV (C := RX2) (As := [.int x1]) (rest := []) ⟨hx, hb, hml, hown, hts⟩ (c_x_sleeveOf hcall) (cwV 1 hts (lw_V q567 q568 q569 q50 q570) rfl rfl rfl (by decide +kernel) ⟨(Nat.le_trans (Nat.le_of_ble_eq_true rfl) hRf), (Nat.le_trans (Nat.le_of_ble_eq_true rfl) hRl)⟩) (pre_VG (q0 := 0) (ci := 2) NX.calling (fun U _ hW => NX.warm hW hN) hC [0, 1, 2, 3, 4, 5, 6] rfl rfl rfl) rfl rfl hl.1 rfl (lv_room (Nat.le_of_ble_eq_true rfl)) dX0_asking_148 ⟨hRc, hRs⟩) hA hC (fun H locs hC => ?_)
                    have hC : HC D gcl (gty d) A (xw d ad ba ta imgs room work price whom bday units worth due under people askings hangs items many slip became left what which whose place deeds day won lost kept text typed rest bestSet tenths sortWorth sortDays row trace) s H locs := hC
                    have e_1 := (Option.some.inj hf)
                    subst e_1
                    exact K H locs ls _ rfl hC dX0_asking_151
                  · have hf := if_f hf c_11_7
                    refine lv_tableOut (tgt := 152) hx hb dX0_asking_11 (by have n0 := lv_neT c_11_0 (show (0 : Int32).toInt = 0 by decide); have n1 := lv_neT c_11_1 (show (1 : Int32).toInt = 1 by decide); have n2 := lv_neT c_11_2 (show (2 : Int32).toInt = 2 by decide); have n3 := lv_neT c_11_3 (show (3 : Int32).toInt = 3 by decide); have n4 := lv_neT c_11_4 (show (4 : Int32).toInt = 4 by decide); have n5 := lv_neT c_11_5 (show (5 : Int32).toInt = 5 by decide); have n6 := lv_neT c_11_6 (show (6 : Int32).toInt = 6 by decide); have n7 := lv_neT c_11_7 (show (7 : Int32).toInt = 7 by decide); first | omega | (rcases Int.lt_or_le (x2).toInt 0 with q | q <;> omega)) (by decide) ?_
                    refine lv_iconst (v := (-1)) hx hb dX0_asking_152 (by decide) ?_
                    have e_1 := (Option.some.inj hf)
                    subst e_1
                    exact K H locs ls _ rfl hC dX0_asking_153
  · have hf := if_t hf c_5
    refine lv_iconst (v := (-1)) hx hb dX0_asking_8 (by decide) ?_
    have e_1 := (Option.some.inj hf)
    subst e_1
    exact K H locs ls _ rfl hC dX0_asking_9
set_option maxRecDepth 100000 in
theorem c_x_asking {l : Launch} {sz : Nat} {D : va_G} {d : Nat → ClassId} {ad : Nat → Nat} {ba : Nat → Nat} {ta : Nat → Nat} {imgs : va_W} {room : Nat → Int32} {work : Nat → Int32} {price : Nat → Int32} {whom : Nat → Int32} {bday : Nat → Int32} {units : Nat → Int32} {worth : Nat → Int32} {due : Nat → Int32} {under : Nat → Int32} {people : Int32} {askings : Int32} {hangs : Int32} {items : Int32} {many : Nat → Int32} {slip : Nat → Nat → Int32} {became : Nat → Int32} {left : Nat → Int32} {what : Nat → Int32} {which : Nat → Int32} {whose : Nat → Int32} {place : Nat → Int32} {deeds : Int32} {day : Int32} {won : Int32} {lost : Int32} {kept : Int32} {text : Nat → Int32} {typed : Int32} {rest : Nat → Int32} {bestSet : Int32} {tenths : Nat → Int32} {sortWorth : Nat → Int32} {sortDays : Nat → Int32} {row : Nat → Int32} {trace : Int64} {x1 : Int32} {x2 : Int32} {r : Int32} (hf : x_asking whom bday units worth due askings many slip became left x1 x2 = some r) : MI l yX0_asking (ws_ yX0_asking cX0_asking 3 (some .int)) { frames := 2, cells := 0, slots := 0, locals := 46 } D gcl (gty d) NX (xw d ad ba ta imgs room work price whom bday units worth due under people askings hangs items many slip became left what which whose place deeds day won lost kept text typed rest bestSet tenths sortWorth sortDays row trace) (xw d ad ba ta imgs room work price whom bday units worth due under people askings hangs items many slip became left what which whose place deeds day won lost kept text typed rest bestSet tenths sortWorth sortDays row trace) sz [.ref (ad 0), .int x1, .int x2] r :=
  MI.of (by decide) [.ref (ad 0), .int x1, .int x2] [(0, .ref (ad 0)), (1, .int x1), (2, .int x2)] (Nat.le_of_ble_eq_true rfl) rfl (fun p e s m below meth c ls Q hx hb hml hown hts hN hA hC hl K => w_x_asking hx hb hml hown hts hN hA (Nat.le_refl _) (Nat.le_refl _) (Nat.le_refl _) (Nat.le_refl _) hf hC hl K)

def x_slip (people : Int32) (many : Nat → Int32) (slip : Nat → Nat → Int32) (x1 : Int32) (x2 : Int32) : Option (Int32) :=
  bnd (x_isPerson people x1) fun r_2 =>
  if r_2 = 0 then (some (-1)) else
  if 0 ≤ x2 then (ck x1 4 <| if (many x1.toNatClampNeg) ≤ x2 then (some (-5)) else
  ck x1 4 <| ck x2 5 <| some (slip x1.toNatClampNeg x2.toNatClampNeg)) else
  some (-1)
set_option maxHeartbeats 4000000 in
set_option maxRecDepth 100000 in
theorem w_x_slip {p : Program} {l : Launch} {e : Env} {R : Room} {s : State} {m : MethodId} {args : Array Value} {below : List Frame} {meth : Method} {c : Code} {H : Heap} {locs : List Loc} {cells slots : Nat} {Q : State → Prop} {A : Nat → Prop} {ls : Array Slot} {D : va_G} {d : Nat → ClassId} {ad : Nat → Nat} {ba : Nat → Nat} {ta : Nat → Nat} {imgs : va_W} {room : Nat → Int32} {work : Nat → Int32} {price : Nat → Int32} {whom : Nat → Int32} {bday : Nat → Int32} {units : Nat → Int32} {worth : Nat → Int32} {due : Nat → Int32} {under : Nat → Int32} {people : Int32} {askings : Int32} {hangs : Int32} {items : Int32} {many : Nat → Int32} {slip : Nat → Nat → Int32} {became : Nat → Int32} {left : Nat → Int32} {what : Nat → Int32} {which : Nat → Int32} {whose : Nat → Int32} {place : Nat → Int32} {deeds : Int32} {day : Int32} {won : Int32} {lost : Int32} {kept : Int32} {text : Nat → Int32} {typed : Int32} {rest : Nat → Int32} {bestSet : Int32} {tenths : Nat → Int32} {sortWorth : Nat → Int32} {sortDays : Nat → Int32} {row : Nat → Int32} {trace : Int64} {x1 : Int32} {x2 : Int32} {r : Int32} (hx : p.tables.exec = Jvm.exec) (hb : c.code = cX0_slip) (hml : c.maxLocals = 3) (hown : s.vm.findClass RX0 = some m.cls) (hts : ∀ w ∈ lw_all, w.before args s = true) (hN : NX s) (hA : ∀ q, s.heap.size ≤ q → A q) (hRf : 2 ≤ R.frames) (hRl : 43 ≤ R.locals) (hRc : cells ≤ R.cells) (hRs : slots ≤ R.slots) (hf : x_slip people many slip x1 x2 = some r) (hC : HC D gcl (gty d) A (xw d ad ba ta imgs room work price whom bday units worth due under people askings hangs items many slip became left what which whose place deeds day won lost kept text typed rest bestSet tenths sortWorth sortDays row trace) s H locs) (hl : lv_has ls 3 [(0, .ref (ad 0)), (1, .int x1), (2, .int x2)]) (K : ∀ (H : Heap) (locs : List Loc) (ls : Array Slot) (pc : Nat), narrow .int (.int r) = .int r → HC D gcl (gty d) A (xw d ad ba ta imgs room work price whom bday units worth due under people askings hangs items many slip became left what which whose place deeds day won lost kept text typed rest bestSet tenths sortWorth sortDays row trace) s H locs → decode cX0_slip pc = .ok (.ireturn, 1) → W p l e R s m args below meth c H locs cells slots Q (F0 m pc ls [.int r])) : W p l e R s m args below meth c H locs cells slots Q (F0 m 0 ls []) := by
  unfold x_slip at hf
  refine lv_aload_n hx hb dX0_slip_0 rfl (lv_at hl 0 rfl) ?_
  refine lv_iload_n hx hb dX0_slip_1 rfl (lv_at hl 1 rfl) ?_
  obtain ⟨r_2, hcall, hf⟩ := bnd_some hf
  refine hc_i (va_runV (C := RX0) (As := [.int x1]) (rest := []) ⟨hx, hb, hml, hown, hts⟩ (c_x_isPerson hcall) (cwV 1 hts (lw_V q555 q557 qs8 q48 q558) rfl rfl rfl (by decide +kernel) ⟨(Nat.le_trans (Nat.le_of_ble_eq_true rfl) hRf), (Nat.le_trans (Nat.le_of_ble_eq_true rfl) hRl)⟩) (pre_V (q0 := 26) (ci := 0) NX.calling (fun U _ hW => NX.warm hW hN) hC rfl rfl) rfl rfl hl.1 rfl (lv_room (Nat.le_of_ble_eq_true rfl)) dX0_slip_2 ⟨hRc, hRs⟩) hA hC (fun H locs hC => ?_)
  refine lv_if_eq (tgt := 12) hx hb dX0_slip_5 (by decide) (fun c_5 => ?_) (fun c_5 => ?_)
  · have hf := if_t hf c_5
    refine lv_iconst (v := (-1)) hx hb dX0_slip_12 (by decide) ?_
    have e_1 := (Option.some.inj hf)
    subst e_1
    exact K H locs ls _ rfl hC dX0_slip_13
  · have hf := if_f hf c_5
    refine lv_iload_n hx hb dX0_slip_8 rfl (lv_at hl 2 rfl) ?_
    refine lv_if_ge (tgt := 14) hx hb dX0_slip_9 (by decide) (fun c_9 => ?_) (fun c_9 => ?_)
    · have hf := if_t hf c_9
      refine lv_iload_n hx hb dX0_slip_14 rfl (lv_at hl 2 rfl) ?_
      refine lv_aload_n hx hb dX0_slip_15 rfl (lv_at hl 0 rfl) ?_
      refine va_get (ci := 0) (v := .ref (ta 0)) (C := RX0) (T := TX0) (N := 13) hx hb hts in_X0 hown hC.1 hC.2.1 (26) rfl rfl 1 (by decide) (hts _ q305) (fun _ h9 => h9) rfl dX0_slip_16 ?_
      refine va_getN (ci := 2) (v := .ref (ta 1)) (C := RX2) (T := TX2) (N := 12) (host := "SleeveSlips") hx hb hts in_X2 hown hC.1 hC.2.1 (10) rfl rfl 0 (by decide) (va_Nw.use rfl (hN.1 33)) (fun _ h9 => h9) rfl dX0_slip_19 ?_
      refine lv_iload_n hx hb dX0_slip_22 rfl (lv_at hl 1 rfl) ?_
      obtain ⟨hi_23, hf⟩ := ck_some hf
      refine va_aldq hx hb hC.1 hC.2.1 11 4 rfl rfl hi_23 dX0_slip_23 ?_
      refine va_getN (ci := 3) (v := .int (many x1.toNatClampNeg)) (C := RX3) (T := TX3) (N := 2) (host := "SleeveSlips") hx hb hts in_X3 hown hC.1 hC.2.1 (12 + x1.toNatClampNeg) (xw_sl (vp_lt hi_23)) rfl 1 (by decide) (va_Nw.use rfl (hN.1 31)) (fun _ h9 => h9) rfl dX0_slip_24 ?_
      refine lv_icmp_ge (tgt := 47) hx hb dX0_slip_27 (by decide) (fun c_27 => ?_) (fun c_27 => ?_)
      · have hf := if_t hf c_27
        refine lv_bipush (v := (-5)) hx hb dX0_slip_47 (by decide) ?_
        have e_1 := (Option.some.inj hf)
        subst e_1
        exact K H locs ls _ rfl hC dX0_slip_49
      · have hf := if_f hf c_27
        refine lv_aload_n hx hb dX0_slip_30 rfl (lv_at hl 0 rfl) ?_
        refine va_get (ci := 0) (v := .ref (ta 0)) (C := RX0) (T := TX0) (N := 13) hx hb hts in_X0 hown hC.1 hC.2.1 (26) rfl rfl 1 (by decide) (hts _ q305) (fun _ h9 => h9) rfl dX0_slip_31 ?_
        refine va_getN (ci := 2) (v := .ref (ta 1)) (C := RX2) (T := TX2) (N := 12) (host := "SleeveSlips") hx hb hts in_X2 hown hC.1 hC.2.1 (10) rfl rfl 0 (by decide) (va_Nw.use rfl (hN.1 33)) (fun _ h9 => h9) rfl dX0_slip_34 ?_
        refine lv_iload_n hx hb dX0_slip_37 rfl (lv_at hl 1 rfl) ?_
        obtain ⟨hi_38, hf⟩ := ck_some hf
        refine va_aldq hx hb hC.1 hC.2.1 11 4 rfl rfl hi_38 dX0_slip_38 ?_
        refine va_getN (ci := 3) (v := .ref (ta (6 + x1.toNatClampNeg))) (C := RX3) (T := TX3) (N := 2) (host := "SleeveSlips") hx hb hts in_X3 hown hC.1 hC.2.1 (12 + x1.toNatClampNeg) (xw_sl (vp_lt hi_38)) rfl 0 (by decide) (va_Nw.use rfl (hN.1 28)) (fun _ h9 => h9) rfl dX0_slip_39 ?_
        refine lv_iload_n hx hb dX0_slip_42 rfl (lv_at hl 2 rfl) ?_
        obtain ⟨hi_43, hf⟩ := ck_some hf
        refine va_iald hx hb hC.1 hC.2.1 (16 + x1.toNatClampNeg) 0 (xw_sp (vp_lt hi_38)) rfl hi_43 dX0_slip_43 ?_
        refine lv_goto (tgt := 49) hx hb dX0_slip_44 (by decide) ?_
        have e_1 := (Option.some.inj hf)
        subst e_1
        exact K H locs ls _ rfl hC dX0_slip_49
    · have hf := if_f hf c_9
      refine lv_iconst (v := (-1)) hx hb dX0_slip_12 (by decide) ?_
      have e_1 := (Option.some.inj hf)
      subst e_1
      exact K H locs ls _ rfl hC dX0_slip_13
set_option maxRecDepth 100000 in
theorem c_x_slip {l : Launch} {sz : Nat} {D : va_G} {d : Nat → ClassId} {ad : Nat → Nat} {ba : Nat → Nat} {ta : Nat → Nat} {imgs : va_W} {room : Nat → Int32} {work : Nat → Int32} {price : Nat → Int32} {whom : Nat → Int32} {bday : Nat → Int32} {units : Nat → Int32} {worth : Nat → Int32} {due : Nat → Int32} {under : Nat → Int32} {people : Int32} {askings : Int32} {hangs : Int32} {items : Int32} {many : Nat → Int32} {slip : Nat → Nat → Int32} {became : Nat → Int32} {left : Nat → Int32} {what : Nat → Int32} {which : Nat → Int32} {whose : Nat → Int32} {place : Nat → Int32} {deeds : Int32} {day : Int32} {won : Int32} {lost : Int32} {kept : Int32} {text : Nat → Int32} {typed : Int32} {rest : Nat → Int32} {bestSet : Int32} {tenths : Nat → Int32} {sortWorth : Nat → Int32} {sortDays : Nat → Int32} {row : Nat → Int32} {trace : Int64} {x1 : Int32} {x2 : Int32} {r : Int32} (hf : x_slip people many slip x1 x2 = some r) : MI l yX0_slip (ws_ yX0_slip cX0_slip 3 (some .int)) { frames := 2, cells := 0, slots := 0, locals := 43 } D gcl (gty d) NX (xw d ad ba ta imgs room work price whom bday units worth due under people askings hangs items many slip became left what which whose place deeds day won lost kept text typed rest bestSet tenths sortWorth sortDays row trace) (xw d ad ba ta imgs room work price whom bday units worth due under people askings hangs items many slip became left what which whose place deeds day won lost kept text typed rest bestSet tenths sortWorth sortDays row trace) sz [.ref (ad 0), .int x1, .int x2] r :=
  MI.of (by decide) [.ref (ad 0), .int x1, .int x2] [(0, .ref (ad 0)), (1, .int x1), (2, .int x2)] (Nat.le_of_ble_eq_true rfl) rfl (fun p e s m below meth c ls Q hx hb hml hown hts hN hA hC hl K => w_x_slip hx hb hml hown hts hN hA (Nat.le_refl _) (Nat.le_refl _) (Nat.le_refl _) (Nat.le_refl _) hf hC hl K)

def x_hasRoom (room : Nat → Int32) (many : Nat → Int32) (x1 : Int32) : Option (Int32) :=
  ck x1 4 <| ck x1 4 <| if (room x1.toNatClampNeg) ≤ (many x1.toNatClampNeg) then (some 0) else
  some 1
set_option maxHeartbeats 4000000 in
set_option maxRecDepth 100000 in
theorem w_x_hasRoom {p : Program} {l : Launch} {e : Env} {R : Room} {s : State} {m : MethodId} {args : Array Value} {below : List Frame} {meth : Method} {c : Code} {H : Heap} {locs : List Loc} {cells slots : Nat} {Q : State → Prop} {A : Nat → Prop} {ls : Array Slot} {D : va_G} {d : Nat → ClassId} {ad : Nat → Nat} {ba : Nat → Nat} {ta : Nat → Nat} {imgs : va_W} {room : Nat → Int32} {work : Nat → Int32} {price : Nat → Int32} {whom : Nat → Int32} {bday : Nat → Int32} {units : Nat → Int32} {worth : Nat → Int32} {due : Nat → Int32} {under : Nat → Int32} {people : Int32} {askings : Int32} {hangs : Int32} {items : Int32} {many : Nat → Int32} {slip : Nat → Nat → Int32} {became : Nat → Int32} {left : Nat → Int32} {what : Nat → Int32} {which : Nat → Int32} {whose : Nat → Int32} {place : Nat → Int32} {deeds : Int32} {day : Int32} {won : Int32} {lost : Int32} {kept : Int32} {text : Nat → Int32} {typed : Int32} {rest : Nat → Int32} {bestSet : Int32} {tenths : Nat → Int32} {sortWorth : Nat → Int32} {sortDays : Nat → Int32} {row : Nat → Int32} {trace : Int64} {x1 : Int32} {r : Int32} (hx : p.tables.exec = Jvm.exec) (hb : c.code = cX0_hasRoom) (hml : c.maxLocals = 2) (hown : s.vm.findClass RX0 = some m.cls) (hts : ∀ w ∈ lw_all, w.before args s = true) (hN : NX s) (hA : ∀ q, s.heap.size ≤ q → A q) (hRf : 0 ≤ R.frames) (hRl : 0 ≤ R.locals) (hRc : cells ≤ R.cells) (hRs : slots ≤ R.slots) (hf : x_hasRoom room many x1 = some r) (hC : HC D gcl (gty d) A (xw d ad ba ta imgs room work price whom bday units worth due under people askings hangs items many slip became left what which whose place deeds day won lost kept text typed rest bestSet tenths sortWorth sortDays row trace) s H locs) (hl : lv_has ls 2 [(0, .ref (ad 0)), (1, .int x1)]) (K : ∀ (H : Heap) (locs : List Loc) (ls : Array Slot) (pc : Nat), narrow .boolean (.int r) = .int r → HC D gcl (gty d) A (xw d ad ba ta imgs room work price whom bday units worth due under people askings hangs items many slip became left what which whose place deeds day won lost kept text typed rest bestSet tenths sortWorth sortDays row trace) s H locs → decode cX0_hasRoom pc = .ok (.ireturn, 1) → W p l e R s m args below meth c H locs cells slots Q (F0 m pc ls [.int r])) : W p l e R s m args below meth c H locs cells slots Q (F0 m 0 ls []) := by
  unfold x_hasRoom at hf
  refine lv_aload_n hx hb dX0_hasRoom_0 rfl (lv_at hl 0 rfl) ?_
  refine va_get (ci := 0) (v := .ref (ta 0)) (C := RX0) (T := TX0) (N := 13) hx hb hts in_X0 hown hC.1 hC.2.1 (26) rfl rfl 1 (by decide) (hts _ q305) (fun _ h9 => h9) rfl dX0_hasRoom_1 ?_
  refine va_getN (ci := 2) (v := .ref (ta 1)) (C := RX2) (T := TX2) (N := 12) (host := "SleeveSlips") hx hb hts in_X2 hown hC.1 hC.2.1 (10) rfl rfl 0 (by decide) (va_Nw.use rfl (hN.1 33)) (fun _ h9 => h9) rfl dX0_hasRoom_4 ?_
  refine lv_iload_n hx hb dX0_hasRoom_7 rfl (lv_at hl 1 rfl) ?_
  obtain ⟨hi_8, hf⟩ := ck_some hf
  refine va_aldq hx hb hC.1 hC.2.1 11 4 rfl rfl hi_8 dX0_hasRoom_8 ?_
  refine va_getN (ci := 3) (v := .int (many x1.toNatClampNeg)) (C := RX3) (T := TX3) (N := 2) (host := "SleeveSlips") hx hb hts in_X3 hown hC.1 hC.2.1 (12 + x1.toNatClampNeg) (xw_sl (vp_lt hi_8)) rfl 1 (by decide) (va_Nw.use rfl (hN.1 31)) (fun _ h9 => h9) rfl dX0_hasRoom_9 ?_
  refine lv_aload_n hx hb dX0_hasRoom_12 rfl (lv_at hl 0 rfl) ?_
  refine va_get (ci := 0) (v := .ref (ba 0)) (C := RX0) (T := TX0) (N := 13) hx hb hts in_X0 hown hC.1 hC.2.1 (26) rfl rfl 0 (by decide) (hts _ q302) (fun _ h9 => h9) rfl dX0_hasRoom_13 ?_
  refine va_getN (ci := 1) (v := .ref (ba 1)) (C := RX1) (T := TX1) (N := 13) (host := "SleeveSlips") hx hb hts in_X1 hown hC.1 hC.2.1 (0) rfl rfl 0 (by decide) (va_Nw.use rfl (hN.1 2)) (fun _ h9 => h9) rfl dX0_hasRoom_16 ?_
  refine lv_iload_n hx hb dX0_hasRoom_19 rfl (lv_at hl 1 rfl) ?_
  obtain ⟨hi_20, hf⟩ := ck_some hf
  refine va_iald hx hb hC.1 hC.2.1 (1) 0 rfl rfl hi_20 dX0_hasRoom_20 ?_
  refine lv_icmp_ge (tgt := 28) hx hb dX0_hasRoom_21 (by decide) (fun c_21 => ?_) (fun c_21 => ?_)
  · have hf := if_t hf c_21
    refine lv_iconst (v := 0) hx hb dX0_hasRoom_28 (by decide) ?_
    have e_1 := (Option.some.inj hf)
    subst e_1
    exact K H locs ls _ rfl hC dX0_hasRoom_29
  · have hf := if_f hf c_21
    refine lv_iconst (v := 1) hx hb dX0_hasRoom_24 (by decide) ?_
    refine lv_goto (tgt := 29) hx hb dX0_hasRoom_25 (by decide) ?_
    have e_1 := (Option.some.inj hf)
    subst e_1
    exact K H locs ls _ rfl hC dX0_hasRoom_29
set_option maxRecDepth 100000 in
theorem c_x_hasRoom {l : Launch} {sz : Nat} {D : va_G} {d : Nat → ClassId} {ad : Nat → Nat} {ba : Nat → Nat} {ta : Nat → Nat} {imgs : va_W} {room : Nat → Int32} {work : Nat → Int32} {price : Nat → Int32} {whom : Nat → Int32} {bday : Nat → Int32} {units : Nat → Int32} {worth : Nat → Int32} {due : Nat → Int32} {under : Nat → Int32} {people : Int32} {askings : Int32} {hangs : Int32} {items : Int32} {many : Nat → Int32} {slip : Nat → Nat → Int32} {became : Nat → Int32} {left : Nat → Int32} {what : Nat → Int32} {which : Nat → Int32} {whose : Nat → Int32} {place : Nat → Int32} {deeds : Int32} {day : Int32} {won : Int32} {lost : Int32} {kept : Int32} {text : Nat → Int32} {typed : Int32} {rest : Nat → Int32} {bestSet : Int32} {tenths : Nat → Int32} {sortWorth : Nat → Int32} {sortDays : Nat → Int32} {row : Nat → Int32} {trace : Int64} {x1 : Int32} {r : Int32} (hf : x_hasRoom room many x1 = some r) : MI l yX0_hasRoom (ws_ yX0_hasRoom cX0_hasRoom 2 (some .boolean)) { frames := 0, cells := 0, slots := 0, locals := 0 } D gcl (gty d) NX (xw d ad ba ta imgs room work price whom bday units worth due under people askings hangs items many slip became left what which whose place deeds day won lost kept text typed rest bestSet tenths sortWorth sortDays row trace) (xw d ad ba ta imgs room work price whom bday units worth due under people askings hangs items many slip became left what which whose place deeds day won lost kept text typed rest bestSet tenths sortWorth sortDays row trace) sz [.ref (ad 0), .int x1] r :=
  MI.of (by decide) [.ref (ad 0), .int x1] [(0, .ref (ad 0)), (1, .int x1)] (Nat.le_of_ble_eq_true rfl) rfl (fun p e s m below meth c ls Q hx hb hml hown hts hN hA hC hl K => w_x_hasRoom hx hb hml hown hts hN hA (Nat.le_refl _) (Nat.le_refl _) (Nat.le_refl _) (Nat.le_refl _) hf hC hl K)

def x_isPinned (became : Nat → Int32) (x1 : Int32) : Option (Int32) :=
  ck x1 8 <| if (became x1.toNatClampNeg) = 1 then (some 1) else
  some 0
set_option maxHeartbeats 4000000 in
set_option maxRecDepth 100000 in
theorem w_x_isPinned {p : Program} {l : Launch} {e : Env} {R : Room} {s : State} {m : MethodId} {args : Array Value} {below : List Frame} {meth : Method} {c : Code} {H : Heap} {locs : List Loc} {cells slots : Nat} {Q : State → Prop} {A : Nat → Prop} {ls : Array Slot} {D : va_G} {d : Nat → ClassId} {ad : Nat → Nat} {ba : Nat → Nat} {ta : Nat → Nat} {imgs : va_W} {room : Nat → Int32} {work : Nat → Int32} {price : Nat → Int32} {whom : Nat → Int32} {bday : Nat → Int32} {units : Nat → Int32} {worth : Nat → Int32} {due : Nat → Int32} {under : Nat → Int32} {people : Int32} {askings : Int32} {hangs : Int32} {items : Int32} {many : Nat → Int32} {slip : Nat → Nat → Int32} {became : Nat → Int32} {left : Nat → Int32} {what : Nat → Int32} {which : Nat → Int32} {whose : Nat → Int32} {place : Nat → Int32} {deeds : Int32} {day : Int32} {won : Int32} {lost : Int32} {kept : Int32} {text : Nat → Int32} {typed : Int32} {rest : Nat → Int32} {bestSet : Int32} {tenths : Nat → Int32} {sortWorth : Nat → Int32} {sortDays : Nat → Int32} {row : Nat → Int32} {trace : Int64} {x1 : Int32} {r : Int32} (hx : p.tables.exec = Jvm.exec) (hb : c.code = cX0_isPinned) (hml : c.maxLocals = 2) (hown : s.vm.findClass RX0 = some m.cls) (hts : ∀ w ∈ lw_all, w.before args s = true) (hN : NX s) (hA : ∀ q, s.heap.size ≤ q → A q) (hRf : 0 ≤ R.frames) (hRl : 0 ≤ R.locals) (hRc : cells ≤ R.cells) (hRs : slots ≤ R.slots) (hf : x_isPinned became x1 = some r) (hC : HC D gcl (gty d) A (xw d ad ba ta imgs room work price whom bday units worth due under people askings hangs items many slip became left what which whose place deeds day won lost kept text typed rest bestSet tenths sortWorth sortDays row trace) s H locs) (hl : lv_has ls 2 [(0, .ref (ad 0)), (1, .int x1)]) (K : ∀ (H : Heap) (locs : List Loc) (ls : Array Slot) (pc : Nat), narrow .boolean (.int r) = .int r → HC D gcl (gty d) A (xw d ad ba ta imgs room work price whom bday units worth due under people askings hangs items many slip became left what which whose place deeds day won lost kept text typed rest bestSet tenths sortWorth sortDays row trace) s H locs → decode cX0_isPinned pc = .ok (.ireturn, 1) → W p l e R s m args below meth c H locs cells slots Q (F0 m pc ls [.int r])) : W p l e R s m args below meth c H locs cells slots Q (F0 m 0 ls []) := by
  unfold x_isPinned at hf
  refine lv_aload_n hx hb dX0_isPinned_0 rfl (lv_at hl 0 rfl) ?_
  refine va_get (ci := 0) (v := .ref (ta 0)) (C := RX0) (T := TX0) (N := 13) hx hb hts in_X0 hown hC.1 hC.2.1 (26) rfl rfl 1 (by decide) (hts _ q305) (fun _ h9 => h9) rfl dX0_isPinned_1 ?_
  refine va_getN (ci := 2) (v := .ref (ta 10)) (C := RX2) (T := TX2) (N := 12) (host := "SleeveSlips") hx hb hts in_X2 hown hC.1 hC.2.1 (10) rfl rfl 1 (by decide) (va_Nw.use rfl (hN.1 34)) (fun _ h9 => h9) rfl dX0_isPinned_4 ?_
  refine lv_iload_n hx hb dX0_isPinned_7 rfl (lv_at hl 1 rfl) ?_
  obtain ⟨hi_8, hf⟩ := ck_some hf
  refine va_iald hx hb hC.1 hC.2.1 (20) 0 rfl rfl hi_8 dX0_isPinned_8 ?_
  refine lv_iconst (v := 1) hx hb dX0_isPinned_9 (by decide) ?_
  refine lv_icmp_ne (tgt := 17) hx hb dX0_isPinned_10 (by decide) (fun c_10 => ?_) (fun c_10 => ?_)
  · have hf := if_f hf c_10
    refine lv_iconst (v := 0) hx hb dX0_isPinned_17 (by decide) ?_
    have e_1 := (Option.some.inj hf)
    subst e_1
    exact K H locs ls _ rfl hC dX0_isPinned_18
  · have hf := if_t hf c_10
    refine lv_iconst (v := 1) hx hb dX0_isPinned_13 (by decide) ?_
    refine lv_goto (tgt := 18) hx hb dX0_isPinned_14 (by decide) ?_
    have e_1 := (Option.some.inj hf)
    subst e_1
    exact K H locs ls _ rfl hC dX0_isPinned_18
set_option maxRecDepth 100000 in
theorem c_x_isPinned {l : Launch} {sz : Nat} {D : va_G} {d : Nat → ClassId} {ad : Nat → Nat} {ba : Nat → Nat} {ta : Nat → Nat} {imgs : va_W} {room : Nat → Int32} {work : Nat → Int32} {price : Nat → Int32} {whom : Nat → Int32} {bday : Nat → Int32} {units : Nat → Int32} {worth : Nat → Int32} {due : Nat → Int32} {under : Nat → Int32} {people : Int32} {askings : Int32} {hangs : Int32} {items : Int32} {many : Nat → Int32} {slip : Nat → Nat → Int32} {became : Nat → Int32} {left : Nat → Int32} {what : Nat → Int32} {which : Nat → Int32} {whose : Nat → Int32} {place : Nat → Int32} {deeds : Int32} {day : Int32} {won : Int32} {lost : Int32} {kept : Int32} {text : Nat → Int32} {typed : Int32} {rest : Nat → Int32} {bestSet : Int32} {tenths : Nat → Int32} {sortWorth : Nat → Int32} {sortDays : Nat → Int32} {row : Nat → Int32} {trace : Int64} {x1 : Int32} {r : Int32} (hf : x_isPinned became x1 = some r) : MI l yX0_isPinned (ws_ yX0_isPinned cX0_isPinned 2 (some .boolean)) { frames := 0, cells := 0, slots := 0, locals := 0 } D gcl (gty d) NX (xw d ad ba ta imgs room work price whom bday units worth due under people askings hangs items many slip became left what which whose place deeds day won lost kept text typed rest bestSet tenths sortWorth sortDays row trace) (xw d ad ba ta imgs room work price whom bday units worth due under people askings hangs items many slip became left what which whose place deeds day won lost kept text typed rest bestSet tenths sortWorth sortDays row trace) sz [.ref (ad 0), .int x1] r :=
  MI.of (by decide) [.ref (ad 0), .int x1] [(0, .ref (ad 0)), (1, .int x1)] (Nat.le_of_ble_eq_true rfl) rfl (fun p e s m below meth c ls Q hx hb hml hown hts hN hA hC hl K => w_x_isPinned hx hb hml hown hts hN hA (Nat.le_refl _) (Nat.le_refl _) (Nat.le_refl _) (Nat.le_refl _) hf hC hl K)

def x_promise (room : Nat → Int32) (whom : Nat → Int32) (bday : Nat → Int32) (units : Nat → Int32) (askings : Int32) (many : Nat → Int32) (slip : Nat → Nat → Int32) (became : Nat → Int32) (left : Nat → Int32) (what : Nat → Int32) (which : Nat → Int32) (whose : Nat → Int32) (place : Nat → Int32) (deeds : Int32) (day : Int32) (x1 : Int32) : Option (Int32 × (Nat → Int32) × (Nat → Nat → Int32) × (Nat → Int32) × (Nat → Int32) × (Nat → Int32) × (Nat → Int32) × (Nat → Int32) × (Nat → Int32) × Int32) :=
  bnd (x_isAsking askings x1) fun r_2 =>
  if r_2 = 0 then (some ((-1), many, slip, became, left, what, which, whose, place, deeds)) else
  ck x1 8 <| if (became x1.toNatClampNeg) = 0 then (ck x1 8 <| if (bday x1.toNatClampNeg) = day then (ck x1 8 <| bnd (x_hasRoom room many (whom x1.toNatClampNeg)) fun r_56 =>
  if r_56 = 0 then (some ((-3), many, slip, became, left, what, which, whose, place, deeds)) else
  ck (whom x1.toNatClampNeg) 4 <| bnd5 (x_know what which whose place deeds 0 x1 (whom x1.toNatClampNeg) (many ((whom x1.toNatClampNeg).toNatClampNeg))) fun what_84 which_84 whose_84 place_84 deeds_84 =>
  ck (whom x1.toNatClampNeg) 4 <| ck (whom x1.toNatClampNeg) 4 <| bnd2 (x_pin (slip ((whom x1.toNatClampNeg).toNatClampNeg)) (many ((whom x1.toNatClampNeg).toNatClampNeg)) x1 (many ((whom x1.toNatClampNeg).toNatClampNeg))) fun sl_109 mn_109 =>
  ck x1 8 <| ck x1 8 <| ck x1 8 <| ck (whom x1.toNatClampNeg) 4 <| some ((upd many ((whom x1.toNatClampNeg).toNatClampNeg) mn_109) ((whom x1.toNatClampNeg).toNatClampNeg), upd many ((whom x1.toNatClampNeg).toNatClampNeg) mn_109, va_up slip ((whom x1.toNatClampNeg).toNatClampNeg) sl_109, upd became x1.toNatClampNeg 1, upd left x1.toNatClampNeg (units x1.toNatClampNeg), what_84, which_84, whose_84, place_84, deeds_84)) else
  some ((-2), many, slip, became, left, what, which, whose, place, deeds)) else
  some ((-2), many, slip, became, left, what, which, whose, place, deeds)
set_option maxHeartbeats 4000000 in
set_option maxRecDepth 100000 in
theorem w_x_promise {p : Program} {l : Launch} {e : Env} {R : Room} {s : State} {m : MethodId} {args : Array Value} {below : List Frame} {meth : Method} {c : Code} {H : Heap} {locs : List Loc} {cells slots : Nat} {Q : State → Prop} {A : Nat → Prop} {ls : Array Slot} {D : va_G} {d : Nat → ClassId} {ad : Nat → Nat} {ba : Nat → Nat} {ta : Nat → Nat} {imgs : va_W} {room : Nat → Int32} {work : Nat → Int32} {price : Nat → Int32} {whom : Nat → Int32} {bday : Nat → Int32} {units : Nat → Int32} {worth : Nat → Int32} {due : Nat → Int32} {under : Nat → Int32} {people : Int32} {askings : Int32} {hangs : Int32} {items : Int32} {many : Nat → Int32} {slip : Nat → Nat → Int32} {became : Nat → Int32} {left : Nat → Int32} {what : Nat → Int32} {which : Nat → Int32} {whose : Nat → Int32} {place : Nat → Int32} {deeds : Int32} {day : Int32} {won : Int32} {lost : Int32} {kept : Int32} {text : Nat → Int32} {typed : Int32} {rest : Nat → Int32} {bestSet : Int32} {tenths : Nat → Int32} {sortWorth : Nat → Int32} {sortDays : Nat → Int32} {row : Nat → Int32} {trace : Int64} {x1 : Int32} {r : Int32} {many_r : Nat → Int32} {slip_r : Nat → Nat → Int32} {became_r : Nat → Int32} {left_r : Nat → Int32} {what_r : Nat → Int32} {which_r : Nat → Int32} {whose_r : Nat → Int32} {place_r : Nat → Int32} {deeds_r : Int32} (hx : p.tables.exec = Jvm.exec) (hb : c.code = cX0_promise) (hml : c.maxLocals = 3) (hown : s.vm.findClass RX0 = some m.cls) (hts : ∀ w ∈ lw_all, w.before args s = true) (hN : NX s) (hA : ∀ q, s.heap.size ≤ q → A q) (hRf : 2 ≤ R.frames) (hRl : 84 ≤ R.locals) (hRc : cells ≤ R.cells) (hRs : slots ≤ R.slots) (hf : x_promise room whom bday units askings many slip became left what which whose place deeds day x1 = some (r, many_r, slip_r, became_r, left_r, what_r, which_r, whose_r, place_r, deeds_r)) (hC : HC D gcl (gty d) A (xw d ad ba ta imgs room work price whom bday units worth due under people askings hangs items many slip became left what which whose place deeds day won lost kept text typed rest bestSet tenths sortWorth sortDays row trace) s H locs) (hl : lv_has ls 3 [(0, .ref (ad 0)), (1, .int x1)]) (K : ∀ (H : Heap) (locs : List Loc) (ls : Array Slot) (pc : Nat), narrow .int (.int r) = .int r → HC D gcl (gty d) A (xw d ad ba ta imgs room work price whom bday units worth due under people askings hangs items many_r slip_r became_r left_r what_r which_r whose_r place_r deeds_r day won lost kept text typed rest bestSet tenths sortWorth sortDays row trace) s H locs → decode cX0_promise pc = .ok (.ireturn, 1) → W p l e R s m args below meth c H locs cells slots Q (F0 m pc ls [.int r])) : W p l e R s m args below meth c H locs cells slots Q (F0 m 0 ls []) := by
  unfold x_promise at hf
  refine lv_aload_n hx hb dX0_promise_0 rfl (lv_at hl 0 rfl) ?_
  refine lv_iload_n hx hb dX0_promise_1 rfl (lv_at hl 1 rfl) ?_
  obtain ⟨r_2, hcall, hf⟩ := bnd_some hf
  refine hc_i (va_runV (C := RX0) (As := [.int x1]) (rest := []) ⟨hx, hb, hml, hown, hts⟩ (c_x_isAsking hcall) (cwV 1 hts (lw_V q563 q565 qs9 q48 q566) rfl rfl rfl (by decide +kernel) ⟨(Nat.le_trans (Nat.le_of_ble_eq_true rfl) hRf), (Nat.le_trans (Nat.le_of_ble_eq_true rfl) hRl)⟩) (pre_V (q0 := 26) (ci := 0) NX.calling (fun U _ hW => NX.warm hW hN) hC rfl rfl) rfl rfl hl.1 rfl (lv_room (Nat.le_of_ble_eq_true rfl)) dX0_promise_2 ⟨hRc, hRs⟩) hA hC (fun H locs hC => ?_)
  refine lv_if_ne (tgt := 10) hx hb dX0_promise_5 (by decide) (fun c_5 => ?_) (fun c_5 => ?_)
  · have hf := if_f hf c_5
    refine lv_aload_n hx hb dX0_promise_10 rfl (lv_at hl 0 rfl) ?_
    refine va_get (ci := 0) (v := .ref (ta 0)) (C := RX0) (T := TX0) (N := 13) hx hb hts in_X0 hown hC.1 hC.2.1 (26) rfl rfl 1 (by decide) (hts _ q305) (fun _ h9 => h9) rfl dX0_promise_11 ?_
    refine va_getN (ci := 2) (v := .ref (ta 10)) (C := RX2) (T := TX2) (N := 12) (host := "SleeveSlips") hx hb hts in_X2 hown hC.1 hC.2.1 (10) rfl rfl 1 (by decide) (va_Nw.use rfl (hN.1 34)) (fun _ h9 => h9) rfl dX0_promise_14 ?_
    refine lv_iload_n hx hb dX0_promise_17 rfl (lv_at hl 1 rfl) ?_
    obtain ⟨hi_18, hf⟩ := ck_some hf
    refine va_iald hx hb hC.1 hC.2.1 (20) 0 rfl rfl hi_18 dX0_promise_18 ?_
    refine lv_if_ne (tgt := 41) hx hb dX0_promise_19 (by decide) (fun c_19 => ?_) (fun c_19 => ?_)
    · have hf := if_f hf c_19
      refine lv_bipush (v := (-2)) hx hb dX0_promise_41 (by decide) ?_
      obtain ⟨e_1, e_2, e_3, e_4, e_5, e_6, e_7, e_8, e_9, e_10⟩ := so_10 (Option.some.inj hf)
      subst e_1
      subst e_2
      subst e_3
      subst e_4
      subst e_5
      subst e_6
      subst e_7
      subst e_8
      subst e_9
      subst e_10
      exact K H locs ls _ rfl hC dX0_promise_43
    · have hf := if_t hf c_19
      refine lv_aload_n hx hb dX0_promise_22 rfl (lv_at hl 0 rfl) ?_
      refine va_get (ci := 0) (v := .ref (ba 0)) (C := RX0) (T := TX0) (N := 13) hx hb hts in_X0 hown hC.1 hC.2.1 (26) rfl rfl 0 (by decide) (hts _ q302) (fun _ h9 => h9) rfl dX0_promise_23 ?_
      refine va_getN (ci := 1) (v := .ref (ba 5)) (C := RX1) (T := TX1) (N := 13) (host := "SleeveSlips") hx hb hts in_X1 hown hC.1 hC.2.1 (0) rfl rfl 4 (by decide) (va_Nw.use rfl (hN.1 11)) (fun _ h9 => h9) rfl dX0_promise_26 ?_
      refine lv_iload_n hx hb dX0_promise_29 rfl (lv_at hl 1 rfl) ?_
      obtain ⟨hi_30, hf⟩ := ck_some hf
      refine va_iald hx hb hC.1 hC.2.1 (5) 0 rfl rfl hi_30 dX0_promise_30 ?_
      refine lv_aload_n hx hb dX0_promise_31 rfl (lv_at hl 0 rfl) ?_
      refine va_get (ci := 0) (v := .ref (ta 0)) (C := RX0) (T := TX0) (N := 13) hx hb hts in_X0 hown hC.1 hC.2.1 (26) rfl rfl 1 (by decide) (hts _ q305) (fun _ h9 => h9) rfl dX0_promise_32 ?_
      refine va_getN (ci := 2) (v := .int day) (C := RX2) (T := TX2) (N := 12) (host := "SleeveSlips") hx hb hts in_X2 hown hC.1 hC.2.1 (10) rfl rfl 8 (by decide) (va_Nw.use rfl (hN.1 42)) (fun _ h9 => h9) rfl dX0_promise_35 ?_
      refine lv_icmp_eq (tgt := 44) hx hb dX0_promise_38 (by decide) (fun c_38 => ?_) (fun c_38 => ?_)
      · have hf := if_t hf c_38
        refine lv_aload_n hx hb dX0_promise_44 rfl (lv_at hl 0 rfl) ?_
        refine va_get (ci := 0) (v := .ref (ba 0)) (C := RX0) (T := TX0) (N := 13) hx hb hts in_X0 hown hC.1 hC.2.1 (26) rfl rfl 0 (by decide) (hts _ q302) (fun _ h9 => h9) rfl dX0_promise_45 ?_
        refine va_getN (ci := 1) (v := .ref (ba 4)) (C := RX1) (T := TX1) (N := 13) (host := "SleeveSlips") hx hb hts in_X1 hown hC.1 hC.2.1 (0) rfl rfl 3 (by decide) (va_Nw.use rfl (hN.1 9)) (fun _ h9 => h9) rfl dX0_promise_48 ?_
        refine lv_iload_n hx hb dX0_promise_51 rfl (lv_at hl 1 rfl) ?_
        obtain ⟨hi_52, hf⟩ := ck_some hf
        refine va_iald hx hb hC.1 hC.2.1 (4) 0 rfl rfl hi_52 dX0_promise_52 ?_
        refine lv_istore_n (lv' := [(2, .int (whom x1.toNatClampNeg)), (0, .ref (ad 0)), (1, .int x1)]) hx hb dX0_promise_53 rfl hl (by decide) rfl (fun ls hl => ?_)
        refine lv_aload_n hx hb dX0_promise_54 rfl (lv_at hl 1 rfl) ?_
        refine lv_iload_n hx hb dX0_promise_55 rfl (lv_at hl 0 rfl) ?_
        obtain ⟨r_56, hcall, hf⟩ := bnd_some hf
        refine hc_i (va_runV (C := RX0) (As := [.int (whom x1.toNatClampNeg)]) (rest := []) ⟨hx, hb, hml, hown, hts⟩ (c_x_hasRoom hcall) (cwV 1 hts (lw_V q583 q585 qs10 q48 q586) rfl rfl rfl (by decide +kernel) ⟨(Nat.le_trans (Nat.le_of_ble_eq_true rfl) hRf), (Nat.le_trans (Nat.le_of_ble_eq_true rfl) hRl)⟩) (pre_V (q0 := 26) (ci := 0) NX.calling (fun U _ hW => NX.warm hW hN) hC rfl rfl) rfl rfl hl.1 rfl (lv_room (Nat.le_of_ble_eq_true rfl)) dX0_promise_56 ⟨hRc, hRs⟩) hA hC (fun H locs hC => ?_)
        refine lv_if_ne (tgt := 65) hx hb dX0_promise_59 (by decide) (fun c_59 => ?_) (fun c_59 => ?_)
        · have hf := if_f hf c_59
          refine lv_aload_n hx hb dX0_promise_65 rfl (lv_at hl 1 rfl) ?_
          refine va_get (ci := 0) (v := .ref (ta 0)) (C := RX0) (T := TX0) (N := 13) hx hb hts in_X0 hown hC.1 hC.2.1 (26) rfl rfl 1 (by decide) (hts _ q305) (fun _ h9 => h9) rfl dX0_promise_66 ?_
          refine lv_iconst (v := 0) hx hb dX0_promise_69 (by decide) ?_
          refine lv_iload_n hx hb dX0_promise_70 rfl (lv_at hl 2 rfl) ?_
          refine lv_iload_n hx hb dX0_promise_71 rfl (lv_at hl 0 rfl) ?_
          refine lv_aload_n hx hb dX0_promise_72 rfl (lv_at hl 1 rfl) ?_
          refine va_get (ci := 0) (v := .ref (ta 0)) (C := RX0) (T := TX0) (N := 13) hx hb hts in_X0 hown hC.1 hC.2.1 (26) rfl rfl 1 (by decide) (hts _ q305) (fun _ h9 => h9) rfl dX0_promise_73 ?_
          refine va_getN (ci := 2) (v := .ref (ta 1)) (C := RX2) (T := TX2) (N := 12) (host := "SleeveSlips") hx hb hts in_X2 hown hC.1 hC.2.1 (10) rfl rfl 0 (by decide) (va_Nw.use rfl (hN.1 33)) (fun _ h9 => h9) rfl dX0_promise_76 ?_
          refine lv_iload_n hx hb dX0_promise_79 rfl (lv_at hl 0 rfl) ?_
          obtain ⟨hi_80, hf⟩ := ck_some hf
          refine va_aldq hx hb hC.1 hC.2.1 11 4 rfl rfl hi_80 dX0_promise_80 ?_
          refine va_getN (ci := 3) (v := .int (many ((whom x1.toNatClampNeg).toNatClampNeg))) (C := RX3) (T := TX3) (N := 2) (host := "SleeveSlips") hx hb hts in_X3 hown hC.1 hC.2.1 (12 + (whom x1.toNatClampNeg).toNatClampNeg) (xw_sl (vp_lt hi_80)) rfl 1 (by decide) (va_Nw.use rfl (hN.1 31)) (fun _ h9 => h9) rfl dX0_promise_81 ?_
          obtain ⟨what_84, which_84, whose_84, place_84, deeds_84, hcall, hf⟩ := bnd5_some hf
          refine hs_v (va_runV (C := RX2) (As := [.int 0, .int x1, .int (whom x1.toNatClampNeg), .int (many ((whom x1.toNatClampNeg).toNatClampNeg))]) (rest := []) ⟨hx, hb, hml, hown, hts⟩ (c_x_know hcall) (cwV 4 hts (lw_V q587 q588 q589 q50 q590) rfl rfl rfl (by decide +kernel) ⟨(Nat.le_trans (Nat.le_of_ble_eq_true rfl) hRf), (Nat.le_trans (Nat.le_of_ble_eq_true rfl) hRl)⟩) (pre_VG (q0 := 0) (ci := 2) NX.calling (fun U _ hW => NX.warm hW hN) hC [0, 1, 2, 3, 4, 5, 6] rfl rfl rfl) rfl rfl hl.1 rfl (lv_room (Nat.le_of_ble_eq_true rfl)) dX0_promise_84 ⟨hRc, hRs⟩) hA hC (fun H locs hC => ?_)
          have hC : HC D gcl (gty d) A (xw d ad ba ta imgs room work price whom bday units worth due under people askings hangs items many slip became left what_84 which_84 whose_84 place_84 deeds_84 day won lost kept text typed rest bestSet tenths sortWorth sortDays row trace) s H locs := hC
          refine lv_aload_n hx hb dX0_promise_87 rfl (lv_at hl 1 rfl) ?_
          refine va_get (ci := 0) (v := .ref (ta 0)) (C := RX0) (T := TX0) (N := 13) hx hb hts in_X0 hown hC.1 hC.2.1 (26) rfl rfl 1 (by decide) (hts _ q305) (fun _ h9 => h9) rfl dX0_promise_88 ?_
          refine va_getN (ci := 2) (v := .ref (ta 1)) (C := RX2) (T := TX2) (N := 12) (host := "SleeveSlips") hx hb hts in_X2 hown hC.1 hC.2.1 (10) rfl rfl 0 (by decide) (va_Nw.use rfl (hN.1 33)) (fun _ h9 => h9) rfl dX0_promise_91 ?_
          refine lv_iload_n hx hb dX0_promise_94 rfl (lv_at hl 0 rfl) ?_
          obtain ⟨hi_95, hf⟩ := ck_some hf
          refine va_aldq hx hb hC.1 hC.2.1 11 4 rfl rfl hi_95 dX0_promise_95 ?_
          refine lv_iload_n hx hb dX0_promise_96 rfl (lv_at hl 2 rfl) ?_
          refine lv_aload_n hx hb dX0_promise_97 rfl (lv_at hl 1 rfl) ?_
          refine va_get (ci := 0) (v := .ref (ta 0)) (C := RX0) (T := TX0) (N := 13) hx hb hts in_X0 hown hC.1 hC.2.1 (26) rfl rfl 1 (by decide) (hts _ q305) (fun _ h9 => h9) rfl dX0_promise_98 ?_
          refine va_getN (ci := 2) (v := .ref (ta 1)) (C := RX2) (T := TX2) (N := 12) (host := "SleeveSlips") hx hb hts in_X2 hown hC.1 hC.2.1 (10) rfl rfl 0 (by decide) (va_Nw.use rfl (hN.1 33)) (fun _ h9 => h9) rfl dX0_promise_101 ?_
          refine lv_iload_n hx hb dX0_promise_104 rfl (lv_at hl 0 rfl) ?_
          obtain ⟨hi_105, hf⟩ := ck_some hf
          refine va_aldq hx hb hC.1 hC.2.1 11 4 rfl rfl hi_105 dX0_promise_105 ?_
          refine va_getN (ci := 3) (v := .int (many ((whom x1.toNatClampNeg).toNatClampNeg))) (C := RX3) (T := TX3) (N := 2) (host := "SleeveSlips") hx hb hts in_X3 hown hC.1 hC.2.1 (12 + (whom x1.toNatClampNeg).toNatClampNeg) (xw_sl (vp_lt hi_105)) rfl 1 (by decide) (va_Nw.use rfl (hN.1 31)) (fun _ h9 => h9) rfl dX0_promise_106 ?_
          obtain ⟨sl_109, mn_109, hcall, hf⟩ := bnd2_some hf
          refine hs_v (va_runV (C := RX3) (As := [.int x1, .int (many ((whom x1.toNatClampNeg).toNatClampNeg))]) (rest := []) ⟨hx, hb, hml, hown, hts⟩ (c_x_pin_ (vp_lt hi_95) hcall) (cwV 2 hts (lw_V q594 q595 q596 q51 q597) rfl rfl rfl (by decide +kernel) ⟨(Nat.le_trans (Nat.le_of_ble_eq_true rfl) hRf), (Nat.le_trans (Nat.le_of_ble_eq_true rfl) hRl)⟩) (pre_VG (q0 := 2 + (whom x1.toNatClampNeg).toNatClampNeg) (ci := 3) NX.calling (fun U _ hW => NX.warm hW hN) hC [0, 1, 2, 3, 4, 5, 6] rfl rfl (tw_sl (vp_lt hi_95))) rfl rfl hl.1 rfl (lv_room (Nat.le_of_ble_eq_true rfl)) dX0_promise_109 ⟨hRc, hRs⟩) hA hC (fun H locs hC => ?_)
          have hC : HC D gcl (gty d) A (xw d ad ba ta imgs room work price whom bday units worth due under people askings hangs items (upd many ((whom x1.toNatClampNeg).toNatClampNeg) mn_109) (va_up slip ((whom x1.toNatClampNeg).toNatClampNeg) sl_109) became left what_84 which_84 whose_84 place_84 deeds_84 day won lost kept text typed rest bestSet tenths sortWorth sortDays row trace) s H locs := hC
          refine lv_aload_n hx hb dX0_promise_112 rfl (lv_at hl 1 rfl) ?_
          refine va_get (ci := 0) (v := .ref (ta 0)) (C := RX0) (T := TX0) (N := 13) hx hb hts in_X0 hown hC.1 hC.2.1 (26) rfl rfl 1 (by decide) (hts _ q305) (fun _ h9 => h9) rfl dX0_promise_113 ?_
          refine va_getN (ci := 2) (v := .ref (ta 10)) (C := RX2) (T := TX2) (N := 12) (host := "SleeveSlips") hx hb hts in_X2 hown hC.1 hC.2.1 (10) rfl rfl 1 (by decide) (va_Nw.use rfl (hN.1 34)) (fun _ h9 => h9) rfl dX0_promise_116 ?_
          refine lv_iload_n hx hb dX0_promise_119 rfl (lv_at hl 2 rfl) ?_
          refine lv_iconst (v := 1) hx hb dX0_promise_120 (by decide) ?_
          obtain ⟨hi_121, hf⟩ := ck_some hf
          refine va_iast hx hb hC.1 hC.2.1 hC.2.2.1 hC.2.2.2 (20) 0 rfl rfl hi_121 dX0_promise_121 (fun H locs hP hD hS => ?_)
          have hC : HC D gcl (gty d) A (xw d ad ba ta imgs room work price whom bday units worth due under people askings hangs items (upd many ((whom x1.toNatClampNeg).toNatClampNeg) mn_109) (va_up slip ((whom x1.toNatClampNeg).toNatClampNeg) sl_109) (upd became x1.toNatClampNeg 1) left what_84 which_84 whose_84 place_84 deeds_84 day won lost kept text typed rest bestSet tenths sortWorth sortDays row trace) s H locs := ⟨hC.1, hP, hD, hS⟩
          refine lv_aload_n hx hb dX0_promise_122 rfl (lv_at hl 1 rfl) ?_
          refine va_get (ci := 0) (v := .ref (ta 0)) (C := RX0) (T := TX0) (N := 13) hx hb hts in_X0 hown hC.1 hC.2.1 (26) rfl rfl 1 (by decide) (hts _ q305) (fun _ h9 => h9) rfl dX0_promise_123 ?_
          refine va_getN (ci := 2) (v := .ref (ta 11)) (C := RX2) (T := TX2) (N := 12) (host := "SleeveSlips") hx hb hts in_X2 hown hC.1 hC.2.1 (10) rfl rfl 2 (by decide) (va_Nw.use rfl (hN.1 35)) (fun _ h9 => h9) rfl dX0_promise_126 ?_
          refine lv_iload_n hx hb dX0_promise_129 rfl (lv_at hl 2 rfl) ?_
          refine lv_aload_n hx hb dX0_promise_130 rfl (lv_at hl 1 rfl) ?_
          refine va_get (ci := 0) (v := .ref (ba 0)) (C := RX0) (T := TX0) (N := 13) hx hb hts in_X0 hown hC.1 hC.2.1 (26) rfl rfl 0 (by decide) (hts _ q302) (fun _ h9 => h9) rfl dX0_promise_131 ?_
          refine va_getN (ci := 1) (v := .ref (ba 6)) (C := RX1) (T := TX1) (N := 13) (host := "SleeveSlips") hx hb hts in_X1 hown hC.1 hC.2.1 (0) rfl rfl 5 (by decide) (va_Nw.use rfl (hN.1 13)) (fun _ h9 => h9) rfl dX0_promise_134 ?_
          refine lv_iload_n hx hb dX0_promise_137 rfl (lv_at hl 2 rfl) ?_
          obtain ⟨hi_138, hf⟩ := ck_some hf
          refine va_iald hx hb hC.1 hC.2.1 (6) 0 rfl rfl hi_138 dX0_promise_138 ?_
          obtain ⟨hi_139, hf⟩ := ck_some hf
          refine va_iast hx hb hC.1 hC.2.1 hC.2.2.1 hC.2.2.2 (21) 0 rfl rfl hi_139 dX0_promise_139 (fun H locs hP hD hS => ?_)
          have hC : HC D gcl (gty d) A (xw d ad ba ta imgs room work price whom bday units worth due under people askings hangs items (upd many ((whom x1.toNatClampNeg).toNatClampNeg) mn_109) (va_up slip ((whom x1.toNatClampNeg).toNatClampNeg) sl_109) (upd became x1.toNatClampNeg 1) (upd left x1.toNatClampNeg (units x1.toNatClampNeg)) what_84 which_84 whose_84 place_84 deeds_84 day won lost kept text typed rest bestSet tenths sortWorth sortDays row trace) s H locs := ⟨hC.1, hP, hD, hS⟩
          refine lv_aload_n hx hb dX0_promise_140 rfl (lv_at hl 1 rfl) ?_
          refine va_get (ci := 0) (v := .ref (ta 0)) (C := RX0) (T := TX0) (N := 13) hx hb hts in_X0 hown hC.1 hC.2.1 (26) rfl rfl 1 (by decide) (hts _ q305) (fun _ h9 => h9) rfl dX0_promise_141 ?_
          refine va_getN (ci := 2) (v := .ref (ta 1)) (C := RX2) (T := TX2) (N := 12) (host := "SleeveSlips") hx hb hts in_X2 hown hC.1 hC.2.1 (10) rfl rfl 0 (by decide) (va_Nw.use rfl (hN.1 33)) (fun _ h9 => h9) rfl dX0_promise_144 ?_
          refine lv_iload_n hx hb dX0_promise_147 rfl (lv_at hl 0 rfl) ?_
          obtain ⟨hi_148, hf⟩ := ck_some hf
          refine va_aldq hx hb hC.1 hC.2.1 11 4 rfl rfl hi_148 dX0_promise_148 ?_
          refine va_getN (ci := 3) (v := .int ((upd many ((whom x1.toNatClampNeg).toNatClampNeg) mn_109) ((whom x1.toNatClampNeg).toNatClampNeg))) (C := RX3) (T := TX3) (N := 2) (host := "SleeveSlips") hx hb hts in_X3 hown hC.1 hC.2.1 (12 + (whom x1.toNatClampNeg).toNatClampNeg) (xw_sl (vp_lt hi_148)) rfl 1 (by decide) (va_Nw.use rfl (hN.1 31)) (fun _ h9 => h9) rfl dX0_promise_149 ?_
          obtain ⟨e_1, e_2, e_3, e_4, e_5, e_6, e_7, e_8, e_9, e_10⟩ := so_10 (Option.some.inj hf)
          subst e_1
          subst e_2
          subst e_3
          subst e_4
          subst e_5
          subst e_6
          subst e_7
          subst e_8
          subst e_9
          subst e_10
          exact K H locs ls _ rfl hC dX0_promise_152
        · have hf := if_t hf c_59
          refine lv_bipush (v := (-3)) hx hb dX0_promise_62 (by decide) ?_
          obtain ⟨e_1, e_2, e_3, e_4, e_5, e_6, e_7, e_8, e_9, e_10⟩ := so_10 (Option.some.inj hf)
          subst e_1
          subst e_2
          subst e_3
          subst e_4
          subst e_5
          subst e_6
          subst e_7
          subst e_8
          subst e_9
          subst e_10
          exact K H locs ls _ rfl hC dX0_promise_64
      · have hf := if_f hf c_38
        refine lv_bipush (v := (-2)) hx hb dX0_promise_41 (by decide) ?_
        obtain ⟨e_1, e_2, e_3, e_4, e_5, e_6, e_7, e_8, e_9, e_10⟩ := so_10 (Option.some.inj hf)
        subst e_1
        subst e_2
        subst e_3
        subst e_4
        subst e_5
        subst e_6
        subst e_7
        subst e_8
        subst e_9
        subst e_10
        exact K H locs ls _ rfl hC dX0_promise_43
  · have hf := if_t hf c_5
    refine lv_iconst (v := (-1)) hx hb dX0_promise_8 (by decide) ?_
    obtain ⟨e_1, e_2, e_3, e_4, e_5, e_6, e_7, e_8, e_9, e_10⟩ := so_10 (Option.some.inj hf)
    subst e_1
    subst e_2
    subst e_3
    subst e_4
    subst e_5
    subst e_6
    subst e_7
    subst e_8
    subst e_9
    subst e_10
    exact K H locs ls _ rfl hC dX0_promise_9
set_option maxRecDepth 100000 in
theorem c_x_promise {l : Launch} {sz : Nat} {D : va_G} {d : Nat → ClassId} {ad : Nat → Nat} {ba : Nat → Nat} {ta : Nat → Nat} {imgs : va_W} {room : Nat → Int32} {work : Nat → Int32} {price : Nat → Int32} {whom : Nat → Int32} {bday : Nat → Int32} {units : Nat → Int32} {worth : Nat → Int32} {due : Nat → Int32} {under : Nat → Int32} {people : Int32} {askings : Int32} {hangs : Int32} {items : Int32} {many : Nat → Int32} {slip : Nat → Nat → Int32} {became : Nat → Int32} {left : Nat → Int32} {what : Nat → Int32} {which : Nat → Int32} {whose : Nat → Int32} {place : Nat → Int32} {deeds : Int32} {day : Int32} {won : Int32} {lost : Int32} {kept : Int32} {text : Nat → Int32} {typed : Int32} {rest : Nat → Int32} {bestSet : Int32} {tenths : Nat → Int32} {sortWorth : Nat → Int32} {sortDays : Nat → Int32} {row : Nat → Int32} {trace : Int64} {x1 : Int32} {r : Int32} {many_r : Nat → Int32} {slip_r : Nat → Nat → Int32} {became_r : Nat → Int32} {left_r : Nat → Int32} {what_r : Nat → Int32} {which_r : Nat → Int32} {whose_r : Nat → Int32} {place_r : Nat → Int32} {deeds_r : Int32} (hf : x_promise room whom bday units askings many slip became left what which whose place deeds day x1 = some (r, many_r, slip_r, became_r, left_r, what_r, which_r, whose_r, place_r, deeds_r)) : MI l yX0_promise (ws_ yX0_promise cX0_promise 3 (some .int)) { frames := 2, cells := 0, slots := 0, locals := 84 } D gcl (gty d) NX (xw d ad ba ta imgs room work price whom bday units worth due under people askings hangs items many slip became left what which whose place deeds day won lost kept text typed rest bestSet tenths sortWorth sortDays row trace) (xw d ad ba ta imgs room work price whom bday units worth due under people askings hangs items many_r slip_r became_r left_r what_r which_r whose_r place_r deeds_r day won lost kept text typed rest bestSet tenths sortWorth sortDays row trace) sz [.ref (ad 0), .int x1] r :=
  MI.of (by decide) [.ref (ad 0), .int x1] [(0, .ref (ad 0)), (1, .int x1)] (Nat.le_of_ble_eq_true rfl) rfl (fun p e s m below meth c ls Q hx hb hml hown hts hN hA hC hl K => w_x_promise hx hb hml hown hts hN hA (Nat.le_refl _) (Nat.le_refl _) (Nat.le_refl _) (Nat.le_refl _) hf hC hl K)

def x_letOff (askings : Int32) (many : Nat → Int32) (slip : Nat → Nat → Int32) (became : Nat → Int32) (left : Nat → Int32) (what : Nat → Int32) (which : Nat → Int32) (whose : Nat → Int32) (place : Nat → Int32) (deeds : Int32) (x1 : Int32) : Option (Int32 × (Nat → Int32) × (Nat → Nat → Int32) × (Nat → Int32) × (Nat → Int32) × (Nat → Int32) × (Nat → Int32) × (Nat → Int32) × Int32) :=
  bnd (x_isAsking askings x1) fun r_2 =>
  if r_2 = 0 then (some ((-1), many, slip, became, what, which, whose, place, deeds)) else
  bnd (x_isPinned became x1) fun r_12 =>
  if r_12 = 0 then (some ((-2), many, slip, became, what, which, whose, place, deeds)) else
  bnd7 (x_goes many slip what which whose place deeds 1 x1) fun many_27 slip_27 what_27 which_27 whose_27 place_27 deeds_27 =>
  ck x1 8 <| ck x1 8 <| some (left x1.toNatClampNeg, many_27, slip_27, upd became x1.toNatClampNeg 3, what_27, which_27, whose_27, place_27, deeds_27)
set_option maxHeartbeats 4000000 in
set_option maxRecDepth 100000 in
theorem w_x_letOff {p : Program} {l : Launch} {e : Env} {R : Room} {s : State} {m : MethodId} {args : Array Value} {below : List Frame} {meth : Method} {c : Code} {H : Heap} {locs : List Loc} {cells slots : Nat} {Q : State → Prop} {A : Nat → Prop} {ls : Array Slot} {D : va_G} {d : Nat → ClassId} {ad : Nat → Nat} {ba : Nat → Nat} {ta : Nat → Nat} {imgs : va_W} {room : Nat → Int32} {work : Nat → Int32} {price : Nat → Int32} {whom : Nat → Int32} {bday : Nat → Int32} {units : Nat → Int32} {worth : Nat → Int32} {due : Nat → Int32} {under : Nat → Int32} {people : Int32} {askings : Int32} {hangs : Int32} {items : Int32} {many : Nat → Int32} {slip : Nat → Nat → Int32} {became : Nat → Int32} {left : Nat → Int32} {what : Nat → Int32} {which : Nat → Int32} {whose : Nat → Int32} {place : Nat → Int32} {deeds : Int32} {day : Int32} {won : Int32} {lost : Int32} {kept : Int32} {text : Nat → Int32} {typed : Int32} {rest : Nat → Int32} {bestSet : Int32} {tenths : Nat → Int32} {sortWorth : Nat → Int32} {sortDays : Nat → Int32} {row : Nat → Int32} {trace : Int64} {x1 : Int32} {r : Int32} {many_r : Nat → Int32} {slip_r : Nat → Nat → Int32} {became_r : Nat → Int32} {what_r : Nat → Int32} {which_r : Nat → Int32} {whose_r : Nat → Int32} {place_r : Nat → Int32} {deeds_r : Int32} (hx : p.tables.exec = Jvm.exec) (hb : c.code = cX0_letOff) (hml : c.maxLocals = 2) (hown : s.vm.findClass RX0 = some m.cls) (hts : ∀ w ∈ lw_all, w.before args s = true) (hN : NX s) (hA : ∀ q, s.heap.size ≤ q → A q) (hRf : 3 ≤ R.frames) (hRl : 107 ≤ R.locals) (hRc : cells ≤ R.cells) (hRs : slots ≤ R.slots) (hf : x_letOff askings many slip became left what which whose place deeds x1 = some (r, many_r, slip_r, became_r, what_r, which_r, whose_r, place_r, deeds_r)) (hC : HC D gcl (gty d) A (xw d ad ba ta imgs room work price whom bday units worth due under people askings hangs items many slip became left what which whose place deeds day won lost kept text typed rest bestSet tenths sortWorth sortDays row trace) s H locs) (hl : lv_has ls 2 [(0, .ref (ad 0)), (1, .int x1)]) (K : ∀ (H : Heap) (locs : List Loc) (ls : Array Slot) (pc : Nat), narrow .int (.int r) = .int r → HC D gcl (gty d) A (xw d ad ba ta imgs room work price whom bday units worth due under people askings hangs items many_r slip_r became_r left what_r which_r whose_r place_r deeds_r day won lost kept text typed rest bestSet tenths sortWorth sortDays row trace) s H locs → decode cX0_letOff pc = .ok (.ireturn, 1) → W p l e R s m args below meth c H locs cells slots Q (F0 m pc ls [.int r])) : W p l e R s m args below meth c H locs cells slots Q (F0 m 0 ls []) := by
  unfold x_letOff at hf
  refine lv_aload_n hx hb dX0_letOff_0 rfl (lv_at hl 0 rfl) ?_
  refine lv_iload_n hx hb dX0_letOff_1 rfl (lv_at hl 1 rfl) ?_
  obtain ⟨r_2, hcall, hf⟩ := bnd_some hf
  refine hc_i (va_runV (C := RX0) (As := [.int x1]) (rest := []) ⟨hx, hb, hml, hown, hts⟩ (c_x_isAsking hcall) (cwV 1 hts (lw_V q563 q565 qs9 q48 q566) rfl rfl rfl (by decide +kernel) ⟨(Nat.le_trans (Nat.le_of_ble_eq_true rfl) hRf), (Nat.le_trans (Nat.le_of_ble_eq_true rfl) hRl)⟩) (pre_V (q0 := 26) (ci := 0) NX.calling (fun U _ hW => NX.warm hW hN) hC rfl rfl) rfl rfl hl.1 rfl (lv_room (Nat.le_of_ble_eq_true rfl)) dX0_letOff_2 ⟨hRc, hRs⟩) hA hC (fun H locs hC => ?_)
  refine lv_if_ne (tgt := 10) hx hb dX0_letOff_5 (by decide) (fun c_5 => ?_) (fun c_5 => ?_)
  · have hf := if_f hf c_5
    refine lv_aload_n hx hb dX0_letOff_10 rfl (lv_at hl 0 rfl) ?_
    refine lv_iload_n hx hb dX0_letOff_11 rfl (lv_at hl 1 rfl) ?_
    obtain ⟨r_12, hcall, hf⟩ := bnd_some hf
    refine hc_i (va_runV (C := RX0) (As := [.int x1]) (rest := []) ⟨hx, hb, hml, hown, hts⟩ (c_x_isPinned hcall) (cwV 1 hts (lw_V q602 q604 qs11 q48 q605) rfl rfl rfl (by decide +kernel) ⟨(Nat.le_trans (Nat.le_of_ble_eq_true rfl) hRf), (Nat.le_trans (Nat.le_of_ble_eq_true rfl) hRl)⟩) (pre_V (q0 := 26) (ci := 0) NX.calling (fun U _ hW => NX.warm hW hN) hC rfl rfl) rfl rfl hl.1 rfl (lv_room (Nat.le_of_ble_eq_true rfl)) dX0_letOff_12 ⟨hRc, hRs⟩) hA hC (fun H locs hC => ?_)
    refine lv_if_ne (tgt := 21) hx hb dX0_letOff_15 (by decide) (fun c_15 => ?_) (fun c_15 => ?_)
    · have hf := if_f hf c_15
      refine lv_aload_n hx hb dX0_letOff_21 rfl (lv_at hl 0 rfl) ?_
      refine va_get (ci := 0) (v := .ref (ta 0)) (C := RX0) (T := TX0) (N := 13) hx hb hts in_X0 hown hC.1 hC.2.1 (26) rfl rfl 1 (by decide) (hts _ q305) (fun _ h9 => h9) rfl dX0_letOff_22 ?_
      refine lv_iconst (v := 1) hx hb dX0_letOff_25 (by decide) ?_
      refine lv_iload_n hx hb dX0_letOff_26 rfl (lv_at hl 1 rfl) ?_
      obtain ⟨many_27, slip_27, what_27, which_27, whose_27, place_27, deeds_27, hcall, hf⟩ := bnd7_some hf
      refine hs_v (va_runV (C := RX2) (As := [.int 1, .int x1]) (rest := []) ⟨hx, hb, hml, hown, hts⟩ (c_x_goes hcall) (cwV 2 hts (lw_V q606 q607 q608 q50 q609) rfl rfl rfl (by decide +kernel) ⟨(Nat.le_trans (Nat.le_of_ble_eq_true rfl) hRf), (Nat.le_trans (Nat.le_of_ble_eq_true rfl) hRl)⟩) (pre_VG (q0 := 0) (ci := 2) NX.calling (fun U _ hW => NX.warm hW hN) hC [0, 1, 2, 3, 4, 5, 6] rfl rfl rfl) rfl rfl hl.1 rfl (lv_room (Nat.le_of_ble_eq_true rfl)) dX0_letOff_27 ⟨hRc, hRs⟩) hA hC (fun H locs hC => ?_)
      have hC : HC D gcl (gty d) A (xw d ad ba ta imgs room work price whom bday units worth due under people askings hangs items many_27 slip_27 became left what_27 which_27 whose_27 place_27 deeds_27 day won lost kept text typed rest bestSet tenths sortWorth sortDays row trace) s H locs := hC
      refine lv_aload_n hx hb dX0_letOff_30 rfl (lv_at hl 0 rfl) ?_
      refine va_get (ci := 0) (v := .ref (ta 0)) (C := RX0) (T := TX0) (N := 13) hx hb hts in_X0 hown hC.1 hC.2.1 (26) rfl rfl 1 (by decide) (hts _ q305) (fun _ h9 => h9) rfl dX0_letOff_31 ?_
      refine va_getN (ci := 2) (v := .ref (ta 10)) (C := RX2) (T := TX2) (N := 12) (host := "SleeveSlips") hx hb hts in_X2 hown hC.1 hC.2.1 (10) rfl rfl 1 (by decide) (va_Nw.use rfl (hN.1 34)) (fun _ h9 => h9) rfl dX0_letOff_34 ?_
      refine lv_iload_n hx hb dX0_letOff_37 rfl (lv_at hl 1 rfl) ?_
      refine lv_iconst (v := 3) hx hb dX0_letOff_38 (by decide) ?_
      obtain ⟨hi_39, hf⟩ := ck_some hf
      refine va_iast hx hb hC.1 hC.2.1 hC.2.2.1 hC.2.2.2 (20) 0 rfl rfl hi_39 dX0_letOff_39 (fun H locs hP hD hS => ?_)
      have hC : HC D gcl (gty d) A (xw d ad ba ta imgs room work price whom bday units worth due under people askings hangs items many_27 slip_27 (upd became x1.toNatClampNeg 3) left what_27 which_27 whose_27 place_27 deeds_27 day won lost kept text typed rest bestSet tenths sortWorth sortDays row trace) s H locs := ⟨hC.1, hP, hD, hS⟩
      refine lv_aload_n hx hb dX0_letOff_40 rfl (lv_at hl 0 rfl) ?_
      refine va_get (ci := 0) (v := .ref (ta 0)) (C := RX0) (T := TX0) (N := 13) hx hb hts in_X0 hown hC.1 hC.2.1 (26) rfl rfl 1 (by decide) (hts _ q305) (fun _ h9 => h9) rfl dX0_letOff_41 ?_
      refine va_getN (ci := 2) (v := .ref (ta 11)) (C := RX2) (T := TX2) (N := 12) (host := "SleeveSlips") hx hb hts in_X2 hown hC.1 hC.2.1 (10) rfl rfl 2 (by decide) (va_Nw.use rfl (hN.1 35)) (fun _ h9 => h9) rfl dX0_letOff_44 ?_
      refine lv_iload_n hx hb dX0_letOff_47 rfl (lv_at hl 1 rfl) ?_
      obtain ⟨hi_48, hf⟩ := ck_some hf
      refine va_iald hx hb hC.1 hC.2.1 (21) 0 rfl rfl hi_48 dX0_letOff_48 ?_
      obtain ⟨e_1, e_2, e_3, e_4, e_5, e_6, e_7, e_8, e_9⟩ := so_9 (Option.some.inj hf)
      subst e_1
      subst e_2
      subst e_3
      subst e_4
      subst e_5
      subst e_6
      subst e_7
      subst e_8
      subst e_9
      exact K H locs ls _ rfl hC dX0_letOff_49
    · have hf := if_t hf c_15
      refine lv_bipush (v := (-2)) hx hb dX0_letOff_18 (by decide) ?_
      obtain ⟨e_1, e_2, e_3, e_4, e_5, e_6, e_7, e_8, e_9⟩ := so_9 (Option.some.inj hf)
      subst e_1
      subst e_2
      subst e_3
      subst e_4
      subst e_5
      subst e_6
      subst e_7
      subst e_8
      subst e_9
      exact K H locs ls _ rfl hC dX0_letOff_20
  · have hf := if_t hf c_5
    refine lv_iconst (v := (-1)) hx hb dX0_letOff_8 (by decide) ?_
    obtain ⟨e_1, e_2, e_3, e_4, e_5, e_6, e_7, e_8, e_9⟩ := so_9 (Option.some.inj hf)
    subst e_1
    subst e_2
    subst e_3
    subst e_4
    subst e_5
    subst e_6
    subst e_7
    subst e_8
    subst e_9
    exact K H locs ls _ rfl hC dX0_letOff_9
set_option maxRecDepth 100000 in
theorem c_x_letOff {l : Launch} {sz : Nat} {D : va_G} {d : Nat → ClassId} {ad : Nat → Nat} {ba : Nat → Nat} {ta : Nat → Nat} {imgs : va_W} {room : Nat → Int32} {work : Nat → Int32} {price : Nat → Int32} {whom : Nat → Int32} {bday : Nat → Int32} {units : Nat → Int32} {worth : Nat → Int32} {due : Nat → Int32} {under : Nat → Int32} {people : Int32} {askings : Int32} {hangs : Int32} {items : Int32} {many : Nat → Int32} {slip : Nat → Nat → Int32} {became : Nat → Int32} {left : Nat → Int32} {what : Nat → Int32} {which : Nat → Int32} {whose : Nat → Int32} {place : Nat → Int32} {deeds : Int32} {day : Int32} {won : Int32} {lost : Int32} {kept : Int32} {text : Nat → Int32} {typed : Int32} {rest : Nat → Int32} {bestSet : Int32} {tenths : Nat → Int32} {sortWorth : Nat → Int32} {sortDays : Nat → Int32} {row : Nat → Int32} {trace : Int64} {x1 : Int32} {r : Int32} {many_r : Nat → Int32} {slip_r : Nat → Nat → Int32} {became_r : Nat → Int32} {what_r : Nat → Int32} {which_r : Nat → Int32} {whose_r : Nat → Int32} {place_r : Nat → Int32} {deeds_r : Int32} (hf : x_letOff askings many slip became left what which whose place deeds x1 = some (r, many_r, slip_r, became_r, what_r, which_r, whose_r, place_r, deeds_r)) : MI l yX0_letOff (ws_ yX0_letOff cX0_letOff 2 (some .int)) { frames := 3, cells := 0, slots := 0, locals := 107 } D gcl (gty d) NX (xw d ad ba ta imgs room work price whom bday units worth due under people askings hangs items many slip became left what which whose place deeds day won lost kept text typed rest bestSet tenths sortWorth sortDays row trace) (xw d ad ba ta imgs room work price whom bday units worth due under people askings hangs items many_r slip_r became_r left what_r which_r whose_r place_r deeds_r day won lost kept text typed rest bestSet tenths sortWorth sortDays row trace) sz [.ref (ad 0), .int x1] r :=
  MI.of (by decide) [.ref (ad 0), .int x1] [(0, .ref (ad 0)), (1, .int x1)] (Nat.le_of_ble_eq_true rfl) rfl (fun p e s m below meth c ls Q hx hb hml hown hts hN hA hC hl K => w_x_letOff hx hb hml hown hts hN hA (Nat.le_refl _) (Nat.le_refl _) (Nat.le_refl _) (Nat.le_refl _) hf hC hl K)

def x_breaks (worth : Nat → Int32) (askings : Int32) (many : Nat → Int32) (slip : Nat → Nat → Int32) (became : Nat → Int32) (what : Nat → Int32) (which : Nat → Int32) (whose : Nat → Int32) (place : Nat → Int32) (deeds : Int32) (lost : Int32) (x1 : Int32) : Option (Int32 × (Nat → Int32) × (Nat → Nat → Int32) × (Nat → Int32) × (Nat → Int32) × (Nat → Int32) × (Nat → Int32) × (Nat → Int32) × Int32 × Int32) :=
  bnd (x_isAsking askings x1) fun r_2 =>
  if r_2 = 0 then (some ((-1), many, slip, became, what, which, whose, place, deeds, lost)) else
  bnd (x_isPinned became x1) fun r_12 =>
  if r_12 = 0 then (some ((-2), many, slip, became, what, which, whose, place, deeds, lost)) else
  bnd7 (x_goes many slip what which whose place deeds 2 x1) fun many_27 slip_27 what_27 which_27 whose_27 place_27 deeds_27 =>
  ck x1 8 <| ck x1 8 <| ck x1 8 <| some (worth x1.toNatClampNeg, many_27, slip_27, upd became x1.toNatClampNeg 3, what_27, which_27, whose_27, place_27, deeds_27, lost + (worth x1.toNatClampNeg))
set_option maxHeartbeats 4000000 in
set_option maxRecDepth 100000 in
theorem w_x_breaks {p : Program} {l : Launch} {e : Env} {R : Room} {s : State} {m : MethodId} {args : Array Value} {below : List Frame} {meth : Method} {c : Code} {H : Heap} {locs : List Loc} {cells slots : Nat} {Q : State → Prop} {A : Nat → Prop} {ls : Array Slot} {D : va_G} {d : Nat → ClassId} {ad : Nat → Nat} {ba : Nat → Nat} {ta : Nat → Nat} {imgs : va_W} {room : Nat → Int32} {work : Nat → Int32} {price : Nat → Int32} {whom : Nat → Int32} {bday : Nat → Int32} {units : Nat → Int32} {worth : Nat → Int32} {due : Nat → Int32} {under : Nat → Int32} {people : Int32} {askings : Int32} {hangs : Int32} {items : Int32} {many : Nat → Int32} {slip : Nat → Nat → Int32} {became : Nat → Int32} {left : Nat → Int32} {what : Nat → Int32} {which : Nat → Int32} {whose : Nat → Int32} {place : Nat → Int32} {deeds : Int32} {day : Int32} {won : Int32} {lost : Int32} {kept : Int32} {text : Nat → Int32} {typed : Int32} {rest : Nat → Int32} {bestSet : Int32} {tenths : Nat → Int32} {sortWorth : Nat → Int32} {sortDays : Nat → Int32} {row : Nat → Int32} {trace : Int64} {x1 : Int32} {r : Int32} {many_r : Nat → Int32} {slip_r : Nat → Nat → Int32} {became_r : Nat → Int32} {what_r : Nat → Int32} {which_r : Nat → Int32} {whose_r : Nat → Int32} {place_r : Nat → Int32} {deeds_r : Int32} {lost_r : Int32} (hx : p.tables.exec = Jvm.exec) (hb : c.code = cX0_breaks) (hml : c.maxLocals = 2) (hown : s.vm.findClass RX0 = some m.cls) (hts : ∀ w ∈ lw_all, w.before args s = true) (hN : NX s) (hA : ∀ q, s.heap.size ≤ q → A q) (hRf : 3 ≤ R.frames) (hRl : 107 ≤ R.locals) (hRc : cells ≤ R.cells) (hRs : slots ≤ R.slots) (hf : x_breaks worth askings many slip became what which whose place deeds lost x1 = some (r, many_r, slip_r, became_r, what_r, which_r, whose_r, place_r, deeds_r, lost_r)) (hC : HC D gcl (gty d) A (xw d ad ba ta imgs room work price whom bday units worth due under people askings hangs items many slip became left what which whose place deeds day won lost kept text typed rest bestSet tenths sortWorth sortDays row trace) s H locs) (hl : lv_has ls 2 [(0, .ref (ad 0)), (1, .int x1)]) (K : ∀ (H : Heap) (locs : List Loc) (ls : Array Slot) (pc : Nat), narrow .int (.int r) = .int r → HC D gcl (gty d) A (xw d ad ba ta imgs room work price whom bday units worth due under people askings hangs items many_r slip_r became_r left what_r which_r whose_r place_r deeds_r day won lost_r kept text typed rest bestSet tenths sortWorth sortDays row trace) s H locs → decode cX0_breaks pc = .ok (.ireturn, 1) → W p l e R s m args below meth c H locs cells slots Q (F0 m pc ls [.int r])) : W p l e R s m args below meth c H locs cells slots Q (F0 m 0 ls []) := by
  unfold x_breaks at hf
  refine lv_aload_n hx hb dX0_breaks_0 rfl (lv_at hl 0 rfl) ?_
  refine lv_iload_n hx hb dX0_breaks_1 rfl (lv_at hl 1 rfl) ?_
  obtain ⟨r_2, hcall, hf⟩ := bnd_some hf
  refine hc_i (va_runV (C := RX0) (As := [.int x1]) (rest := []) ⟨hx, hb, hml, hown, hts⟩ (c_x_isAsking hcall) (cwV 1 hts (lw_V q563 q565 qs9 q48 q566) rfl rfl rfl (by decide +kernel) ⟨(Nat.le_trans (Nat.le_of_ble_eq_true rfl) hRf), (Nat.le_trans (Nat.le_of_ble_eq_true rfl) hRl)⟩) (pre_V (q0 := 26) (ci := 0) NX.calling (fun U _ hW => NX.warm hW hN) hC rfl rfl) rfl rfl hl.1 rfl (lv_room (Nat.le_of_ble_eq_true rfl)) dX0_breaks_2 ⟨hRc, hRs⟩) hA hC (fun H locs hC => ?_)
  refine lv_if_ne (tgt := 10) hx hb dX0_breaks_5 (by decide) (fun c_5 => ?_) (fun c_5 => ?_)
  · have hf := if_f hf c_5
    refine lv_aload_n hx hb dX0_breaks_10 rfl (lv_at hl 0 rfl) ?_
    refine lv_iload_n hx hb dX0_breaks_11 rfl (lv_at hl 1 rfl) ?_
    obtain ⟨r_12, hcall, hf⟩ := bnd_some hf
    refine hc_i (va_runV (C := RX0) (As := [.int x1]) (rest := []) ⟨hx, hb, hml, hown, hts⟩ (c_x_isPinned hcall) (cwV 1 hts (lw_V q602 q604 qs11 q48 q605) rfl rfl rfl (by decide +kernel) ⟨(Nat.le_trans (Nat.le_of_ble_eq_true rfl) hRf), (Nat.le_trans (Nat.le_of_ble_eq_true rfl) hRl)⟩) (pre_V (q0 := 26) (ci := 0) NX.calling (fun U _ hW => NX.warm hW hN) hC rfl rfl) rfl rfl hl.1 rfl (lv_room (Nat.le_of_ble_eq_true rfl)) dX0_breaks_12 ⟨hRc, hRs⟩) hA hC (fun H locs hC => ?_)
    refine lv_if_ne (tgt := 21) hx hb dX0_breaks_15 (by decide) (fun c_15 => ?_) (fun c_15 => ?_)
    · have hf := if_f hf c_15
      refine lv_aload_n hx hb dX0_breaks_21 rfl (lv_at hl 0 rfl) ?_
      refine va_get (ci := 0) (v := .ref (ta 0)) (C := RX0) (T := TX0) (N := 13) hx hb hts in_X0 hown hC.1 hC.2.1 (26) rfl rfl 1 (by decide) (hts _ q305) (fun _ h9 => h9) rfl dX0_breaks_22 ?_
      refine lv_iconst (v := 2) hx hb dX0_breaks_25 (by decide) ?_
      refine lv_iload_n hx hb dX0_breaks_26 rfl (lv_at hl 1 rfl) ?_
      obtain ⟨many_27, slip_27, what_27, which_27, whose_27, place_27, deeds_27, hcall, hf⟩ := bnd7_some hf
      refine hs_v (va_runV (C := RX2) (As := [.int 2, .int x1]) (rest := []) ⟨hx, hb, hml, hown, hts⟩ (c_x_goes hcall) (cwV 2 hts (lw_V q606 q607 q608 q50 q609) rfl rfl rfl (by decide +kernel) ⟨(Nat.le_trans (Nat.le_of_ble_eq_true rfl) hRf), (Nat.le_trans (Nat.le_of_ble_eq_true rfl) hRl)⟩) (pre_VG (q0 := 0) (ci := 2) NX.calling (fun U _ hW => NX.warm hW hN) hC [0, 1, 2, 3, 4, 5, 6] rfl rfl rfl) rfl rfl hl.1 rfl (lv_room (Nat.le_of_ble_eq_true rfl)) dX0_breaks_27 ⟨hRc, hRs⟩) hA hC (fun H locs hC => ?_)
      have hC : HC D gcl (gty d) A (xw d ad ba ta imgs room work price whom bday units worth due under people askings hangs items many_27 slip_27 became left what_27 which_27 whose_27 place_27 deeds_27 day won lost kept text typed rest bestSet tenths sortWorth sortDays row trace) s H locs := hC
      refine lv_aload_n hx hb dX0_breaks_30 rfl (lv_at hl 0 rfl) ?_
      refine va_get (ci := 0) (v := .ref (ta 0)) (C := RX0) (T := TX0) (N := 13) hx hb hts in_X0 hown hC.1 hC.2.1 (26) rfl rfl 1 (by decide) (hts _ q305) (fun _ h9 => h9) rfl dX0_breaks_31 ?_
      refine va_getN (ci := 2) (v := .ref (ta 10)) (C := RX2) (T := TX2) (N := 12) (host := "SleeveSlips") hx hb hts in_X2 hown hC.1 hC.2.1 (10) rfl rfl 1 (by decide) (va_Nw.use rfl (hN.1 34)) (fun _ h9 => h9) rfl dX0_breaks_34 ?_
      refine lv_iload_n hx hb dX0_breaks_37 rfl (lv_at hl 1 rfl) ?_
      refine lv_iconst (v := 3) hx hb dX0_breaks_38 (by decide) ?_
      obtain ⟨hi_39, hf⟩ := ck_some hf
      refine va_iast hx hb hC.1 hC.2.1 hC.2.2.1 hC.2.2.2 (20) 0 rfl rfl hi_39 dX0_breaks_39 (fun H locs hP hD hS => ?_)
      have hC : HC D gcl (gty d) A (xw d ad ba ta imgs room work price whom bday units worth due under people askings hangs items many_27 slip_27 (upd became x1.toNatClampNeg 3) left what_27 which_27 whose_27 place_27 deeds_27 day won lost kept text typed rest bestSet tenths sortWorth sortDays row trace) s H locs := ⟨hC.1, hP, hD, hS⟩
      refine lv_aload_n hx hb dX0_breaks_40 rfl (lv_at hl 0 rfl) ?_
      refine va_get (ci := 0) (v := .ref (ta 0)) (C := RX0) (T := TX0) (N := 13) hx hb hts in_X0 hown hC.1 hC.2.1 (26) rfl rfl 1 (by decide) (hts _ q305) (fun _ h9 => h9) rfl dX0_breaks_41 ?_
      refine lv_dup hx hb dX0_breaks_44 rfl ?_
      refine va_getN (ci := 2) (v := .int lost) (C := RX2) (T := TX2) (N := 12) (host := "SleeveSlips") hx hb hts in_X2 hown hC.1 hC.2.1 (10) rfl rfl 10 (by decide) (va_Nw.use rfl (hN.1 44)) (fun _ h9 => h9) rfl dX0_breaks_45 ?_
      refine lv_aload_n hx hb dX0_breaks_48 rfl (lv_at hl 0 rfl) ?_
      refine va_get (ci := 0) (v := .ref (ba 0)) (C := RX0) (T := TX0) (N := 13) hx hb hts in_X0 hown hC.1 hC.2.1 (26) rfl rfl 0 (by decide) (hts _ q302) (fun _ h9 => h9) rfl dX0_breaks_49 ?_
      refine va_getN (ci := 1) (v := .ref (ba 7)) (C := RX1) (T := TX1) (N := 13) (host := "SleeveSlips") hx hb hts in_X1 hown hC.1 hC.2.1 (0) rfl rfl 6 (by decide) (va_Nw.use rfl (hN.1 15)) (fun _ h9 => h9) rfl dX0_breaks_52 ?_
      refine lv_iload_n hx hb dX0_breaks_55 rfl (lv_at hl 1 rfl) ?_
      obtain ⟨hi_56, hf⟩ := ck_some hf
      refine va_iald hx hb hC.1 hC.2.1 (7) 0 rfl rfl hi_56 dX0_breaks_56 ?_
      refine lv_iadd hx hb dX0_breaks_57 ?_
      refine va_putN (ci := 2) (v := .int (lost + (worth x1.toNatClampNeg))) (ty := .int) (C := RX2) (T := TX2) (N := 12) (host := "SleeveSlips") hx hb hts in_X2 tyX2 tyX2_ok nmX2 hown hC.1 hC.2.1 hC.2.2.1 hC.2.2.2 (10) rfl rfl 10 (by decide) (va_Nw.use rfl (hN.1 44)) (fun _ h9 => h9) rfl (tyX2_ok 10 (by decide)) rfl rfl (Nat.le_of_ble_eq_true rfl) dX0_breaks_58 (fun H locs hP hD hS => ?_)
      have hC : HC D gcl (gty d) A (xw d ad ba ta imgs room work price whom bday units worth due under people askings hangs items many_27 slip_27 (upd became x1.toNatClampNeg 3) left what_27 which_27 whose_27 place_27 deeds_27 day won (lost + (worth x1.toNatClampNeg)) kept text typed rest bestSet tenths sortWorth sortDays row trace) s H locs := ⟨hC.1, hP, hD, hS⟩
      refine lv_aload_n hx hb dX0_breaks_61 rfl (lv_at hl 0 rfl) ?_
      refine va_get (ci := 0) (v := .ref (ba 0)) (C := RX0) (T := TX0) (N := 13) hx hb hts in_X0 hown hC.1 hC.2.1 (26) rfl rfl 0 (by decide) (hts _ q302) (fun _ h9 => h9) rfl dX0_breaks_62 ?_
      refine va_getN (ci := 1) (v := .ref (ba 7)) (C := RX1) (T := TX1) (N := 13) (host := "SleeveSlips") hx hb hts in_X1 hown hC.1 hC.2.1 (0) rfl rfl 6 (by decide) (va_Nw.use rfl (hN.1 15)) (fun _ h9 => h9) rfl dX0_breaks_65 ?_
      refine lv_iload_n hx hb dX0_breaks_68 rfl (lv_at hl 1 rfl) ?_
      obtain ⟨hi_69, hf⟩ := ck_some hf
      refine va_iald hx hb hC.1 hC.2.1 (7) 0 rfl rfl hi_69 dX0_breaks_69 ?_
      obtain ⟨e_1, e_2, e_3, e_4, e_5, e_6, e_7, e_8, e_9, e_10⟩ := so_10 (Option.some.inj hf)
      subst e_1
      subst e_2
      subst e_3
      subst e_4
      subst e_5
      subst e_6
      subst e_7
      subst e_8
      subst e_9
      subst e_10
      exact K H locs ls _ rfl hC dX0_breaks_70
    · have hf := if_t hf c_15
      refine lv_bipush (v := (-2)) hx hb dX0_breaks_18 (by decide) ?_
      obtain ⟨e_1, e_2, e_3, e_4, e_5, e_6, e_7, e_8, e_9, e_10⟩ := so_10 (Option.some.inj hf)
      subst e_1
      subst e_2
      subst e_3
      subst e_4
      subst e_5
      subst e_6
      subst e_7
      subst e_8
      subst e_9
      subst e_10
      exact K H locs ls _ rfl hC dX0_breaks_20
  · have hf := if_t hf c_5
    refine lv_iconst (v := (-1)) hx hb dX0_breaks_8 (by decide) ?_
    obtain ⟨e_1, e_2, e_3, e_4, e_5, e_6, e_7, e_8, e_9, e_10⟩ := so_10 (Option.some.inj hf)
    subst e_1
    subst e_2
    subst e_3
    subst e_4
    subst e_5
    subst e_6
    subst e_7
    subst e_8
    subst e_9
    subst e_10
    exact K H locs ls _ rfl hC dX0_breaks_9
set_option maxRecDepth 100000 in
theorem c_x_breaks {l : Launch} {sz : Nat} {D : va_G} {d : Nat → ClassId} {ad : Nat → Nat} {ba : Nat → Nat} {ta : Nat → Nat} {imgs : va_W} {room : Nat → Int32} {work : Nat → Int32} {price : Nat → Int32} {whom : Nat → Int32} {bday : Nat → Int32} {units : Nat → Int32} {worth : Nat → Int32} {due : Nat → Int32} {under : Nat → Int32} {people : Int32} {askings : Int32} {hangs : Int32} {items : Int32} {many : Nat → Int32} {slip : Nat → Nat → Int32} {became : Nat → Int32} {left : Nat → Int32} {what : Nat → Int32} {which : Nat → Int32} {whose : Nat → Int32} {place : Nat → Int32} {deeds : Int32} {day : Int32} {won : Int32} {lost : Int32} {kept : Int32} {text : Nat → Int32} {typed : Int32} {rest : Nat → Int32} {bestSet : Int32} {tenths : Nat → Int32} {sortWorth : Nat → Int32} {sortDays : Nat → Int32} {row : Nat → Int32} {trace : Int64} {x1 : Int32} {r : Int32} {many_r : Nat → Int32} {slip_r : Nat → Nat → Int32} {became_r : Nat → Int32} {what_r : Nat → Int32} {which_r : Nat → Int32} {whose_r : Nat → Int32} {place_r : Nat → Int32} {deeds_r : Int32} {lost_r : Int32} (hf : x_breaks worth askings many slip became what which whose place deeds lost x1 = some (r, many_r, slip_r, became_r, what_r, which_r, whose_r, place_r, deeds_r, lost_r)) : MI l yX0_breaks (ws_ yX0_breaks cX0_breaks 2 (some .int)) { frames := 3, cells := 0, slots := 0, locals := 107 } D gcl (gty d) NX (xw d ad ba ta imgs room work price whom bday units worth due under people askings hangs items many slip became left what which whose place deeds day won lost kept text typed rest bestSet tenths sortWorth sortDays row trace) (xw d ad ba ta imgs room work price whom bday units worth due under people askings hangs items many_r slip_r became_r left what_r which_r whose_r place_r deeds_r day won lost_r kept text typed rest bestSet tenths sortWorth sortDays row trace) sz [.ref (ad 0), .int x1] r :=
  MI.of (by decide) [.ref (ad 0), .int x1] [(0, .ref (ad 0)), (1, .int x1)] (Nat.le_of_ble_eq_true rfl) rfl (fun p e s m below meth c ls Q hx hb hml hown hts hN hA hC hl K => w_x_breaks hx hb hml hown hts hN hA (Nat.le_refl _) (Nat.le_refl _) (Nat.le_refl _) (Nat.le_refl _) hf hC hl K)

def x_hand (room : Nat → Int32) (people : Int32) (askings : Int32) (many : Nat → Int32) (slip : Nat → Nat → Int32) (became : Nat → Int32) (what : Nat → Int32) (which : Nat → Int32) (whose : Nat → Int32) (place : Nat → Int32) (deeds : Int32) (x1 : Int32) (x2 : Int32) : Option (Int32 × (Nat → Int32) × (Nat → Nat → Int32) × (Nat → Int32) × (Nat → Int32) × (Nat → Int32) × (Nat → Int32) × Int32) :=
  bnd (x_isAsking askings x1) fun r_2 =>
  if r_2 = 0 then (some ((-1), many, slip, what, which, whose, place, deeds)) else
  bnd (x_isPerson people x2) fun r_10 =>
  if r_10 = 0 then (some ((-1), many, slip, what, which, whose, place, deeds)) else
  bnd (x_isPinned became x1) fun r_20 =>
  if r_20 = 0 then (some ((-2), many, slip, what, which, whose, place, deeds)) else
  bnd (x_sleeveOf many slip x1) fun r_31 =>
  if r_31 = x2 then (some ((-2), many, slip, what, which, whose, place, deeds)) else
  bnd (x_hasRoom room many x2) fun r_43 =>
  if r_43 = 0 then (some ((-3), many, slip, what, which, whose, place, deeds)) else
  bnd7 (x_goes many slip what which whose place deeds 3 x1) fun many_58 slip_58 what_58 which_58 whose_58 place_58 deeds_58 =>
  ck x2 4 <| ck x2 4 <| bnd2 (x_pin (slip_58 x2.toNatClampNeg) (many_58 x2.toNatClampNeg) x1 (many_58 x2.toNatClampNeg)) fun sl_83 mn_83 =>
  ck x2 4 <| some ((upd many_58 x2.toNatClampNeg mn_83) x2.toNatClampNeg, upd many_58 x2.toNatClampNeg mn_83, va_up slip_58 x2.toNatClampNeg sl_83, what_58, which_58, whose_58, place_58, deeds_58)
set_option maxHeartbeats 4000000 in
set_option maxRecDepth 100000 in
theorem w_x_hand {p : Program} {l : Launch} {e : Env} {R : Room} {s : State} {m : MethodId} {args : Array Value} {below : List Frame} {meth : Method} {c : Code} {H : Heap} {locs : List Loc} {cells slots : Nat} {Q : State → Prop} {A : Nat → Prop} {ls : Array Slot} {D : va_G} {d : Nat → ClassId} {ad : Nat → Nat} {ba : Nat → Nat} {ta : Nat → Nat} {imgs : va_W} {room : Nat → Int32} {work : Nat → Int32} {price : Nat → Int32} {whom : Nat → Int32} {bday : Nat → Int32} {units : Nat → Int32} {worth : Nat → Int32} {due : Nat → Int32} {under : Nat → Int32} {people : Int32} {askings : Int32} {hangs : Int32} {items : Int32} {many : Nat → Int32} {slip : Nat → Nat → Int32} {became : Nat → Int32} {left : Nat → Int32} {what : Nat → Int32} {which : Nat → Int32} {whose : Nat → Int32} {place : Nat → Int32} {deeds : Int32} {day : Int32} {won : Int32} {lost : Int32} {kept : Int32} {text : Nat → Int32} {typed : Int32} {rest : Nat → Int32} {bestSet : Int32} {tenths : Nat → Int32} {sortWorth : Nat → Int32} {sortDays : Nat → Int32} {row : Nat → Int32} {trace : Int64} {x1 : Int32} {x2 : Int32} {r : Int32} {many_r : Nat → Int32} {slip_r : Nat → Nat → Int32} {what_r : Nat → Int32} {which_r : Nat → Int32} {whose_r : Nat → Int32} {place_r : Nat → Int32} {deeds_r : Int32} (hx : p.tables.exec = Jvm.exec) (hb : c.code = cX0_hand) (hml : c.maxLocals = 3) (hown : s.vm.findClass RX0 = some m.cls) (hts : ∀ w ∈ lw_all, w.before args s = true) (hN : NX s) (hA : ∀ q, s.heap.size ≤ q → A q) (hRf : 3 ≤ R.frames) (hRl : 107 ≤ R.locals) (hRc : cells ≤ R.cells) (hRs : slots ≤ R.slots) (hf : x_hand room people askings many slip became what which whose place deeds x1 x2 = some (r, many_r, slip_r, what_r, which_r, whose_r, place_r, deeds_r)) (hC : HC D gcl (gty d) A (xw d ad ba ta imgs room work price whom bday units worth due under people askings hangs items many slip became left what which whose place deeds day won lost kept text typed rest bestSet tenths sortWorth sortDays row trace) s H locs) (hl : lv_has ls 3 [(0, .ref (ad 0)), (1, .int x1), (2, .int x2)]) (K : ∀ (H : Heap) (locs : List Loc) (ls : Array Slot) (pc : Nat), narrow .int (.int r) = .int r → HC D gcl (gty d) A (xw d ad ba ta imgs room work price whom bday units worth due under people askings hangs items many_r slip_r became left what_r which_r whose_r place_r deeds_r day won lost kept text typed rest bestSet tenths sortWorth sortDays row trace) s H locs → decode cX0_hand pc = .ok (.ireturn, 1) → W p l e R s m args below meth c H locs cells slots Q (F0 m pc ls [.int r])) : W p l e R s m args below meth c H locs cells slots Q (F0 m 0 ls []) := by
  unfold x_hand at hf
  refine lv_aload_n hx hb dX0_hand_0 rfl (lv_at hl 0 rfl) ?_
  refine lv_iload_n hx hb dX0_hand_1 rfl (lv_at hl 1 rfl) ?_
  obtain ⟨r_2, hcall, hf⟩ := bnd_some hf
  refine hc_i (va_runV (C := RX0) (As := [.int x1]) (rest := []) ⟨hx, hb, hml, hown, hts⟩ (c_x_isAsking hcall) (cwV 1 hts (lw_V q563 q565 qs9 q48 q566) rfl rfl rfl (by decide +kernel) ⟨(Nat.le_trans (Nat.le_of_ble_eq_true rfl) hRf), (Nat.le_trans (Nat.le_of_ble_eq_true rfl) hRl)⟩) (pre_V (q0 := 26) (ci := 0) NX.calling (fun U _ hW => NX.warm hW hN) hC rfl rfl) rfl rfl hl.1 rfl (lv_room (Nat.le_of_ble_eq_true rfl)) dX0_hand_2 ⟨hRc, hRs⟩) hA hC (fun H locs hC => ?_)
  refine lv_if_eq (tgt := 16) hx hb dX0_hand_5 (by decide) (fun c_5 => ?_) (fun c_5 => ?_)
  · have hf := if_t hf c_5
    refine lv_iconst (v := (-1)) hx hb dX0_hand_16 (by decide) ?_
    obtain ⟨e_1, e_2, e_3, e_4, e_5, e_6, e_7, e_8⟩ := so_8 (Option.some.inj hf)
    subst e_1
    subst e_2
    subst e_3
    subst e_4
    subst e_5
    subst e_6
    subst e_7
    subst e_8
    exact K H locs ls _ rfl hC dX0_hand_17
  · have hf := if_f hf c_5
    refine lv_aload_n hx hb dX0_hand_8 rfl (lv_at hl 0 rfl) ?_
    refine lv_iload_n hx hb dX0_hand_9 rfl (lv_at hl 2 rfl) ?_
    obtain ⟨r_10, hcall, hf⟩ := bnd_some hf
    refine hc_i (va_runV (C := RX0) (As := [.int x2]) (rest := []) ⟨hx, hb, hml, hown, hts⟩ (c_x_isPerson hcall) (cwV 1 hts (lw_V q555 q557 qs8 q48 q558) rfl rfl rfl (by decide +kernel) ⟨(Nat.le_trans (Nat.le_of_ble_eq_true rfl) hRf), (Nat.le_trans (Nat.le_of_ble_eq_true rfl) hRl)⟩) (pre_V (q0 := 26) (ci := 0) NX.calling (fun U _ hW => NX.warm hW hN) hC rfl rfl) rfl rfl hl.1 rfl (lv_room (Nat.le_of_ble_eq_true rfl)) dX0_hand_10 ⟨hRc, hRs⟩) hA hC (fun H locs hC => ?_)
    refine lv_if_ne (tgt := 18) hx hb dX0_hand_13 (by decide) (fun c_13 => ?_) (fun c_13 => ?_)
    · have hf := if_f hf c_13
      refine lv_aload_n hx hb dX0_hand_18 rfl (lv_at hl 0 rfl) ?_
      refine lv_iload_n hx hb dX0_hand_19 rfl (lv_at hl 1 rfl) ?_
      obtain ⟨r_20, hcall, hf⟩ := bnd_some hf
      refine hc_i (va_runV (C := RX0) (As := [.int x1]) (rest := []) ⟨hx, hb, hml, hown, hts⟩ (c_x_isPinned hcall) (cwV 1 hts (lw_V q602 q604 qs11 q48 q605) rfl rfl rfl (by decide +kernel) ⟨(Nat.le_trans (Nat.le_of_ble_eq_true rfl) hRf), (Nat.le_trans (Nat.le_of_ble_eq_true rfl) hRl)⟩) (pre_V (q0 := 26) (ci := 0) NX.calling (fun U _ hW => NX.warm hW hN) hC rfl rfl) rfl rfl hl.1 rfl (lv_room (Nat.le_of_ble_eq_true rfl)) dX0_hand_20 ⟨hRc, hRs⟩) hA hC (fun H locs hC => ?_)
      refine lv_if_eq (tgt := 38) hx hb dX0_hand_23 (by decide) (fun c_23 => ?_) (fun c_23 => ?_)
      · have hf := if_t hf c_23
        refine lv_bipush (v := (-2)) hx hb dX0_hand_38 (by decide) ?_
        obtain ⟨e_1, e_2, e_3, e_4, e_5, e_6, e_7, e_8⟩ := so_8 (Option.some.inj hf)
        subst e_1
        subst e_2
        subst e_3
        subst e_4
        subst e_5
        subst e_6
        subst e_7
        subst e_8
        exact K H locs ls _ rfl hC dX0_hand_40
      · have hf := if_f hf c_23
        refine lv_aload_n hx hb dX0_hand_26 rfl (lv_at hl 0 rfl) ?_
        refine va_get (ci := 0) (v := .ref (ta 0)) (C := RX0) (T := TX0) (N := 13) hx hb hts in_X0 hown hC.1 hC.2.1 (26) rfl rfl 1 (by decide) (hts _ q305) (fun _ h9 => h9) rfl dX0_hand_27 ?_
        refine lv_iload_n hx hb dX0_hand_30 rfl (lv_at hl 1 rfl) ?_
        obtain ⟨r_31, hcall, hf⟩ := bnd_some hf
        refine hs_i (va_runV (C := RX2) (As := [.int x1]) (rest := []) ⟨hx, hb, hml, hown, hts⟩ (c_x_sleeveOf hcall) (cwV 1 hts (lw_V q567 q568 q569 q50 q570) rfl rfl rfl (by decide +kernel) ⟨(Nat.le_trans (Nat.le_of_ble_eq_true rfl) hRf), (Nat.le_trans (Nat.le_of_ble_eq_true rfl) hRl)⟩) (pre_VG (q0 := 0) (ci := 2) NX.calling (fun U _ hW => NX.warm hW hN) hC [0, 1, 2, 3, 4, 5, 6] rfl rfl rfl) rfl rfl hl.1 rfl (lv_room (Nat.le_of_ble_eq_true rfl)) dX0_hand_31 ⟨hRc, hRs⟩) hA hC (fun H locs hC => ?_)
        have hC : HC D gcl (gty d) A (xw d ad ba ta imgs room work price whom bday units worth due under people askings hangs items many slip became left what which whose place deeds day won lost kept text typed rest bestSet tenths sortWorth sortDays row trace) s H locs := hC
        refine lv_iload_n hx hb dX0_hand_34 rfl (lv_at hl 2 rfl) ?_
        refine lv_icmp_ne (tgt := 41) hx hb dX0_hand_35 (by decide) (fun c_35 => ?_) (fun c_35 => ?_)
        · have hf := if_f hf c_35
          refine lv_aload_n hx hb dX0_hand_41 rfl (lv_at hl 0 rfl) ?_
          refine lv_iload_n hx hb dX0_hand_42 rfl (lv_at hl 2 rfl) ?_
          obtain ⟨r_43, hcall, hf⟩ := bnd_some hf
          refine hc_i (va_runV (C := RX0) (As := [.int x2]) (rest := []) ⟨hx, hb, hml, hown, hts⟩ (c_x_hasRoom hcall) (cwV 1 hts (lw_V q583 q585 qs10 q48 q586) rfl rfl rfl (by decide +kernel) ⟨(Nat.le_trans (Nat.le_of_ble_eq_true rfl) hRf), (Nat.le_trans (Nat.le_of_ble_eq_true rfl) hRl)⟩) (pre_V (q0 := 26) (ci := 0) NX.calling (fun U _ hW => NX.warm hW hN) hC rfl rfl) rfl rfl hl.1 rfl (lv_room (Nat.le_of_ble_eq_true rfl)) dX0_hand_43 ⟨hRc, hRs⟩) hA hC (fun H locs hC => ?_)
          refine lv_if_ne (tgt := 52) hx hb dX0_hand_46 (by decide) (fun c_46 => ?_) (fun c_46 => ?_)
          · have hf := if_f hf c_46
            refine lv_aload_n hx hb dX0_hand_52 rfl (lv_at hl 0 rfl) ?_
            refine va_get (ci := 0) (v := .ref (ta 0)) (C := RX0) (T := TX0) (N := 13) hx hb hts in_X0 hown hC.1 hC.2.1 (26) rfl rfl 1 (by decide) (hts _ q305) (fun _ h9 => h9) rfl dX0_hand_53 ?_
            refine lv_iconst (v := 3) hx hb dX0_hand_56 (by decide) ?_
            refine lv_iload_n hx hb dX0_hand_57 rfl (lv_at hl 1 rfl) ?_
            obtain ⟨many_58, slip_58, what_58, which_58, whose_58, place_58, deeds_58, hcall, hf⟩ := bnd7_some hf
            refine hs_v (va_runV (C := RX2) (As := [.int 3, .int x1]) (rest := []) ⟨hx, hb, hml, hown, hts⟩ (c_x_goes hcall) (cwV 2 hts (lw_V q606 q607 q608 q50 q609) rfl rfl rfl (by decide +kernel) ⟨(Nat.le_trans (Nat.le_of_ble_eq_true rfl) hRf), (Nat.le_trans (Nat.le_of_ble_eq_true rfl) hRl)⟩) (pre_VG (q0 := 0) (ci := 2) NX.calling (fun U _ hW => NX.warm hW hN) hC [0, 1, 2, 3, 4, 5, 6] rfl rfl rfl) rfl rfl hl.1 rfl (lv_room (Nat.le_of_ble_eq_true rfl)) dX0_hand_58 ⟨hRc, hRs⟩) hA hC (fun H locs hC => ?_)
            have hC : HC D gcl (gty d) A (xw d ad ba ta imgs room work price whom bday units worth due under people askings hangs items many_58 slip_58 became left what_58 which_58 whose_58 place_58 deeds_58 day won lost kept text typed rest bestSet tenths sortWorth sortDays row trace) s H locs := hC
            refine lv_aload_n hx hb dX0_hand_61 rfl (lv_at hl 0 rfl) ?_
            refine va_get (ci := 0) (v := .ref (ta 0)) (C := RX0) (T := TX0) (N := 13) hx hb hts in_X0 hown hC.1 hC.2.1 (26) rfl rfl 1 (by decide) (hts _ q305) (fun _ h9 => h9) rfl dX0_hand_62 ?_
            refine va_getN (ci := 2) (v := .ref (ta 1)) (C := RX2) (T := TX2) (N := 12) (host := "SleeveSlips") hx hb hts in_X2 hown hC.1 hC.2.1 (10) rfl rfl 0 (by decide) (va_Nw.use rfl (hN.1 33)) (fun _ h9 => h9) rfl dX0_hand_65 ?_
            refine lv_iload_n hx hb dX0_hand_68 rfl (lv_at hl 2 rfl) ?_
            obtain ⟨hi_69, hf⟩ := ck_some hf
            refine va_aldq hx hb hC.1 hC.2.1 11 4 rfl rfl hi_69 dX0_hand_69 ?_
            refine lv_iload_n hx hb dX0_hand_70 rfl (lv_at hl 1 rfl) ?_
            refine lv_aload_n hx hb dX0_hand_71 rfl (lv_at hl 0 rfl) ?_
            refine va_get (ci := 0) (v := .ref (ta 0)) (C := RX0) (T := TX0) (N := 13) hx hb hts in_X0 hown hC.1 hC.2.1 (26) rfl rfl 1 (by decide) (hts _ q305) (fun _ h9 => h9) rfl dX0_hand_72 ?_
            refine va_getN (ci := 2) (v := .ref (ta 1)) (C := RX2) (T := TX2) (N := 12) (host := "SleeveSlips") hx hb hts in_X2 hown hC.1 hC.2.1 (10) rfl rfl 0 (by decide) (va_Nw.use rfl (hN.1 33)) (fun _ h9 => h9) rfl dX0_hand_75 ?_
            refine lv_iload_n hx hb dX0_hand_78 rfl (lv_at hl 2 rfl) ?_
            obtain ⟨hi_79, hf⟩ := ck_some hf
            refine va_aldq hx hb hC.1 hC.2.1 11 4 rfl rfl hi_79 dX0_hand_79 ?_
            refine va_getN (ci := 3) (v := .int (many_58 x2.toNatClampNeg)) (C := RX3) (T := TX3) (N := 2) (host := "SleeveSlips") hx hb hts in_X3 hown hC.1 hC.2.1 (12 + x2.toNatClampNeg) (xw_sl (vp_lt hi_79)) rfl 1 (by decide) (va_Nw.use rfl (hN.1 31)) (fun _ h9 => h9) rfl dX0_hand_80 ?_
            obtain ⟨sl_83, mn_83, hcall, hf⟩ := bnd2_some hf
            refine hs_v (va_runV (C := RX3) (As := [.int x1, .int (many_58 x2.toNatClampNeg)]) (rest := []) ⟨hx, hb, hml, hown, hts⟩ (c_x_pin_ (vp_lt hi_69) hcall) (cwV 2 hts (lw_V q594 q595 q596 q51 q597) rfl rfl rfl (by decide +kernel) ⟨(Nat.le_trans (Nat.le_of_ble_eq_true rfl) hRf), (Nat.le_trans (Nat.le_of_ble_eq_true rfl) hRl)⟩) (pre_VG (q0 := 2 + x2.toNatClampNeg) (ci := 3) NX.calling (fun U _ hW => NX.warm hW hN) hC [0, 1, 2, 3, 4, 5, 6] rfl rfl (tw_sl (vp_lt hi_69))) rfl rfl hl.1 rfl (lv_room (Nat.le_of_ble_eq_true rfl)) dX0_hand_83 ⟨hRc, hRs⟩) hA hC (fun H locs hC => ?_)
            have hC : HC D gcl (gty d) A (xw d ad ba ta imgs room work price whom bday units worth due under people askings hangs items (upd many_58 x2.toNatClampNeg mn_83) (va_up slip_58 x2.toNatClampNeg sl_83) became left what_58 which_58 whose_58 place_58 deeds_58 day won lost kept text typed rest bestSet tenths sortWorth sortDays row trace) s H locs := hC
            refine lv_aload_n hx hb dX0_hand_86 rfl (lv_at hl 0 rfl) ?_
            refine va_get (ci := 0) (v := .ref (ta 0)) (C := RX0) (T := TX0) (N := 13) hx hb hts in_X0 hown hC.1 hC.2.1 (26) rfl rfl 1 (by decide) (hts _ q305) (fun _ h9 => h9) rfl dX0_hand_87 ?_
            refine va_getN (ci := 2) (v := .ref (ta 1)) (C := RX2) (T := TX2) (N := 12) (host := "SleeveSlips") hx hb hts in_X2 hown hC.1 hC.2.1 (10) rfl rfl 0 (by decide) (va_Nw.use rfl (hN.1 33)) (fun _ h9 => h9) rfl dX0_hand_90 ?_
            refine lv_iload_n hx hb dX0_hand_93 rfl (lv_at hl 2 rfl) ?_
            obtain ⟨hi_94, hf⟩ := ck_some hf
            refine va_aldq hx hb hC.1 hC.2.1 11 4 rfl rfl hi_94 dX0_hand_94 ?_
            refine va_getN (ci := 3) (v := .int ((upd many_58 x2.toNatClampNeg mn_83) x2.toNatClampNeg)) (C := RX3) (T := TX3) (N := 2) (host := "SleeveSlips") hx hb hts in_X3 hown hC.1 hC.2.1 (12 + x2.toNatClampNeg) (xw_sl (vp_lt hi_94)) rfl 1 (by decide) (va_Nw.use rfl (hN.1 31)) (fun _ h9 => h9) rfl dX0_hand_95 ?_
            obtain ⟨e_1, e_2, e_3, e_4, e_5, e_6, e_7, e_8⟩ := so_8 (Option.some.inj hf)
            subst e_1
            subst e_2
            subst e_3
            subst e_4
            subst e_5
            subst e_6
            subst e_7
            subst e_8
            exact K H locs ls _ rfl hC dX0_hand_98
          · have hf := if_t hf c_46
            refine lv_bipush (v := (-3)) hx hb dX0_hand_49 (by decide) ?_
            obtain ⟨e_1, e_2, e_3, e_4, e_5, e_6, e_7, e_8⟩ := so_8 (Option.some.inj hf)
            subst e_1
            subst e_2
            subst e_3
            subst e_4
            subst e_5
            subst e_6
            subst e_7
            subst e_8
            exact K H locs ls _ rfl hC dX0_hand_51
        · have hf := if_t hf c_35
          refine lv_bipush (v := (-2)) hx hb dX0_hand_38 (by decide) ?_
          obtain ⟨e_1, e_2, e_3, e_4, e_5, e_6, e_7, e_8⟩ := so_8 (Option.some.inj hf)
          subst e_1
          subst e_2
          subst e_3
          subst e_4
          subst e_5
          subst e_6
          subst e_7
          subst e_8
          exact K H locs ls _ rfl hC dX0_hand_40
    · have hf := if_t hf c_13
      refine lv_iconst (v := (-1)) hx hb dX0_hand_16 (by decide) ?_
      obtain ⟨e_1, e_2, e_3, e_4, e_5, e_6, e_7, e_8⟩ := so_8 (Option.some.inj hf)
      subst e_1
      subst e_2
      subst e_3
      subst e_4
      subst e_5
      subst e_6
      subst e_7
      subst e_8
      exact K H locs ls _ rfl hC dX0_hand_17
set_option maxRecDepth 100000 in
theorem c_x_hand {l : Launch} {sz : Nat} {D : va_G} {d : Nat → ClassId} {ad : Nat → Nat} {ba : Nat → Nat} {ta : Nat → Nat} {imgs : va_W} {room : Nat → Int32} {work : Nat → Int32} {price : Nat → Int32} {whom : Nat → Int32} {bday : Nat → Int32} {units : Nat → Int32} {worth : Nat → Int32} {due : Nat → Int32} {under : Nat → Int32} {people : Int32} {askings : Int32} {hangs : Int32} {items : Int32} {many : Nat → Int32} {slip : Nat → Nat → Int32} {became : Nat → Int32} {left : Nat → Int32} {what : Nat → Int32} {which : Nat → Int32} {whose : Nat → Int32} {place : Nat → Int32} {deeds : Int32} {day : Int32} {won : Int32} {lost : Int32} {kept : Int32} {text : Nat → Int32} {typed : Int32} {rest : Nat → Int32} {bestSet : Int32} {tenths : Nat → Int32} {sortWorth : Nat → Int32} {sortDays : Nat → Int32} {row : Nat → Int32} {trace : Int64} {x1 : Int32} {x2 : Int32} {r : Int32} {many_r : Nat → Int32} {slip_r : Nat → Nat → Int32} {what_r : Nat → Int32} {which_r : Nat → Int32} {whose_r : Nat → Int32} {place_r : Nat → Int32} {deeds_r : Int32} (hf : x_hand room people askings many slip became what which whose place deeds x1 x2 = some (r, many_r, slip_r, what_r, which_r, whose_r, place_r, deeds_r)) : MI l yX0_hand (ws_ yX0_hand cX0_hand 3 (some .int)) { frames := 3, cells := 0, slots := 0, locals := 107 } D gcl (gty d) NX (xw d ad ba ta imgs room work price whom bday units worth due under people askings hangs items many slip became left what which whose place deeds day won lost kept text typed rest bestSet tenths sortWorth sortDays row trace) (xw d ad ba ta imgs room work price whom bday units worth due under people askings hangs items many_r slip_r became left what_r which_r whose_r place_r deeds_r day won lost kept text typed rest bestSet tenths sortWorth sortDays row trace) sz [.ref (ad 0), .int x1, .int x2] r :=
  MI.of (by decide) [.ref (ad 0), .int x1, .int x2] [(0, .ref (ad 0)), (1, .int x1), (2, .int x2)] (Nat.le_of_ble_eq_true rfl) rfl (fun p e s m below meth c ls Q hx hb hml hown hts hN hA hC hl K => w_x_hand hx hb hml hown hts hN hA (Nat.le_refl _) (Nat.le_refl _) (Nat.le_refl _) (Nat.le_refl _) hf hC hl K)

def x_undo (worth : Nat → Int32) (many : Nat → Int32) (slip : Nat → Nat → Int32) (became : Nat → Int32) (what : Nat → Int32) (which : Nat → Int32) (whose : Nat → Int32) (place : Nat → Int32) (deeds : Int32) (lost : Int32) : Option (Int32 × (Nat → Int32) × (Nat → Nat → Int32) × (Nat → Int32) × Int32 × Int32) :=
  if deeds = 0 then (some ((-2), many, slip, became, deeds, lost)) else
  ck (deeds - 1) 12 <| ck (deeds - 1) 12 <| ck (deeds - 1) 12 <| if (what (deeds - 1).toNatClampNeg) = 0 then (ck (whose (deeds - 1).toNatClampNeg) 4 <| ck (deeds - 1) 12 <| bnd2 (x_unpin (slip ((whose (deeds - 1).toNatClampNeg).toNatClampNeg)) (many ((whose (deeds - 1).toNatClampNeg).toNatClampNeg)) (place (deeds - 1).toNatClampNeg)) fun sl_84 mn_84 =>
  ck (which (deeds - 1).toNatClampNeg) 8 <| some (deeds - 1, upd many ((whose (deeds - 1).toNatClampNeg).toNatClampNeg) mn_84, va_up slip ((whose (deeds - 1).toNatClampNeg).toNatClampNeg) sl_84, upd became (which (deeds - 1).toNatClampNeg).toNatClampNeg 0, deeds - 1, lost)) else
  ck (deeds - 1) 12 <| bnd2 (if (what (deeds - 1).toNatClampNeg) = 3 then (bnd (x_sleeveOf many slip (which (deeds - 1).toNatClampNeg)) fun r_117 =>
  ck r_117 4 <| ck r_117 4 <| bnd (x_placeOf (slip r_117.toNatClampNeg) (many r_117.toNatClampNeg) (which (deeds - 1).toNatClampNeg)) fun r_143 =>
  bnd2 (x_unpin (slip r_117.toNatClampNeg) (many r_117.toNatClampNeg) r_143) fun sl_146 mn_146 =>
  some (upd many r_117.toNatClampNeg mn_146, va_up slip r_117.toNatClampNeg sl_146)) else
  some (many, slip)) (fun (many_149 : Nat → Int32) (slip_149 : Nat → Nat → Int32) =>
  ck (deeds - 1) 12 <| bnd (if (what (deeds - 1).toNatClampNeg) = 2 then (ck (which (deeds - 1).toNatClampNeg) 8 <| some (worth (which (deeds - 1).toNatClampNeg).toNatClampNeg)) else
  some (0)) (fun (t_183 : Int32) =>
  ck (which (deeds - 1).toNatClampNeg) 8 <| ck (whose (deeds - 1).toNatClampNeg) 4 <| ck (deeds - 1) 12 <| bnd2 (x_pin (slip_149 ((whose (deeds - 1).toNatClampNeg).toNatClampNeg)) (many_149 ((whose (deeds - 1).toNatClampNeg).toNatClampNeg)) (which (deeds - 1).toNatClampNeg) (place (deeds - 1).toNatClampNeg)) fun sl_216 mn_216 =>
  some (deeds - 1, upd many_149 ((whose (deeds - 1).toNatClampNeg).toNatClampNeg) mn_216, va_up slip_149 ((whose (deeds - 1).toNatClampNeg).toNatClampNeg) sl_216, upd became (which (deeds - 1).toNatClampNeg).toNatClampNeg 1, deeds - 1, lost - t_183)))
set_option maxHeartbeats 4000000 in
set_option maxRecDepth 100000 in
theorem w_x_undo {p : Program} {l : Launch} {e : Env} {R : Room} {s : State} {m : MethodId} {args : Array Value} {below : List Frame} {meth : Method} {c : Code} {H : Heap} {locs : List Loc} {cells slots : Nat} {Q : State → Prop} {A : Nat → Prop} {ls : Array Slot} {D : va_G} {d : Nat → ClassId} {ad : Nat → Nat} {ba : Nat → Nat} {ta : Nat → Nat} {imgs : va_W} {room : Nat → Int32} {work : Nat → Int32} {price : Nat → Int32} {whom : Nat → Int32} {bday : Nat → Int32} {units : Nat → Int32} {worth : Nat → Int32} {due : Nat → Int32} {under : Nat → Int32} {people : Int32} {askings : Int32} {hangs : Int32} {items : Int32} {many : Nat → Int32} {slip : Nat → Nat → Int32} {became : Nat → Int32} {left : Nat → Int32} {what : Nat → Int32} {which : Nat → Int32} {whose : Nat → Int32} {place : Nat → Int32} {deeds : Int32} {day : Int32} {won : Int32} {lost : Int32} {kept : Int32} {text : Nat → Int32} {typed : Int32} {rest : Nat → Int32} {bestSet : Int32} {tenths : Nat → Int32} {sortWorth : Nat → Int32} {sortDays : Nat → Int32} {row : Nat → Int32} {trace : Int64} {r : Int32} {many_r : Nat → Int32} {slip_r : Nat → Nat → Int32} {became_r : Nat → Int32} {deeds_r : Int32} {lost_r : Int32} (hx : p.tables.exec = Jvm.exec) (hb : c.code = cX0_undo) (hml : c.maxLocals = 5) (hown : s.vm.findClass RX0 = some m.cls) (hts : ∀ w ∈ lw_all, w.before args s = true) (hN : NX s) (hA : ∀ q, s.heap.size ≤ q → A q) (hRf : 2 ≤ R.frames) (hRl : 46 ≤ R.locals) (hRc : cells ≤ R.cells) (hRs : slots ≤ R.slots) (hf : x_undo worth many slip became what which whose place deeds lost = some (r, many_r, slip_r, became_r, deeds_r, lost_r)) (hC : HC D gcl (gty d) A (xw d ad ba ta imgs room work price whom bday units worth due under people askings hangs items many slip became left what which whose place deeds day won lost kept text typed rest bestSet tenths sortWorth sortDays row trace) s H locs) (hl : lv_has ls 5 [(0, .ref (ad 0))]) (K : ∀ (H : Heap) (locs : List Loc) (ls : Array Slot) (pc : Nat), narrow .int (.int r) = .int r → HC D gcl (gty d) A (xw d ad ba ta imgs room work price whom bday units worth due under people askings hangs items many_r slip_r became_r left what which whose place deeds_r day won lost_r kept text typed rest bestSet tenths sortWorth sortDays row trace) s H locs → decode cX0_undo pc = .ok (.ireturn, 1) → W p l e R s m args below meth c H locs cells slots Q (F0 m pc ls [.int r])) : W p l e R s m args below meth c H locs cells slots Q (F0 m 0 ls []) := by
  unfold x_undo at hf
  refine lv_aload_n hx hb dX0_undo_0 rfl (lv_at hl 0 rfl) ?_
  refine va_get (ci := 0) (v := .ref (ta 0)) (C := RX0) (T := TX0) (N := 13) hx hb hts in_X0 hown hC.1 hC.2.1 (26) rfl rfl 1 (by decide) (hts _ q305) (fun _ h9 => h9) rfl dX0_undo_1 ?_
  refine va_getN (ci := 2) (v := .int deeds) (C := RX2) (T := TX2) (N := 12) (host := "SleeveSlips") hx hb hts in_X2 hown hC.1 hC.2.1 (10) rfl rfl 7 (by decide) (va_Nw.use rfl (hN.1 40)) (fun _ h9 => h9) rfl dX0_undo_4 ?_
  refine lv_if_ne (tgt := 13) hx hb dX0_undo_7 (by decide) (fun c_7 => ?_) (fun c_7 => ?_)
  · have hf := if_f hf c_7
    refine lv_aload_n hx hb dX0_undo_13 rfl (lv_at hl 0 rfl) ?_
    refine va_get (ci := 0) (v := .ref (ta 0)) (C := RX0) (T := TX0) (N := 13) hx hb hts in_X0 hown hC.1 hC.2.1 (26) rfl rfl 1 (by decide) (hts _ q305) (fun _ h9 => h9) rfl dX0_undo_14 ?_
    refine lv_dup hx hb dX0_undo_17 rfl ?_
    refine va_getN (ci := 2) (v := .int deeds) (C := RX2) (T := TX2) (N := 12) (host := "SleeveSlips") hx hb hts in_X2 hown hC.1 hC.2.1 (10) rfl rfl 7 (by decide) (va_Nw.use rfl (hN.1 40)) (fun _ h9 => h9) rfl dX0_undo_18 ?_
    refine lv_iconst (v := 1) hx hb dX0_undo_21 (by decide) ?_
    refine lv_isub hx hb dX0_undo_22 ?_
    refine va_putN (ci := 2) (v := .int (deeds - 1)) (ty := .int) (C := RX2) (T := TX2) (N := 12) (host := "SleeveSlips") hx hb hts in_X2 tyX2 tyX2_ok nmX2 hown hC.1 hC.2.1 hC.2.2.1 hC.2.2.2 (10) rfl rfl 7 (by decide) (va_Nw.use rfl (hN.1 40)) (fun _ h9 => h9) rfl (tyX2_ok 7 (by decide)) rfl rfl (Nat.le_of_ble_eq_true rfl) dX0_undo_23 (fun H locs hP hD hS => ?_)
    have hC : HC D gcl (gty d) A (xw d ad ba ta imgs room work price whom bday units worth due under people askings hangs items many slip became left what which whose place (deeds - 1) day won lost kept text typed rest bestSet tenths sortWorth sortDays row trace) s H locs := ⟨hC.1, hP, hD, hS⟩
    refine lv_aload_n hx hb dX0_undo_26 rfl (lv_at hl 0 rfl) ?_
    refine va_get (ci := 0) (v := .ref (ta 0)) (C := RX0) (T := TX0) (N := 13) hx hb hts in_X0 hown hC.1 hC.2.1 (26) rfl rfl 1 (by decide) (hts _ q305) (fun _ h9 => h9) rfl dX0_undo_27 ?_
    refine va_getN (ci := 2) (v := .int (deeds - 1)) (C := RX2) (T := TX2) (N := 12) (host := "SleeveSlips") hx hb hts in_X2 hown hC.1 hC.2.1 (10) rfl rfl 7 (by decide) (va_Nw.use rfl (hN.1 40)) (fun _ h9 => h9) rfl dX0_undo_30 ?_
    refine lv_istore_n (lv' := [(1, .int (deeds - 1)), (0, .ref (ad 0))]) hx hb dX0_undo_33 rfl hl (by decide) rfl (fun ls hl => ?_)
    refine lv_aload_n hx hb dX0_undo_34 rfl (lv_at hl 1 rfl) ?_
    refine va_get (ci := 0) (v := .ref (ta 0)) (C := RX0) (T := TX0) (N := 13) hx hb hts in_X0 hown hC.1 hC.2.1 (26) rfl rfl 1 (by decide) (hts _ q305) (fun _ h9 => h9) rfl dX0_undo_35 ?_
    refine va_getN (ci := 2) (v := .ref (ta 13)) (C := RX2) (T := TX2) (N := 12) (host := "SleeveSlips") hx hb hts in_X2 hown hC.1 hC.2.1 (10) rfl rfl 4 (by decide) (va_Nw.use rfl (hN.1 37)) (fun _ h9 => h9) rfl dX0_undo_38 ?_
    refine lv_iload_n hx hb dX0_undo_41 rfl (lv_at hl 0 rfl) ?_
    obtain ⟨hi_42, hf⟩ := ck_some hf
    refine va_iald hx hb hC.1 hC.2.1 (23) 0 rfl rfl hi_42 dX0_undo_42 ?_
    refine lv_istore_n (lv' := [(2, .int (which (deeds - 1).toNatClampNeg)), (1, .int (deeds - 1)), (0, .ref (ad 0))]) hx hb dX0_undo_43 rfl hl (by decide) rfl (fun ls hl => ?_)
    refine lv_aload_n hx hb dX0_undo_44 rfl (lv_at hl 2 rfl) ?_
    refine va_get (ci := 0) (v := .ref (ta 0)) (C := RX0) (T := TX0) (N := 13) hx hb hts in_X0 hown hC.1 hC.2.1 (26) rfl rfl 1 (by decide) (hts _ q305) (fun _ h9 => h9) rfl dX0_undo_45 ?_
    refine va_getN (ci := 2) (v := .ref (ta 14)) (C := RX2) (T := TX2) (N := 12) (host := "SleeveSlips") hx hb hts in_X2 hown hC.1 hC.2.1 (10) rfl rfl 5 (by decide) (va_Nw.use rfl (hN.1 38)) (fun _ h9 => h9) rfl dX0_undo_48 ?_
    refine lv_iload_n hx hb dX0_undo_51 rfl (lv_at hl 1 rfl) ?_
    obtain ⟨hi_52, hf⟩ := ck_some hf
    refine va_iald hx hb hC.1 hC.2.1 (24) 0 rfl rfl hi_52 dX0_undo_52 ?_
    refine lv_istore_n (lv' := [(3, .int (whose (deeds - 1).toNatClampNeg)), (2, .int (which (deeds - 1).toNatClampNeg)), (1, .int (deeds - 1)), (0, .ref (ad 0))]) hx hb dX0_undo_53 rfl hl (by decide) rfl (fun ls hl => ?_)
    refine lv_aload_n hx hb dX0_undo_54 rfl (lv_at hl 3 rfl) ?_
    refine va_get (ci := 0) (v := .ref (ta 0)) (C := RX0) (T := TX0) (N := 13) hx hb hts in_X0 hown hC.1 hC.2.1 (26) rfl rfl 1 (by decide) (hts _ q305) (fun _ h9 => h9) rfl dX0_undo_55 ?_
    refine va_getN (ci := 2) (v := .ref (ta 12)) (C := RX2) (T := TX2) (N := 12) (host := "SleeveSlips") hx hb hts in_X2 hown hC.1 hC.2.1 (10) rfl rfl 3 (by decide) (va_Nw.use rfl (hN.1 36)) (fun _ h9 => h9) rfl dX0_undo_58 ?_
    refine lv_iload_n hx hb dX0_undo_61 rfl (lv_at hl 2 rfl) ?_
    obtain ⟨hi_62, hf⟩ := ck_some hf
    refine va_iald hx hb hC.1 hC.2.1 (22) 0 rfl rfl hi_62 dX0_undo_62 ?_
    refine lv_if_ne (tgt := 99) hx hb dX0_undo_63 (by decide) (fun c_63 => ?_) (fun c_63 => ?_)
    · have hf := if_f hf c_63
      refine lv_aload_n hx hb dX0_undo_99 rfl (lv_at hl 3 rfl) ?_
      refine va_get (ci := 0) (v := .ref (ta 0)) (C := RX0) (T := TX0) (N := 13) hx hb hts in_X0 hown hC.1 hC.2.1 (26) rfl rfl 1 (by decide) (hts _ q305) (fun _ h9 => h9) rfl dX0_undo_100 ?_
      refine va_getN (ci := 2) (v := .ref (ta 12)) (C := RX2) (T := TX2) (N := 12) (host := "SleeveSlips") hx hb hts in_X2 hown hC.1 hC.2.1 (10) rfl rfl 3 (by decide) (va_Nw.use rfl (hN.1 36)) (fun _ h9 => h9) rfl dX0_undo_103 ?_
      refine lv_iload_n hx hb dX0_undo_106 rfl (lv_at hl 2 rfl) ?_
      obtain ⟨hi_107, hf⟩ := ck_some hf
      refine va_iald hx hb hC.1 hC.2.1 (22) 0 rfl rfl hi_107 dX0_undo_107 ?_
      refine lv_iconst (v := 3) hx hb dX0_undo_108 (by decide) ?_
      obtain ⟨many_149, slip_149, hj, hf⟩ := bnd2_some hf
      have J_149 : ∀ (H : Heap) (locs : List Loc) (ls : Array Slot), HC D gcl (gty d) A (xw d ad ba ta imgs room work price whom bday units worth due under people askings hangs items many_149 slip_149 became left what which whose place (deeds - 1) day won lost kept text typed rest bestSet tenths sortWorth sortDays row trace) s H locs → lv_has ls 5 [(0, .ref (ad 0)), (1, .int (deeds - 1)), (2, .int (which (deeds - 1).toNatClampNeg)), (3, .int (whose (deeds - 1).toNatClampNeg))] → W p l e R s m args below meth c H locs cells slots Q (F0 m 149 ls []) := by
        intro H locs ls hC hl
        refine lv_aload_n hx hb dX0_undo_149 rfl (lv_at hl 0 rfl) ?_
        refine va_get (ci := 0) (v := .ref (ta 0)) (C := RX0) (T := TX0) (N := 13) hx hb hts in_X0 hown hC.1 hC.2.1 (26) rfl rfl 1 (by decide) (hts _ q305) (fun _ h9 => h9) rfl dX0_undo_150 ?_
        refine lv_dup hx hb dX0_undo_153 rfl ?_
        refine va_getN (ci := 2) (v := .int lost) (C := RX2) (T := TX2) (N := 12) (host := "SleeveSlips") hx hb hts in_X2 hown hC.1 hC.2.1 (10) rfl rfl 10 (by decide) (va_Nw.use rfl (hN.1 44)) (fun _ h9 => h9) rfl dX0_undo_154 ?_
        refine lv_aload_n hx hb dX0_undo_157 rfl (lv_at hl 0 rfl) ?_
        refine va_get (ci := 0) (v := .ref (ta 0)) (C := RX0) (T := TX0) (N := 13) hx hb hts in_X0 hown hC.1 hC.2.1 (26) rfl rfl 1 (by decide) (hts _ q305) (fun _ h9 => h9) rfl dX0_undo_158 ?_
        refine va_getN (ci := 2) (v := .ref (ta 12)) (C := RX2) (T := TX2) (N := 12) (host := "SleeveSlips") hx hb hts in_X2 hown hC.1 hC.2.1 (10) rfl rfl 3 (by decide) (va_Nw.use rfl (hN.1 36)) (fun _ h9 => h9) rfl dX0_undo_161 ?_
        refine lv_iload_n hx hb dX0_undo_164 rfl (lv_at hl 1 rfl) ?_
        obtain ⟨hi_165, hf⟩ := ck_some hf
        refine va_iald hx hb hC.1 hC.2.1 (22) 0 rfl rfl hi_165 dX0_undo_165 ?_
        refine lv_iconst (v := 2) hx hb dX0_undo_166 (by decide) ?_
        obtain ⟨t_183, hj, hf⟩ := bnd_some hf
        refine wj (g1 := F0 m 183 ls [.int t_183, .int lost, .ref (ta 0)]) ?_ (fun J_183 => ?_)
        · refine lv_isub hx hb dX0_undo_183 ?_
          refine va_putN (ci := 2) (v := .int (lost - t_183)) (ty := .int) (C := RX2) (T := TX2) (N := 12) (host := "SleeveSlips") hx hb hts in_X2 tyX2 tyX2_ok nmX2 hown hC.1 hC.2.1 hC.2.2.1 hC.2.2.2 (10) rfl rfl 10 (by decide) (va_Nw.use rfl (hN.1 44)) (fun _ h9 => h9) rfl (tyX2_ok 10 (by decide)) rfl rfl (Nat.le_of_ble_eq_true rfl) dX0_undo_184 (fun H locs hP hD hS => ?_)
          have hC : HC D gcl (gty d) A (xw d ad ba ta imgs room work price whom bday units worth due under people askings hangs items many_149 slip_149 became left what which whose place (deeds - 1) day won (lost - t_183) kept text typed rest bestSet tenths sortWorth sortDays row trace) s H locs := ⟨hC.1, hP, hD, hS⟩
          refine lv_aload_n hx hb dX0_undo_187 rfl (lv_at hl 0 rfl) ?_
          refine va_get (ci := 0) (v := .ref (ta 0)) (C := RX0) (T := TX0) (N := 13) hx hb hts in_X0 hown hC.1 hC.2.1 (26) rfl rfl 1 (by decide) (hts _ q305) (fun _ h9 => h9) rfl dX0_undo_188 ?_
          refine va_getN (ci := 2) (v := .ref (ta 10)) (C := RX2) (T := TX2) (N := 12) (host := "SleeveSlips") hx hb hts in_X2 hown hC.1 hC.2.1 (10) rfl rfl 1 (by decide) (va_Nw.use rfl (hN.1 34)) (fun _ h9 => h9) rfl dX0_undo_191 ?_
          refine lv_iload_n hx hb dX0_undo_194 rfl (lv_at hl 2 rfl) ?_
          refine lv_iconst (v := 1) hx hb dX0_undo_195 (by decide) ?_
          obtain ⟨hi_196, hf⟩ := ck_some hf
          refine va_iast hx hb hC.1 hC.2.1 hC.2.2.1 hC.2.2.2 (20) 0 rfl rfl hi_196 dX0_undo_196 (fun H locs hP hD hS => ?_)
          have hC : HC D gcl (gty d) A (xw d ad ba ta imgs room work price whom bday units worth due under people askings hangs items many_149 slip_149 (upd became (which (deeds - 1).toNatClampNeg).toNatClampNeg 1) left what which whose place (deeds - 1) day won (lost - t_183) kept text typed rest bestSet tenths sortWorth sortDays row trace) s H locs := ⟨hC.1, hP, hD, hS⟩
          refine lv_aload_n hx hb dX0_undo_197 rfl (lv_at hl 0 rfl) ?_
          refine va_get (ci := 0) (v := .ref (ta 0)) (C := RX0) (T := TX0) (N := 13) hx hb hts in_X0 hown hC.1 hC.2.1 (26) rfl rfl 1 (by decide) (hts _ q305) (fun _ h9 => h9) rfl dX0_undo_198 ?_
          refine va_getN (ci := 2) (v := .ref (ta 1)) (C := RX2) (T := TX2) (N := 12) (host := "SleeveSlips") hx hb hts in_X2 hown hC.1 hC.2.1 (10) rfl rfl 0 (by decide) (va_Nw.use rfl (hN.1 33)) (fun _ h9 => h9) rfl dX0_undo_201 ?_
          refine lv_iload_n hx hb dX0_undo_204 rfl (lv_at hl 3 rfl) ?_
          obtain ⟨hi_205, hf⟩ := ck_some hf
          refine va_aldq hx hb hC.1 hC.2.1 11 4 rfl rfl hi_205 dX0_undo_205 ?_
          refine lv_iload_n hx hb dX0_undo_206 rfl (lv_at hl 2 rfl) ?_
          refine lv_aload_n hx hb dX0_undo_207 rfl (lv_at hl 0 rfl) ?_
          refine va_get (ci := 0) (v := .ref (ta 0)) (C := RX0) (T := TX0) (N := 13) hx hb hts in_X0 hown hC.1 hC.2.1 (26) rfl rfl 1 (by decide) (hts _ q305) (fun _ h9 => h9) rfl dX0_undo_208 ?_
          refine va_getN (ci := 2) (v := .ref (ta 15)) (C := RX2) (T := TX2) (N := 12) (host := "SleeveSlips") hx hb hts in_X2 hown hC.1 hC.2.1 (10) rfl rfl 6 (by decide) (va_Nw.use rfl (hN.1 39)) (fun _ h9 => h9) rfl dX0_undo_211 ?_
          refine lv_iload_n hx hb dX0_undo_214 rfl (lv_at hl 1 rfl) ?_
          obtain ⟨hi_215, hf⟩ := ck_some hf
          refine va_iald hx hb hC.1 hC.2.1 (25) 0 rfl rfl hi_215 dX0_undo_215 ?_
          obtain ⟨sl_216, mn_216, hcall, hf⟩ := bnd2_some hf
          refine hs_v (va_runV (C := RX3) (As := [.int (which (deeds - 1).toNatClampNeg), .int (place (deeds - 1).toNatClampNeg)]) (rest := []) ⟨hx, hb, hml, hown, hts⟩ (c_x_pin_ (vp_lt hi_205) hcall) (cwV 2 hts (lw_V q594 q595 q596 q51 q597) rfl rfl rfl (by decide +kernel) ⟨(Nat.le_trans (Nat.le_of_ble_eq_true rfl) hRf), (Nat.le_trans (Nat.le_of_ble_eq_true rfl) hRl)⟩) (pre_VG (q0 := 2 + (whose (deeds - 1).toNatClampNeg).toNatClampNeg) (ci := 3) NX.calling (fun U _ hW => NX.warm hW hN) hC [0, 1, 2, 3, 4, 5, 6] rfl rfl (tw_sl (vp_lt hi_205))) rfl rfl hl.1 rfl (lv_room (Nat.le_of_ble_eq_true rfl)) dX0_undo_216 ⟨hRc, hRs⟩) hA hC (fun H locs hC => ?_)
          have hC : HC D gcl (gty d) A (xw d ad ba ta imgs room work price whom bday units worth due under people askings hangs items (upd many_149 ((whose (deeds - 1).toNatClampNeg).toNatClampNeg) mn_216) (va_up slip_149 ((whose (deeds - 1).toNatClampNeg).toNatClampNeg) sl_216) (upd became (which (deeds - 1).toNatClampNeg).toNatClampNeg 1) left what which whose place (deeds - 1) day won (lost - t_183) kept text typed rest bestSet tenths sortWorth sortDays row trace) s H locs := hC
          refine lv_iload_n hx hb dX0_undo_219 rfl (lv_at hl 1 rfl) ?_
          obtain ⟨e_1, e_2, e_3, e_4, e_5, e_6⟩ := so_6 (Option.some.inj hf)
          subst e_1
          subst e_2
          subst e_3
          subst e_4
          subst e_5
          subst e_6
          exact K H locs ls _ rfl hC dX0_undo_220
        · have hf := hj
          refine lv_icmp_ne (tgt := 182) hx hb dX0_undo_167 (by decide) (fun c_167 => ?_) (fun c_167 => ?_)
          · have hf := if_f hf c_167
            refine lv_iconst (v := 0) hx hb dX0_undo_182 (by decide) ?_
            have e_1 := (Option.some.inj hf)
            subst e_1
            exact J_183
          · have hf := if_t hf c_167
            refine lv_aload_n hx hb dX0_undo_170 rfl (lv_at hl 0 rfl) ?_
            refine va_get (ci := 0) (v := .ref (ba 0)) (C := RX0) (T := TX0) (N := 13) hx hb hts in_X0 hown hC.1 hC.2.1 (26) rfl rfl 0 (by decide) (hts _ q302) (fun _ h9 => h9) rfl dX0_undo_171 ?_
            refine va_getN (ci := 1) (v := .ref (ba 7)) (C := RX1) (T := TX1) (N := 13) (host := "SleeveSlips") hx hb hts in_X1 hown hC.1 hC.2.1 (0) rfl rfl 6 (by decide) (va_Nw.use rfl (hN.1 15)) (fun _ h9 => h9) rfl dX0_undo_174 ?_
            refine lv_iload_n hx hb dX0_undo_177 rfl (lv_at hl 2 rfl) ?_
            obtain ⟨hi_178, hf⟩ := ck_some hf
            refine va_iald hx hb hC.1 hC.2.1 (7) 0 rfl rfl hi_178 dX0_undo_178 ?_
            refine lv_goto (tgt := 183) hx hb dX0_undo_179 (by decide) ?_
            have e_1 := (Option.some.inj hf)
            subst e_1
            exact J_183
      have hf := hj
      refine lv_icmp_ne (tgt := 149) hx hb dX0_undo_109 (by decide) (fun c_109 => ?_) (fun c_109 => ?_)
      · have hf := if_f hf c_109
        obtain ⟨e_1, e_2⟩ := so_2 (Option.some.inj hf)
        subst e_1
        subst e_2
        exact J_149 H locs ls hC (lv_sub hl [3, 2, 1, 0] rfl)
      · have hf := if_t hf c_109
        refine lv_aload_n hx hb dX0_undo_112 rfl (lv_at hl 3 rfl) ?_
        refine va_get (ci := 0) (v := .ref (ta 0)) (C := RX0) (T := TX0) (N := 13) hx hb hts in_X0 hown hC.1 hC.2.1 (26) rfl rfl 1 (by decide) (hts _ q305) (fun _ h9 => h9) rfl dX0_undo_113 ?_
        refine lv_iload_n hx hb dX0_undo_116 rfl (lv_at hl 1 rfl) ?_
        obtain ⟨r_117, hcall, hf⟩ := bnd_some hf
        refine hs_i (va_runV (C := RX2) (As := [.int (which (deeds - 1).toNatClampNeg)]) (rest := []) ⟨hx, hb, hml, hown, hts⟩ (c_x_sleeveOf hcall) (cwV 1 hts (lw_V q567 q568 q569 q50 q570) rfl rfl rfl (by decide +kernel) ⟨(Nat.le_trans (Nat.le_of_ble_eq_true rfl) hRf), (Nat.le_trans (Nat.le_of_ble_eq_true rfl) hRl)⟩) (pre_VG (q0 := 0) (ci := 2) NX.calling (fun U _ hW => NX.warm hW hN) hC [0, 1, 2, 3, 4, 5, 6] rfl rfl rfl) rfl rfl hl.1 rfl (lv_room (Nat.le_of_ble_eq_true rfl)) dX0_undo_117 ⟨hRc, hRs⟩) hA hC (fun H locs hC => ?_)
        have hC : HC D gcl (gty d) A (xw d ad ba ta imgs room work price whom bday units worth due under people askings hangs items many slip became left what which whose place (deeds - 1) day won lost kept text typed rest bestSet tenths sortWorth sortDays row trace) s H locs := hC
        refine lv_istore (lv' := [(4, .int r_117), (3, .int (whose (deeds - 1).toNatClampNeg)), (2, .int (which (deeds - 1).toNatClampNeg)), (1, .int (deeds - 1)), (0, .ref (ad 0))]) hx hb dX0_undo_120 hl (by decide) rfl (fun ls hl => ?_)
        refine lv_aload_n hx hb dX0_undo_122 rfl (lv_at hl 4 rfl) ?_
        refine va_get (ci := 0) (v := .ref (ta 0)) (C := RX0) (T := TX0) (N := 13) hx hb hts in_X0 hown hC.1 hC.2.1 (26) rfl rfl 1 (by decide) (hts _ q305) (fun _ h9 => h9) rfl dX0_undo_123 ?_
        refine va_getN (ci := 2) (v := .ref (ta 1)) (C := RX2) (T := TX2) (N := 12) (host := "SleeveSlips") hx hb hts in_X2 hown hC.1 hC.2.1 (10) rfl rfl 0 (by decide) (va_Nw.use rfl (hN.1 33)) (fun _ h9 => h9) rfl dX0_undo_126 ?_
        refine lv_iload hx hb dX0_undo_129 (lv_at hl 0 rfl) ?_
        obtain ⟨hi_131, hf⟩ := ck_some hf
        refine va_aldq hx hb hC.1 hC.2.1 11 4 rfl rfl hi_131 dX0_undo_131 ?_
        refine lv_aload_n hx hb dX0_undo_132 rfl (lv_at hl 4 rfl) ?_
        refine va_get (ci := 0) (v := .ref (ta 0)) (C := RX0) (T := TX0) (N := 13) hx hb hts in_X0 hown hC.1 hC.2.1 (26) rfl rfl 1 (by decide) (hts _ q305) (fun _ h9 => h9) rfl dX0_undo_133 ?_
        refine va_getN (ci := 2) (v := .ref (ta 1)) (C := RX2) (T := TX2) (N := 12) (host := "SleeveSlips") hx hb hts in_X2 hown hC.1 hC.2.1 (10) rfl rfl 0 (by decide) (va_Nw.use rfl (hN.1 33)) (fun _ h9 => h9) rfl dX0_undo_136 ?_
        refine lv_iload hx hb dX0_undo_139 (lv_at hl 0 rfl) ?_
        obtain ⟨hi_141, hf⟩ := ck_some hf
        refine va_aldq hx hb hC.1 hC.2.1 11 4 rfl rfl hi_141 dX0_undo_141 ?_
        refine lv_iload_n hx hb dX0_undo_142 rfl (lv_at hl 2 rfl) ?_
        obtain ⟨r_143, hcall, hf⟩ := bnd_some hf
        refine hs_i (va_runV (C := RX3) (As := [.int (which (deeds - 1).toNatClampNeg)]) (rest := [.ref (ta (2 + r_117.toNatClampNeg))]) ⟨hx, hb, hml, hown, hts⟩ (c_x_placeOf_ (vp_lt hi_141) hcall) (cwV 1 hts (lw_V q629 q572 q573 q51 q574) rfl rfl rfl (by decide +kernel) ⟨(Nat.le_trans (Nat.le_of_ble_eq_true rfl) hRf), (Nat.le_trans (Nat.le_of_ble_eq_true rfl) hRl)⟩) (pre_VG (q0 := 2 + r_117.toNatClampNeg) (ci := 3) NX.calling (fun U _ hW => NX.warm hW hN) hC [0, 1, 2, 3, 4, 5, 6] rfl rfl (tw_sl (vp_lt hi_141))) rfl rfl hl.1 rfl (lv_room (Nat.le_of_ble_eq_true rfl)) dX0_undo_143 ⟨hRc, hRs⟩) hA hC (fun H locs hC => ?_)
        have hC : HC D gcl (gty d) A (xw d ad ba ta imgs room work price whom bday units worth due under people askings hangs items many slip became left what which whose place (deeds - 1) day won lost kept text typed rest bestSet tenths sortWorth sortDays row trace) s H locs := hC
        obtain ⟨sl_146, mn_146, hcall, hf⟩ := bnd2_some hf
        refine hs_v (va_runV (C := RX3) (As := [.int r_143]) (rest := []) ⟨hx, hb, hml, hown, hts⟩ (c_x_unpin_ (vp_lt hi_131) hcall) (cwV 1 hts (lw_V q628 q613 q614 q51 q615) rfl rfl rfl (by decide +kernel) ⟨(Nat.le_trans (Nat.le_of_ble_eq_true rfl) hRf), (Nat.le_trans (Nat.le_of_ble_eq_true rfl) hRl)⟩) (pre_VG (q0 := 2 + r_117.toNatClampNeg) (ci := 3) NX.calling (fun U _ hW => NX.warm hW hN) hC [0, 1, 2, 3, 4, 5, 6] rfl rfl (tw_sl (vp_lt hi_131))) rfl rfl hl.1 rfl (lv_room (Nat.le_of_ble_eq_true rfl)) dX0_undo_146 ⟨hRc, hRs⟩) hA hC (fun H locs hC => ?_)
        have hC : HC D gcl (gty d) A (xw d ad ba ta imgs room work price whom bday units worth due under people askings hangs items (upd many r_117.toNatClampNeg mn_146) (va_up slip r_117.toNatClampNeg sl_146) became left what which whose place (deeds - 1) day won lost kept text typed rest bestSet tenths sortWorth sortDays row trace) s H locs := hC
        obtain ⟨e_1, e_2⟩ := so_2 (Option.some.inj hf)
        subst e_1
        subst e_2
        exact J_149 H locs ls hC (lv_sub hl [4, 3, 2, 1] rfl)
    · have hf := if_t hf c_63
      refine lv_aload_n hx hb dX0_undo_66 rfl (lv_at hl 3 rfl) ?_
      refine va_get (ci := 0) (v := .ref (ta 0)) (C := RX0) (T := TX0) (N := 13) hx hb hts in_X0 hown hC.1 hC.2.1 (26) rfl rfl 1 (by decide) (hts _ q305) (fun _ h9 => h9) rfl dX0_undo_67 ?_
      refine va_getN (ci := 2) (v := .ref (ta 1)) (C := RX2) (T := TX2) (N := 12) (host := "SleeveSlips") hx hb hts in_X2 hown hC.1 hC.2.1 (10) rfl rfl 0 (by decide) (va_Nw.use rfl (hN.1 33)) (fun _ h9 => h9) rfl dX0_undo_70 ?_
      refine lv_iload_n hx hb dX0_undo_73 rfl (lv_at hl 0 rfl) ?_
      obtain ⟨hi_74, hf⟩ := ck_some hf
      refine va_aldq hx hb hC.1 hC.2.1 11 4 rfl rfl hi_74 dX0_undo_74 ?_
      refine lv_aload_n hx hb dX0_undo_75 rfl (lv_at hl 3 rfl) ?_
      refine va_get (ci := 0) (v := .ref (ta 0)) (C := RX0) (T := TX0) (N := 13) hx hb hts in_X0 hown hC.1 hC.2.1 (26) rfl rfl 1 (by decide) (hts _ q305) (fun _ h9 => h9) rfl dX0_undo_76 ?_
      refine va_getN (ci := 2) (v := .ref (ta 15)) (C := RX2) (T := TX2) (N := 12) (host := "SleeveSlips") hx hb hts in_X2 hown hC.1 hC.2.1 (10) rfl rfl 6 (by decide) (va_Nw.use rfl (hN.1 39)) (fun _ h9 => h9) rfl dX0_undo_79 ?_
      refine lv_iload_n hx hb dX0_undo_82 rfl (lv_at hl 2 rfl) ?_
      obtain ⟨hi_83, hf⟩ := ck_some hf
      refine va_iald hx hb hC.1 hC.2.1 (25) 0 rfl rfl hi_83 dX0_undo_83 ?_
      obtain ⟨sl_84, mn_84, hcall, hf⟩ := bnd2_some hf
      refine hs_v (va_runV (C := RX3) (As := [.int (place (deeds - 1).toNatClampNeg)]) (rest := []) ⟨hx, hb, hml, hown, hts⟩ (c_x_unpin_ (vp_lt hi_74) hcall) (cwV 1 hts (lw_V q628 q613 q614 q51 q615) rfl rfl rfl (by decide +kernel) ⟨(Nat.le_trans (Nat.le_of_ble_eq_true rfl) hRf), (Nat.le_trans (Nat.le_of_ble_eq_true rfl) hRl)⟩) (pre_VG (q0 := 2 + (whose (deeds - 1).toNatClampNeg).toNatClampNeg) (ci := 3) NX.calling (fun U _ hW => NX.warm hW hN) hC [0, 1, 2, 3, 4, 5, 6] rfl rfl (tw_sl (vp_lt hi_74))) rfl rfl hl.1 rfl (lv_room (Nat.le_of_ble_eq_true rfl)) dX0_undo_84 ⟨hRc, hRs⟩) hA hC (fun H locs hC => ?_)
      have hC : HC D gcl (gty d) A (xw d ad ba ta imgs room work price whom bday units worth due under people askings hangs items (upd many ((whose (deeds - 1).toNatClampNeg).toNatClampNeg) mn_84) (va_up slip ((whose (deeds - 1).toNatClampNeg).toNatClampNeg) sl_84) became left what which whose place (deeds - 1) day won lost kept text typed rest bestSet tenths sortWorth sortDays row trace) s H locs := hC
      refine lv_aload_n hx hb dX0_undo_87 rfl (lv_at hl 3 rfl) ?_
      refine va_get (ci := 0) (v := .ref (ta 0)) (C := RX0) (T := TX0) (N := 13) hx hb hts in_X0 hown hC.1 hC.2.1 (26) rfl rfl 1 (by decide) (hts _ q305) (fun _ h9 => h9) rfl dX0_undo_88 ?_
      refine va_getN (ci := 2) (v := .ref (ta 10)) (C := RX2) (T := TX2) (N := 12) (host := "SleeveSlips") hx hb hts in_X2 hown hC.1 hC.2.1 (10) rfl rfl 1 (by decide) (va_Nw.use rfl (hN.1 34)) (fun _ h9 => h9) rfl dX0_undo_91 ?_
      refine lv_iload_n hx hb dX0_undo_94 rfl (lv_at hl 1 rfl) ?_
      refine lv_iconst (v := 0) hx hb dX0_undo_95 (by decide) ?_
      obtain ⟨hi_96, hf⟩ := ck_some hf
      refine va_iast hx hb hC.1 hC.2.1 hC.2.2.1 hC.2.2.2 (20) 0 rfl rfl hi_96 dX0_undo_96 (fun H locs hP hD hS => ?_)
      have hC : HC D gcl (gty d) A (xw d ad ba ta imgs room work price whom bday units worth due under people askings hangs items (upd many ((whose (deeds - 1).toNatClampNeg).toNatClampNeg) mn_84) (va_up slip ((whose (deeds - 1).toNatClampNeg).toNatClampNeg) sl_84) (upd became (which (deeds - 1).toNatClampNeg).toNatClampNeg 0) left what which whose place (deeds - 1) day won lost kept text typed rest bestSet tenths sortWorth sortDays row trace) s H locs := ⟨hC.1, hP, hD, hS⟩
      refine lv_iload_n hx hb dX0_undo_97 rfl (lv_at hl 2 rfl) ?_
      obtain ⟨e_1, e_2, e_3, e_4, e_5, e_6⟩ := so_6 (Option.some.inj hf)
      subst e_1
      subst e_2
      subst e_3
      subst e_4
      subst e_5
      subst e_6
      exact K H locs ls _ rfl hC dX0_undo_98
  · have hf := if_t hf c_7
    refine lv_bipush (v := (-2)) hx hb dX0_undo_10 (by decide) ?_
    obtain ⟨e_1, e_2, e_3, e_4, e_5, e_6⟩ := so_6 (Option.some.inj hf)
    subst e_1
    subst e_2
    subst e_3
    subst e_4
    subst e_5
    subst e_6
    exact K H locs ls _ rfl hC dX0_undo_12
set_option maxRecDepth 100000 in
theorem c_x_undo {l : Launch} {sz : Nat} {D : va_G} {d : Nat → ClassId} {ad : Nat → Nat} {ba : Nat → Nat} {ta : Nat → Nat} {imgs : va_W} {room : Nat → Int32} {work : Nat → Int32} {price : Nat → Int32} {whom : Nat → Int32} {bday : Nat → Int32} {units : Nat → Int32} {worth : Nat → Int32} {due : Nat → Int32} {under : Nat → Int32} {people : Int32} {askings : Int32} {hangs : Int32} {items : Int32} {many : Nat → Int32} {slip : Nat → Nat → Int32} {became : Nat → Int32} {left : Nat → Int32} {what : Nat → Int32} {which : Nat → Int32} {whose : Nat → Int32} {place : Nat → Int32} {deeds : Int32} {day : Int32} {won : Int32} {lost : Int32} {kept : Int32} {text : Nat → Int32} {typed : Int32} {rest : Nat → Int32} {bestSet : Int32} {tenths : Nat → Int32} {sortWorth : Nat → Int32} {sortDays : Nat → Int32} {row : Nat → Int32} {trace : Int64} {r : Int32} {many_r : Nat → Int32} {slip_r : Nat → Nat → Int32} {became_r : Nat → Int32} {deeds_r : Int32} {lost_r : Int32} (hf : x_undo worth many slip became what which whose place deeds lost = some (r, many_r, slip_r, became_r, deeds_r, lost_r)) : MI l yX0_undo (ws_ yX0_undo cX0_undo 5 (some .int)) { frames := 2, cells := 0, slots := 0, locals := 46 } D gcl (gty d) NX (xw d ad ba ta imgs room work price whom bday units worth due under people askings hangs items many slip became left what which whose place deeds day won lost kept text typed rest bestSet tenths sortWorth sortDays row trace) (xw d ad ba ta imgs room work price whom bday units worth due under people askings hangs items many_r slip_r became_r left what which whose place deeds_r day won lost_r kept text typed rest bestSet tenths sortWorth sortDays row trace) sz [.ref (ad 0)] r :=
  MI.of (by decide) [.ref (ad 0)] [(0, .ref (ad 0))] (Nat.le_of_ble_eq_true rfl) rfl (fun p e s m below meth c ls Q hx hb hml hown hts hN hA hC hl K => w_x_undo hx hb hml hown hts hN hA (Nat.le_refl _) (Nat.le_refl _) (Nat.le_refl _) (Nat.le_refl _) hf hC hl K)
