set_option maxRecDepth 100000
def x_rate4_0 (room : Nat → Int32) (many : Nat → Int32) (trace : Int64) (x1 : Int32) : Option (Int32 × Int64) :=
  ck x1 4 <| ck x1 4 <| some ((room x1.toNatClampNeg) - (many x1.toNatClampNeg), trace + 1)
set_option maxHeartbeats 4000000 in
set_option maxRecDepth 100000 in
theorem w_x_rate4_0 {p : Program} {l : Launch} {e : Env} {R : Room} {s : State} {m : MethodId} {args : Array Value} {below : List Frame} {meth : Method} {c : Code} {H : Heap} {locs : List Loc} {cells slots : Nat} {Q : State → Prop} {A : Nat → Prop} {ls : Array Slot} {D : va_G} {d : Nat → ClassId} {ad : Nat → Nat} {ba : Nat → Nat} {ta : Nat → Nat} {imgs : va_W} {room : Nat → Int32} {work : Nat → Int32} {price : Nat → Int32} {whom : Nat → Int32} {bday : Nat → Int32} {units : Nat → Int32} {worth : Nat → Int32} {due : Nat → Int32} {under : Nat → Int32} {people : Int32} {askings : Int32} {hangs : Int32} {items : Int32} {many : Nat → Int32} {slip : Nat → Nat → Int32} {became : Nat → Int32} {left : Nat → Int32} {what : Nat → Int32} {which : Nat → Int32} {whose : Nat → Int32} {place : Nat → Int32} {deeds : Int32} {day : Int32} {won : Int32} {lost : Int32} {kept : Int32} {text : Nat → Int32} {typed : Int32} {rest : Nat → Int32} {bestSet : Int32} {tenths : Nat → Int32} {sortWorth : Nat → Int32} {sortDays : Nat → Int32} {row : Nat → Int32} {trace : Int64} {x1 : Int32} {r : Int32} {trace_r : Int64} (hx : p.tables.exec = Jvm.exec) (hb : c.code = cX4_rate) (hml : c.maxLocals = 2) (hown : s.vm.findClass RX4 = some m.cls) (hts : ∀ w ∈ lw_all, w.before args s = true) (hN : NX s) (hA : ∀ q, s.heap.size ≤ q → A q) (hRf : 0 ≤ R.frames) (hRl : 0 ≤ R.locals) (hRc : cells ≤ R.cells) (hRs : slots ≤ R.slots) (hf : x_rate4_0 room many trace x1 = some (r, trace_r)) (hC : HC D gcl (gty d) A (xw d ad ba ta imgs room work price whom bday units worth due under people askings hangs items many slip became left what which whose place deeds day won lost kept text typed rest bestSet tenths sortWorth sortDays row trace) s H locs) (hl : lv_has ls 2 [(0, .ref (ad 8)), (1, .int x1)]) (K : ∀ (H : Heap) (locs : List Loc) (ls : Array Slot) (pc : Nat), narrow .int (.int r) = .int r → HC D gcl (gty d) A (xw d ad ba ta imgs room work price whom bday units worth due under people askings hangs items many slip became left what which whose place deeds day won lost kept text typed rest bestSet tenths sortWorth sortDays row trace_r) s H locs → decode cX4_rate pc = .ok (.ireturn, 1) → W p l e R s m args below meth c H locs cells slots Q (F0 m pc ls [.int r])) : W p l e R s m args below meth c H locs cells slots Q (F0 m 0 ls []) := by
  unfold x_rate4_0 at hf
  refine lv_aload_n hx hb dX4_rate_0 rfl (lv_at hl 0 rfl) ?_
  refine va_get (ci := 4) (v := .ref (ad 0)) (C := RX4) (T := TX4) (N := 1) hx hb hts in_X4 hown hC.1 hC.2.1 (34) rfl rfl 0 (by decide) (hts _ q233) (fun _ h9 => h9) rfl dX4_rate_1 ?_
  refine lv_dup hx hb dX4_rate_4 rfl ?_
  refine va_getN (ci := 0) (v := .long trace) (C := RX0) (T := TX0) (N := 13) (host := "SleeveSlips") hx hb hts in_X0 hown hC.1 hC.2.1 (26) rfl rfl 11 (by decide) (va_Nw.use rfl (hN.1 52)) (fun _ h9 => h9) rfl dX4_rate_5 ?_
  refine lv_lconst (v := 1) hx hb dX4_rate_8 (by decide) ?_
  refine lv_ladd hx hb dX4_rate_9 ?_
  refine va_putN (ci := 0) (v := .long (trace + 1)) (ty := .long) (C := RX0) (T := TX0) (N := 13) (host := "SleeveSlips") hx hb hts in_X0 tyX0 tyX0_ok nmX0 hown hC.1 hC.2.1 hC.2.2.1 hC.2.2.2 (26) rfl rfl 11 (by decide) (va_Nw.use rfl (hN.1 52)) (fun _ h9 => h9) rfl (tyX0_ok 11 (by decide)) rfl rfl (Nat.le_of_ble_eq_true rfl) dX4_rate_10 (fun H locs hP hD hS => ?_)
  have hC : HC D gcl (gty d) A (xw d ad ba ta imgs room work price whom bday units worth due under people askings hangs items many slip became left what which whose place deeds day won lost kept text typed rest bestSet tenths sortWorth sortDays row (trace + 1)) s H locs := ⟨hC.1, hP, hD, hS⟩
  refine lv_aload_n hx hb dX4_rate_13 rfl (lv_at hl 0 rfl) ?_
  refine va_get (ci := 4) (v := .ref (ad 0)) (C := RX4) (T := TX4) (N := 1) hx hb hts in_X4 hown hC.1 hC.2.1 (34) rfl rfl 0 (by decide) (hts _ q233) (fun _ h9 => h9) rfl dX4_rate_14 ?_
  refine va_getN (ci := 0) (v := .ref (ba 0)) (C := RX0) (T := TX0) (N := 13) (host := "SleeveSlips") hx hb hts in_X0 hown hC.1 hC.2.1 (26) rfl rfl 0 (by decide) (va_Nw.use rfl (hN.1 46)) (fun _ h9 => h9) rfl dX4_rate_17 ?_
  refine va_getN (ci := 1) (v := .ref (ba 1)) (C := RX1) (T := TX1) (N := 13) (host := "SleeveSlips") hx hb hts in_X1 hown hC.1 hC.2.1 (0) rfl rfl 0 (by decide) (va_Nw.use rfl (hN.1 0)) (fun _ h9 => h9) rfl dX4_rate_20 ?_
  refine lv_iload_n hx hb dX4_rate_23 rfl (lv_at hl 1 rfl) ?_
  obtain ⟨hi_24, hf⟩ := ck_some hf
  refine va_iald hx hb hC.1 hC.2.1 (1) 0 rfl rfl hi_24 dX4_rate_24 ?_
  refine lv_aload_n hx hb dX4_rate_25 rfl (lv_at hl 0 rfl) ?_
  refine va_get (ci := 4) (v := .ref (ad 0)) (C := RX4) (T := TX4) (N := 1) hx hb hts in_X4 hown hC.1 hC.2.1 (34) rfl rfl 0 (by decide) (hts _ q233) (fun _ h9 => h9) rfl dX4_rate_26 ?_
  refine va_getN (ci := 0) (v := .ref (ta 0)) (C := RX0) (T := TX0) (N := 13) (host := "SleeveSlips") hx hb hts in_X0 hown hC.1 hC.2.1 (26) rfl rfl 1 (by decide) (va_Nw.use rfl (hN.1 49)) (fun _ h9 => h9) rfl dX4_rate_29 ?_
  refine va_getN (ci := 2) (v := .ref (ta 1)) (C := RX2) (T := TX2) (N := 12) (host := "SleeveSlips") hx hb hts in_X2 hown hC.1 hC.2.1 (10) rfl rfl 0 (by decide) (va_Nw.use rfl (hN.1 32)) (fun _ h9 => h9) rfl dX4_rate_32 ?_
  refine lv_iload_n hx hb dX4_rate_35 rfl (lv_at hl 1 rfl) ?_
  obtain ⟨hi_36, hf⟩ := ck_some hf
  refine va_aldq hx hb hC.1 hC.2.1 11 4 rfl rfl hi_36 dX4_rate_36 ?_
  refine va_getN (ci := 3) (v := .int (many x1.toNatClampNeg)) (C := RX3) (T := TX3) (N := 2) (host := "SleeveSlips") hx hb hts in_X3 hown hC.1 hC.2.1 (12 + x1.toNatClampNeg) (xw_sl (vp_lt hi_36)) rfl 1 (by decide) (va_Nw.use rfl (hN.1 30)) (fun _ h9 => h9) rfl dX4_rate_37 ?_
  refine lv_isub hx hb dX4_rate_40 ?_
  obtain ⟨e_1, e_2⟩ := so_2 (Option.some.inj hf)
  subst e_1
  subst e_2
  exact K H locs ls _ rfl hC dX4_rate_41
set_option maxRecDepth 100000 in
theorem c_x_rate4_0 {l : Launch} {sz : Nat} {D : va_G} {d : Nat → ClassId} {ad : Nat → Nat} {ba : Nat → Nat} {ta : Nat → Nat} {imgs : va_W} {room : Nat → Int32} {work : Nat → Int32} {price : Nat → Int32} {whom : Nat → Int32} {bday : Nat → Int32} {units : Nat → Int32} {worth : Nat → Int32} {due : Nat → Int32} {under : Nat → Int32} {people : Int32} {askings : Int32} {hangs : Int32} {items : Int32} {many : Nat → Int32} {slip : Nat → Nat → Int32} {became : Nat → Int32} {left : Nat → Int32} {what : Nat → Int32} {which : Nat → Int32} {whose : Nat → Int32} {place : Nat → Int32} {deeds : Int32} {day : Int32} {won : Int32} {lost : Int32} {kept : Int32} {text : Nat → Int32} {typed : Int32} {rest : Nat → Int32} {bestSet : Int32} {tenths : Nat → Int32} {sortWorth : Nat → Int32} {sortDays : Nat → Int32} {row : Nat → Int32} {trace : Int64} {x1 : Int32} {r : Int32} {trace_r : Int64} (hf : x_rate4_0 room many trace x1 = some (r, trace_r)) : MI l yX4_rate (ws_ yX4_rate cX4_rate 2 (some .int)) { frames := 0, cells := 0, slots := 0, locals := 0 } D gcl (gty d) NX (xw d ad ba ta imgs room work price whom bday units worth due under people askings hangs items many slip became left what which whose place deeds day won lost kept text typed rest bestSet tenths sortWorth sortDays row trace) (xw d ad ba ta imgs room work price whom bday units worth due under people askings hangs items many slip became left what which whose place deeds day won lost kept text typed rest bestSet tenths sortWorth sortDays row trace_r) sz [.ref (ad 8), .int x1] r :=
  MI.of (by decide) [.ref (ad 8), .int x1] [(0, .ref (ad 8)), (1, .int x1)] (Nat.le_of_ble_eq_true rfl) rfl (fun p e s m below meth c ls Q hx hb hml hown hts hN hA hC hl K => w_x_rate4_0 hx hb hml hown hts hN hA (Nat.le_refl _) (Nat.le_refl _) (Nat.le_refl _) (Nat.le_refl _) hf hC hl K)

def x_rate4_1 (room : Nat → Int32) (many : Nat → Int32) (trace : Int64) (x1 : Int32) : Option (Int32 × Int64) :=
  ck x1 4 <| ck x1 4 <| some ((room x1.toNatClampNeg) - (many x1.toNatClampNeg), trace + 1)
set_option maxHeartbeats 4000000 in
set_option maxRecDepth 100000 in
theorem w_x_rate4_1 {p : Program} {l : Launch} {e : Env} {R : Room} {s : State} {m : MethodId} {args : Array Value} {below : List Frame} {meth : Method} {c : Code} {H : Heap} {locs : List Loc} {cells slots : Nat} {Q : State → Prop} {A : Nat → Prop} {ls : Array Slot} {D : va_G} {d : Nat → ClassId} {ad : Nat → Nat} {ba : Nat → Nat} {ta : Nat → Nat} {imgs : va_W} {room : Nat → Int32} {work : Nat → Int32} {price : Nat → Int32} {whom : Nat → Int32} {bday : Nat → Int32} {units : Nat → Int32} {worth : Nat → Int32} {due : Nat → Int32} {under : Nat → Int32} {people : Int32} {askings : Int32} {hangs : Int32} {items : Int32} {many : Nat → Int32} {slip : Nat → Nat → Int32} {became : Nat → Int32} {left : Nat → Int32} {what : Nat → Int32} {which : Nat → Int32} {whose : Nat → Int32} {place : Nat → Int32} {deeds : Int32} {day : Int32} {won : Int32} {lost : Int32} {kept : Int32} {text : Nat → Int32} {typed : Int32} {rest : Nat → Int32} {bestSet : Int32} {tenths : Nat → Int32} {sortWorth : Nat → Int32} {sortDays : Nat → Int32} {row : Nat → Int32} {trace : Int64} {x1 : Int32} {r : Int32} {trace_r : Int64} (hx : p.tables.exec = Jvm.exec) (hb : c.code = cX4_rate) (hml : c.maxLocals = 2) (hown : s.vm.findClass RX4 = some m.cls) (hts : ∀ w ∈ lw_all, w.before args s = true) (hN : NX s) (hA : ∀ q, s.heap.size ≤ q → A q) (hRf : 0 ≤ R.frames) (hRl : 0 ≤ R.locals) (hRc : cells ≤ R.cells) (hRs : slots ≤ R.slots) (hf : x_rate4_1 room many trace x1 = some (r, trace_r)) (hC : HC D gcl (gty d) A (xw d ad ba ta imgs room work price whom bday units worth due under people askings hangs items many slip became left what which whose place deeds day won lost kept text typed rest bestSet tenths sortWorth sortDays row trace) s H locs) (hl : lv_has ls 2 [(0, .ref (ad 9)), (1, .int x1)]) (K : ∀ (H : Heap) (locs : List Loc) (ls : Array Slot) (pc : Nat), narrow .int (.int r) = .int r → HC D gcl (gty d) A (xw d ad ba ta imgs room work price whom bday units worth due under people askings hangs items many slip became left what which whose place deeds day won lost kept text typed rest bestSet tenths sortWorth sortDays row trace_r) s H locs → decode cX4_rate pc = .ok (.ireturn, 1) → W p l e R s m args below meth c H locs cells slots Q (F0 m pc ls [.int r])) : W p l e R s m args below meth c H locs cells slots Q (F0 m 0 ls []) := by
  unfold x_rate4_1 at hf
  refine lv_aload_n hx hb dX4_rate_0 rfl (lv_at hl 0 rfl) ?_
  refine va_get (ci := 5) (v := .ref (ad 0)) (C := RX5) (T := TX5) (N := 2) hx hb hts in_X5 hown hC.1 hC.2.1 (35) rfl rfl 0 (by decide) (hts _ q233) (fun _ h9 => h9) rfl dX4_rate_1 ?_
  refine lv_dup hx hb dX4_rate_4 rfl ?_
  refine va_getN (ci := 0) (v := .long trace) (C := RX0) (T := TX0) (N := 13) (host := "SleeveSlips") hx hb hts in_X0 hown hC.1 hC.2.1 (26) rfl rfl 11 (by decide) (va_Nw.use rfl (hN.1 52)) (fun _ h9 => h9) rfl dX4_rate_5 ?_
  refine lv_lconst (v := 1) hx hb dX4_rate_8 (by decide) ?_
  refine lv_ladd hx hb dX4_rate_9 ?_
  refine va_putN (ci := 0) (v := .long (trace + 1)) (ty := .long) (C := RX0) (T := TX0) (N := 13) (host := "SleeveSlips") hx hb hts in_X0 tyX0 tyX0_ok nmX0 hown hC.1 hC.2.1 hC.2.2.1 hC.2.2.2 (26) rfl rfl 11 (by decide) (va_Nw.use rfl (hN.1 52)) (fun _ h9 => h9) rfl (tyX0_ok 11 (by decide)) rfl rfl (Nat.le_of_ble_eq_true rfl) dX4_rate_10 (fun H locs hP hD hS => ?_)
  have hC : HC D gcl (gty d) A (xw d ad ba ta imgs room work price whom bday units worth due under people askings hangs items many slip became left what which whose place deeds day won lost kept text typed rest bestSet tenths sortWorth sortDays row (trace + 1)) s H locs := ⟨hC.1, hP, hD, hS⟩
  refine lv_aload_n hx hb dX4_rate_13 rfl (lv_at hl 0 rfl) ?_
  refine va_get (ci := 5) (v := .ref (ad 0)) (C := RX5) (T := TX5) (N := 2) hx hb hts in_X5 hown hC.1 hC.2.1 (35) rfl rfl 0 (by decide) (hts _ q233) (fun _ h9 => h9) rfl dX4_rate_14 ?_
  refine va_getN (ci := 0) (v := .ref (ba 0)) (C := RX0) (T := TX0) (N := 13) (host := "SleeveSlips") hx hb hts in_X0 hown hC.1 hC.2.1 (26) rfl rfl 0 (by decide) (va_Nw.use rfl (hN.1 46)) (fun _ h9 => h9) rfl dX4_rate_17 ?_
  refine va_getN (ci := 1) (v := .ref (ba 1)) (C := RX1) (T := TX1) (N := 13) (host := "SleeveSlips") hx hb hts in_X1 hown hC.1 hC.2.1 (0) rfl rfl 0 (by decide) (va_Nw.use rfl (hN.1 0)) (fun _ h9 => h9) rfl dX4_rate_20 ?_
  refine lv_iload_n hx hb dX4_rate_23 rfl (lv_at hl 1 rfl) ?_
  obtain ⟨hi_24, hf⟩ := ck_some hf
  refine va_iald hx hb hC.1 hC.2.1 (1) 0 rfl rfl hi_24 dX4_rate_24 ?_
  refine lv_aload_n hx hb dX4_rate_25 rfl (lv_at hl 0 rfl) ?_
  refine va_get (ci := 5) (v := .ref (ad 0)) (C := RX5) (T := TX5) (N := 2) hx hb hts in_X5 hown hC.1 hC.2.1 (35) rfl rfl 0 (by decide) (hts _ q233) (fun _ h9 => h9) rfl dX4_rate_26 ?_
  refine va_getN (ci := 0) (v := .ref (ta 0)) (C := RX0) (T := TX0) (N := 13) (host := "SleeveSlips") hx hb hts in_X0 hown hC.1 hC.2.1 (26) rfl rfl 1 (by decide) (va_Nw.use rfl (hN.1 49)) (fun _ h9 => h9) rfl dX4_rate_29 ?_
  refine va_getN (ci := 2) (v := .ref (ta 1)) (C := RX2) (T := TX2) (N := 12) (host := "SleeveSlips") hx hb hts in_X2 hown hC.1 hC.2.1 (10) rfl rfl 0 (by decide) (va_Nw.use rfl (hN.1 32)) (fun _ h9 => h9) rfl dX4_rate_32 ?_
  refine lv_iload_n hx hb dX4_rate_35 rfl (lv_at hl 1 rfl) ?_
  obtain ⟨hi_36, hf⟩ := ck_some hf
  refine va_aldq hx hb hC.1 hC.2.1 11 4 rfl rfl hi_36 dX4_rate_36 ?_
  refine va_getN (ci := 3) (v := .int (many x1.toNatClampNeg)) (C := RX3) (T := TX3) (N := 2) (host := "SleeveSlips") hx hb hts in_X3 hown hC.1 hC.2.1 (12 + x1.toNatClampNeg) (xw_sl (vp_lt hi_36)) rfl 1 (by decide) (va_Nw.use rfl (hN.1 30)) (fun _ h9 => h9) rfl dX4_rate_37 ?_
  refine lv_isub hx hb dX4_rate_40 ?_
  obtain ⟨e_1, e_2⟩ := so_2 (Option.some.inj hf)
  subst e_1
  subst e_2
  exact K H locs ls _ rfl hC dX4_rate_41
set_option maxRecDepth 100000 in
theorem c_x_rate4_1 {l : Launch} {sz : Nat} {D : va_G} {d : Nat → ClassId} {ad : Nat → Nat} {ba : Nat → Nat} {ta : Nat → Nat} {imgs : va_W} {room : Nat → Int32} {work : Nat → Int32} {price : Nat → Int32} {whom : Nat → Int32} {bday : Nat → Int32} {units : Nat → Int32} {worth : Nat → Int32} {due : Nat → Int32} {under : Nat → Int32} {people : Int32} {askings : Int32} {hangs : Int32} {items : Int32} {many : Nat → Int32} {slip : Nat → Nat → Int32} {became : Nat → Int32} {left : Nat → Int32} {what : Nat → Int32} {which : Nat → Int32} {whose : Nat → Int32} {place : Nat → Int32} {deeds : Int32} {day : Int32} {won : Int32} {lost : Int32} {kept : Int32} {text : Nat → Int32} {typed : Int32} {rest : Nat → Int32} {bestSet : Int32} {tenths : Nat → Int32} {sortWorth : Nat → Int32} {sortDays : Nat → Int32} {row : Nat → Int32} {trace : Int64} {x1 : Int32} {r : Int32} {trace_r : Int64} (hf : x_rate4_1 room many trace x1 = some (r, trace_r)) : MI l yX4_rate (ws_ yX4_rate cX4_rate 2 (some .int)) { frames := 0, cells := 0, slots := 0, locals := 0 } D gcl (gty d) NX (xw d ad ba ta imgs room work price whom bday units worth due under people askings hangs items many slip became left what which whose place deeds day won lost kept text typed rest bestSet tenths sortWorth sortDays row trace) (xw d ad ba ta imgs room work price whom bday units worth due under people askings hangs items many slip became left what which whose place deeds day won lost kept text typed rest bestSet tenths sortWorth sortDays row trace_r) sz [.ref (ad 9), .int x1] r :=
  MI.of (by decide) [.ref (ad 9), .int x1] [(0, .ref (ad 9)), (1, .int x1)] (Nat.le_of_ble_eq_true rfl) rfl (fun p e s m below meth c ls Q hx hb hml hown hts hN hA hC hl K => w_x_rate4_1 hx hb hml hown hts hN hA (Nat.le_refl _) (Nat.le_refl _) (Nat.le_refl _) (Nat.le_refl _) hf hC hl K)

def x_rate4_2 (room : Nat → Int32) (many : Nat → Int32) (trace : Int64) (x1 : Int32) : Option (Int32 × Int64) :=
  ck x1 4 <| ck x1 4 <| some ((room x1.toNatClampNeg) - (many x1.toNatClampNeg), trace + 1)
set_option maxHeartbeats 4000000 in
set_option maxRecDepth 100000 in
theorem w_x_rate4_2 {p : Program} {l : Launch} {e : Env} {R : Room} {s : State} {m : MethodId} {args : Array Value} {below : List Frame} {meth : Method} {c : Code} {H : Heap} {locs : List Loc} {cells slots : Nat} {Q : State → Prop} {A : Nat → Prop} {ls : Array Slot} {D : va_G} {d : Nat → ClassId} {ad : Nat → Nat} {ba : Nat → Nat} {ta : Nat → Nat} {imgs : va_W} {room : Nat → Int32} {work : Nat → Int32} {price : Nat → Int32} {whom : Nat → Int32} {bday : Nat → Int32} {units : Nat → Int32} {worth : Nat → Int32} {due : Nat → Int32} {under : Nat → Int32} {people : Int32} {askings : Int32} {hangs : Int32} {items : Int32} {many : Nat → Int32} {slip : Nat → Nat → Int32} {became : Nat → Int32} {left : Nat → Int32} {what : Nat → Int32} {which : Nat → Int32} {whose : Nat → Int32} {place : Nat → Int32} {deeds : Int32} {day : Int32} {won : Int32} {lost : Int32} {kept : Int32} {text : Nat → Int32} {typed : Int32} {rest : Nat → Int32} {bestSet : Int32} {tenths : Nat → Int32} {sortWorth : Nat → Int32} {sortDays : Nat → Int32} {row : Nat → Int32} {trace : Int64} {x1 : Int32} {r : Int32} {trace_r : Int64} (hx : p.tables.exec = Jvm.exec) (hb : c.code = cX4_rate) (hml : c.maxLocals = 2) (hown : s.vm.findClass RX4 = some m.cls) (hts : ∀ w ∈ lw_all, w.before args s = true) (hN : NX s) (hA : ∀ q, s.heap.size ≤ q → A q) (hRf : 0 ≤ R.frames) (hRl : 0 ≤ R.locals) (hRc : cells ≤ R.cells) (hRs : slots ≤ R.slots) (hf : x_rate4_2 room many trace x1 = some (r, trace_r)) (hC : HC D gcl (gty d) A (xw d ad ba ta imgs room work price whom bday units worth due under people askings hangs items many slip became left what which whose place deeds day won lost kept text typed rest bestSet tenths sortWorth sortDays row trace) s H locs) (hl : lv_has ls 2 [(0, .ref (ad 10)), (1, .int x1)]) (K : ∀ (H : Heap) (locs : List Loc) (ls : Array Slot) (pc : Nat), narrow .int (.int r) = .int r → HC D gcl (gty d) A (xw d ad ba ta imgs room work price whom bday units worth due under people askings hangs items many slip became left what which whose place deeds day won lost kept text typed rest bestSet tenths sortWorth sortDays row trace_r) s H locs → decode cX4_rate pc = .ok (.ireturn, 1) → W p l e R s m args below meth c H locs cells slots Q (F0 m pc ls [.int r])) : W p l e R s m args below meth c H locs cells slots Q (F0 m 0 ls []) := by
  unfold x_rate4_2 at hf
  refine lv_aload_n hx hb dX4_rate_0 rfl (lv_at hl 0 rfl) ?_
  refine va_get (ci := 6) (v := .ref (ad 0)) (C := RX6) (T := TX6) (N := 2) hx hb hts in_X6 hown hC.1 hC.2.1 (36) rfl rfl 0 (by decide) (hts _ q233) (fun _ h9 => h9) rfl dX4_rate_1 ?_
  refine lv_dup hx hb dX4_rate_4 rfl ?_
  refine va_getN (ci := 0) (v := .long trace) (C := RX0) (T := TX0) (N := 13) (host := "SleeveSlips") hx hb hts in_X0 hown hC.1 hC.2.1 (26) rfl rfl 11 (by decide) (va_Nw.use rfl (hN.1 52)) (fun _ h9 => h9) rfl dX4_rate_5 ?_
  refine lv_lconst (v := 1) hx hb dX4_rate_8 (by decide) ?_
  refine lv_ladd hx hb dX4_rate_9 ?_
  refine va_putN (ci := 0) (v := .long (trace + 1)) (ty := .long) (C := RX0) (T := TX0) (N := 13) (host := "SleeveSlips") hx hb hts in_X0 tyX0 tyX0_ok nmX0 hown hC.1 hC.2.1 hC.2.2.1 hC.2.2.2 (26) rfl rfl 11 (by decide) (va_Nw.use rfl (hN.1 52)) (fun _ h9 => h9) rfl (tyX0_ok 11 (by decide)) rfl rfl (Nat.le_of_ble_eq_true rfl) dX4_rate_10 (fun H locs hP hD hS => ?_)
  have hC : HC D gcl (gty d) A (xw d ad ba ta imgs room work price whom bday units worth due under people askings hangs items many slip became left what which whose place deeds day won lost kept text typed rest bestSet tenths sortWorth sortDays row (trace + 1)) s H locs := ⟨hC.1, hP, hD, hS⟩
  refine lv_aload_n hx hb dX4_rate_13 rfl (lv_at hl 0 rfl) ?_
  refine va_get (ci := 6) (v := .ref (ad 0)) (C := RX6) (T := TX6) (N := 2) hx hb hts in_X6 hown hC.1 hC.2.1 (36) rfl rfl 0 (by decide) (hts _ q233) (fun _ h9 => h9) rfl dX4_rate_14 ?_
  refine va_getN (ci := 0) (v := .ref (ba 0)) (C := RX0) (T := TX0) (N := 13) (host := "SleeveSlips") hx hb hts in_X0 hown hC.1 hC.2.1 (26) rfl rfl 0 (by decide) (va_Nw.use rfl (hN.1 46)) (fun _ h9 => h9) rfl dX4_rate_17 ?_
  refine va_getN (ci := 1) (v := .ref (ba 1)) (C := RX1) (T := TX1) (N := 13) (host := "SleeveSlips") hx hb hts in_X1 hown hC.1 hC.2.1 (0) rfl rfl 0 (by decide) (va_Nw.use rfl (hN.1 0)) (fun _ h9 => h9) rfl dX4_rate_20 ?_
  refine lv_iload_n hx hb dX4_rate_23 rfl (lv_at hl 1 rfl) ?_
  obtain ⟨hi_24, hf⟩ := ck_some hf
  refine va_iald hx hb hC.1 hC.2.1 (1) 0 rfl rfl hi_24 dX4_rate_24 ?_
  refine lv_aload_n hx hb dX4_rate_25 rfl (lv_at hl 0 rfl) ?_
  refine va_get (ci := 6) (v := .ref (ad 0)) (C := RX6) (T := TX6) (N := 2) hx hb hts in_X6 hown hC.1 hC.2.1 (36) rfl rfl 0 (by decide) (hts _ q233) (fun _ h9 => h9) rfl dX4_rate_26 ?_
  refine va_getN (ci := 0) (v := .ref (ta 0)) (C := RX0) (T := TX0) (N := 13) (host := "SleeveSlips") hx hb hts in_X0 hown hC.1 hC.2.1 (26) rfl rfl 1 (by decide) (va_Nw.use rfl (hN.1 49)) (fun _ h9 => h9) rfl dX4_rate_29 ?_
  refine va_getN (ci := 2) (v := .ref (ta 1)) (C := RX2) (T := TX2) (N := 12) (host := "SleeveSlips") hx hb hts in_X2 hown hC.1 hC.2.1 (10) rfl rfl 0 (by decide) (va_Nw.use rfl (hN.1 32)) (fun _ h9 => h9) rfl dX4_rate_32 ?_
  refine lv_iload_n hx hb dX4_rate_35 rfl (lv_at hl 1 rfl) ?_
  obtain ⟨hi_36, hf⟩ := ck_some hf
  refine va_aldq hx hb hC.1 hC.2.1 11 4 rfl rfl hi_36 dX4_rate_36 ?_
  refine va_getN (ci := 3) (v := .int (many x1.toNatClampNeg)) (C := RX3) (T := TX3) (N := 2) (host := "SleeveSlips") hx hb hts in_X3 hown hC.1 hC.2.1 (12 + x1.toNatClampNeg) (xw_sl (vp_lt hi_36)) rfl 1 (by decide) (va_Nw.use rfl (hN.1 30)) (fun _ h9 => h9) rfl dX4_rate_37 ?_
  refine lv_isub hx hb dX4_rate_40 ?_
  obtain ⟨e_1, e_2⟩ := so_2 (Option.some.inj hf)
  subst e_1
  subst e_2
  exact K H locs ls _ rfl hC dX4_rate_41
set_option maxRecDepth 100000 in
theorem c_x_rate4_2 {l : Launch} {sz : Nat} {D : va_G} {d : Nat → ClassId} {ad : Nat → Nat} {ba : Nat → Nat} {ta : Nat → Nat} {imgs : va_W} {room : Nat → Int32} {work : Nat → Int32} {price : Nat → Int32} {whom : Nat → Int32} {bday : Nat → Int32} {units : Nat → Int32} {worth : Nat → Int32} {due : Nat → Int32} {under : Nat → Int32} {people : Int32} {askings : Int32} {hangs : Int32} {items : Int32} {many : Nat → Int32} {slip : Nat → Nat → Int32} {became : Nat → Int32} {left : Nat → Int32} {what : Nat → Int32} {which : Nat → Int32} {whose : Nat → Int32} {place : Nat → Int32} {deeds : Int32} {day : Int32} {won : Int32} {lost : Int32} {kept : Int32} {text : Nat → Int32} {typed : Int32} {rest : Nat → Int32} {bestSet : Int32} {tenths : Nat → Int32} {sortWorth : Nat → Int32} {sortDays : Nat → Int32} {row : Nat → Int32} {trace : Int64} {x1 : Int32} {r : Int32} {trace_r : Int64} (hf : x_rate4_2 room many trace x1 = some (r, trace_r)) : MI l yX4_rate (ws_ yX4_rate cX4_rate 2 (some .int)) { frames := 0, cells := 0, slots := 0, locals := 0 } D gcl (gty d) NX (xw d ad ba ta imgs room work price whom bday units worth due under people askings hangs items many slip became left what which whose place deeds day won lost kept text typed rest bestSet tenths sortWorth sortDays row trace) (xw d ad ba ta imgs room work price whom bday units worth due under people askings hangs items many slip became left what which whose place deeds day won lost kept text typed rest bestSet tenths sortWorth sortDays row trace_r) sz [.ref (ad 10), .int x1] r :=
  MI.of (by decide) [.ref (ad 10), .int x1] [(0, .ref (ad 10)), (1, .int x1)] (Nat.le_of_ble_eq_true rfl) rfl (fun p e s m below meth c ls Q hx hb hml hown hts hN hA hC hl K => w_x_rate4_2 hx hb hml hown hts hN hA (Nat.le_refl _) (Nat.le_refl _) (Nat.le_refl _) (Nat.le_refl _) hf hC hl K)

def x_rate4_3 (room : Nat → Int32) (many : Nat → Int32) (trace : Int64) (x1 : Int32) : Option (Int32 × Int64) :=
  ck x1 4 <| ck x1 4 <| some ((room x1.toNatClampNeg) - (many x1.toNatClampNeg), trace + 1)
set_option maxHeartbeats 4000000 in
set_option maxRecDepth 100000 in
theorem w_x_rate4_3 {p : Program} {l : Launch} {e : Env} {R : Room} {s : State} {m : MethodId} {args : Array Value} {below : List Frame} {meth : Method} {c : Code} {H : Heap} {locs : List Loc} {cells slots : Nat} {Q : State → Prop} {A : Nat → Prop} {ls : Array Slot} {D : va_G} {d : Nat → ClassId} {ad : Nat → Nat} {ba : Nat → Nat} {ta : Nat → Nat} {imgs : va_W} {room : Nat → Int32} {work : Nat → Int32} {price : Nat → Int32} {whom : Nat → Int32} {bday : Nat → Int32} {units : Nat → Int32} {worth : Nat → Int32} {due : Nat → Int32} {under : Nat → Int32} {people : Int32} {askings : Int32} {hangs : Int32} {items : Int32} {many : Nat → Int32} {slip : Nat → Nat → Int32} {became : Nat → Int32} {left : Nat → Int32} {what : Nat → Int32} {which : Nat → Int32} {whose : Nat → Int32} {place : Nat → Int32} {deeds : Int32} {day : Int32} {won : Int32} {lost : Int32} {kept : Int32} {text : Nat → Int32} {typed : Int32} {rest : Nat → Int32} {bestSet : Int32} {tenths : Nat → Int32} {sortWorth : Nat → Int32} {sortDays : Nat → Int32} {row : Nat → Int32} {trace : Int64} {x1 : Int32} {r : Int32} {trace_r : Int64} (hx : p.tables.exec = Jvm.exec) (hb : c.code = cX4_rate) (hml : c.maxLocals = 2) (hown : s.vm.findClass RX4 = some m.cls) (hts : ∀ w ∈ lw_all, w.before args s = true) (hN : NX s) (hA : ∀ q, s.heap.size ≤ q → A q) (hRf : 0 ≤ R.frames) (hRl : 0 ≤ R.locals) (hRc : cells ≤ R.cells) (hRs : slots ≤ R.slots) (hf : x_rate4_3 room many trace x1 = some (r, trace_r)) (hC : HC D gcl (gty d) A (xw d ad ba ta imgs room work price whom bday units worth due under people askings hangs items many slip became left what which whose place deeds day won lost kept text typed rest bestSet tenths sortWorth sortDays row trace) s H locs) (hl : lv_has ls 2 [(0, .ref (ad 11)), (1, .int x1)]) (K : ∀ (H : Heap) (locs : List Loc) (ls : Array Slot) (pc : Nat), narrow .int (.int r) = .int r → HC D gcl (gty d) A (xw d ad ba ta imgs room work price whom bday units worth due under people askings hangs items many slip became left what which whose place deeds day won lost kept text typed rest bestSet tenths sortWorth sortDays row trace_r) s H locs → decode cX4_rate pc = .ok (.ireturn, 1) → W p l e R s m args below meth c H locs cells slots Q (F0 m pc ls [.int r])) : W p l e R s m args below meth c H locs cells slots Q (F0 m 0 ls []) := by
  unfold x_rate4_3 at hf
  refine lv_aload_n hx hb dX4_rate_0 rfl (lv_at hl 0 rfl) ?_
  refine va_get (ci := 7) (v := .ref (ad 0)) (C := RX7) (T := TX7) (N := 3) hx hb hts in_X7 hown hC.1 hC.2.1 (37) rfl rfl 0 (by decide) (hts _ q233) (fun _ h9 => h9) rfl dX4_rate_1 ?_
  refine lv_dup hx hb dX4_rate_4 rfl ?_
  refine va_getN (ci := 0) (v := .long trace) (C := RX0) (T := TX0) (N := 13) (host := "SleeveSlips") hx hb hts in_X0 hown hC.1 hC.2.1 (26) rfl rfl 11 (by decide) (va_Nw.use rfl (hN.1 52)) (fun _ h9 => h9) rfl dX4_rate_5 ?_
  refine lv_lconst (v := 1) hx hb dX4_rate_8 (by decide) ?_
  refine lv_ladd hx hb dX4_rate_9 ?_
  refine va_putN (ci := 0) (v := .long (trace + 1)) (ty := .long) (C := RX0) (T := TX0) (N := 13) (host := "SleeveSlips") hx hb hts in_X0 tyX0 tyX0_ok nmX0 hown hC.1 hC.2.1 hC.2.2.1 hC.2.2.2 (26) rfl rfl 11 (by decide) (va_Nw.use rfl (hN.1 52)) (fun _ h9 => h9) rfl (tyX0_ok 11 (by decide)) rfl rfl (Nat.le_of_ble_eq_true rfl) dX4_rate_10 (fun H locs hP hD hS => ?_)
  have hC : HC D gcl (gty d) A (xw d ad ba ta imgs room work price whom bday units worth due under people askings hangs items many slip became left what which whose place deeds day won lost kept text typed rest bestSet tenths sortWorth sortDays row (trace + 1)) s H locs := ⟨hC.1, hP, hD, hS⟩
  refine lv_aload_n hx hb dX4_rate_13 rfl (lv_at hl 0 rfl) ?_
  refine va_get (ci := 7) (v := .ref (ad 0)) (C := RX7) (T := TX7) (N := 3) hx hb hts in_X7 hown hC.1 hC.2.1 (37) rfl rfl 0 (by decide) (hts _ q233) (fun _ h9 => h9) rfl dX4_rate_14 ?_
  refine va_getN (ci := 0) (v := .ref (ba 0)) (C := RX0) (T := TX0) (N := 13) (host := "SleeveSlips") hx hb hts in_X0 hown hC.1 hC.2.1 (26) rfl rfl 0 (by decide) (va_Nw.use rfl (hN.1 46)) (fun _ h9 => h9) rfl dX4_rate_17 ?_
  refine va_getN (ci := 1) (v := .ref (ba 1)) (C := RX1) (T := TX1) (N := 13) (host := "SleeveSlips") hx hb hts in_X1 hown hC.1 hC.2.1 (0) rfl rfl 0 (by decide) (va_Nw.use rfl (hN.1 0)) (fun _ h9 => h9) rfl dX4_rate_20 ?_
  refine lv_iload_n hx hb dX4_rate_23 rfl (lv_at hl 1 rfl) ?_
  obtain ⟨hi_24, hf⟩ := ck_some hf
  refine va_iald hx hb hC.1 hC.2.1 (1) 0 rfl rfl hi_24 dX4_rate_24 ?_
  refine lv_aload_n hx hb dX4_rate_25 rfl (lv_at hl 0 rfl) ?_
  refine va_get (ci := 7) (v := .ref (ad 0)) (C := RX7) (T := TX7) (N := 3) hx hb hts in_X7 hown hC.1 hC.2.1 (37) rfl rfl 0 (by decide) (hts _ q233) (fun _ h9 => h9) rfl dX4_rate_26 ?_
  refine va_getN (ci := 0) (v := .ref (ta 0)) (C := RX0) (T := TX0) (N := 13) (host := "SleeveSlips") hx hb hts in_X0 hown hC.1 hC.2.1 (26) rfl rfl 1 (by decide) (va_Nw.use rfl (hN.1 49)) (fun _ h9 => h9) rfl dX4_rate_29 ?_
  refine va_getN (ci := 2) (v := .ref (ta 1)) (C := RX2) (T := TX2) (N := 12) (host := "SleeveSlips") hx hb hts in_X2 hown hC.1 hC.2.1 (10) rfl rfl 0 (by decide) (va_Nw.use rfl (hN.1 32)) (fun _ h9 => h9) rfl dX4_rate_32 ?_
  refine lv_iload_n hx hb dX4_rate_35 rfl (lv_at hl 1 rfl) ?_
  obtain ⟨hi_36, hf⟩ := ck_some hf
  refine va_aldq hx hb hC.1 hC.2.1 11 4 rfl rfl hi_36 dX4_rate_36 ?_
  refine va_getN (ci := 3) (v := .int (many x1.toNatClampNeg)) (C := RX3) (T := TX3) (N := 2) (host := "SleeveSlips") hx hb hts in_X3 hown hC.1 hC.2.1 (12 + x1.toNatClampNeg) (xw_sl (vp_lt hi_36)) rfl 1 (by decide) (va_Nw.use rfl (hN.1 30)) (fun _ h9 => h9) rfl dX4_rate_37 ?_
  refine lv_isub hx hb dX4_rate_40 ?_
  obtain ⟨e_1, e_2⟩ := so_2 (Option.some.inj hf)
  subst e_1
  subst e_2
  exact K H locs ls _ rfl hC dX4_rate_41
set_option maxRecDepth 100000 in
theorem c_x_rate4_3 {l : Launch} {sz : Nat} {D : va_G} {d : Nat → ClassId} {ad : Nat → Nat} {ba : Nat → Nat} {ta : Nat → Nat} {imgs : va_W} {room : Nat → Int32} {work : Nat → Int32} {price : Nat → Int32} {whom : Nat → Int32} {bday : Nat → Int32} {units : Nat → Int32} {worth : Nat → Int32} {due : Nat → Int32} {under : Nat → Int32} {people : Int32} {askings : Int32} {hangs : Int32} {items : Int32} {many : Nat → Int32} {slip : Nat → Nat → Int32} {became : Nat → Int32} {left : Nat → Int32} {what : Nat → Int32} {which : Nat → Int32} {whose : Nat → Int32} {place : Nat → Int32} {deeds : Int32} {day : Int32} {won : Int32} {lost : Int32} {kept : Int32} {text : Nat → Int32} {typed : Int32} {rest : Nat → Int32} {bestSet : Int32} {tenths : Nat → Int32} {sortWorth : Nat → Int32} {sortDays : Nat → Int32} {row : Nat → Int32} {trace : Int64} {x1 : Int32} {r : Int32} {trace_r : Int64} (hf : x_rate4_3 room many trace x1 = some (r, trace_r)) : MI l yX4_rate (ws_ yX4_rate cX4_rate 2 (some .int)) { frames := 0, cells := 0, slots := 0, locals := 0 } D gcl (gty d) NX (xw d ad ba ta imgs room work price whom bday units worth due under people askings hangs items many slip became left what which whose place deeds day won lost kept text typed rest bestSet tenths sortWorth sortDays row trace) (xw d ad ba ta imgs room work price whom bday units worth due under people askings hangs items many slip became left what which whose place deeds day won lost kept text typed rest bestSet tenths sortWorth sortDays row trace_r) sz [.ref (ad 11), .int x1] r :=
  MI.of (by decide) [.ref (ad 11), .int x1] [(0, .ref (ad 11)), (1, .int x1)] (Nat.le_of_ble_eq_true rfl) rfl (fun p e s m below meth c ls Q hx hb hml hown hts hN hA hC hl K => w_x_rate4_3 hx hb hml hown hts hN hA (Nat.le_refl _) (Nat.le_refl _) (Nat.le_refl _) (Nat.le_refl _) hf hC hl K)

def x_rate4_4 (room : Nat → Int32) (many : Nat → Int32) (trace : Int64) (x1 : Int32) : Option (Int32 × Int64) :=
  ck x1 4 <| ck x1 4 <| some ((room x1.toNatClampNeg) - (many x1.toNatClampNeg), trace + 1)
set_option maxHeartbeats 4000000 in
set_option maxRecDepth 100000 in
theorem w_x_rate4_4 {p : Program} {l : Launch} {e : Env} {R : Room} {s : State} {m : MethodId} {args : Array Value} {below : List Frame} {meth : Method} {c : Code} {H : Heap} {locs : List Loc} {cells slots : Nat} {Q : State → Prop} {A : Nat → Prop} {ls : Array Slot} {D : va_G} {d : Nat → ClassId} {ad : Nat → Nat} {ba : Nat → Nat} {ta : Nat → Nat} {imgs : va_W} {room : Nat → Int32} {work : Nat → Int32} {price : Nat → Int32} {whom : Nat → Int32} {bday : Nat → Int32} {units : Nat → Int32} {worth : Nat → Int32} {due : Nat → Int32} {under : Nat → Int32} {people : Int32} {askings : Int32} {hangs : Int32} {items : Int32} {many : Nat → Int32} {slip : Nat → Nat → Int32} {became : Nat → Int32} {left : Nat → Int32} {what : Nat → Int32} {which : Nat → Int32} {whose : Nat → Int32} {place : Nat → Int32} {deeds : Int32} {day : Int32} {won : Int32} {lost : Int32} {kept : Int32} {text : Nat → Int32} {typed : Int32} {rest : Nat → Int32} {bestSet : Int32} {tenths : Nat → Int32} {sortWorth : Nat → Int32} {sortDays : Nat → Int32} {row : Nat → Int32} {trace : Int64} {x1 : Int32} {r : Int32} {trace_r : Int64} (hx : p.tables.exec = Jvm.exec) (hb : c.code = cX4_rate) (hml : c.maxLocals = 2) (hown : s.vm.findClass RX4 = some m.cls) (hts : ∀ w ∈ lw_all, w.before args s = true) (hN : NX s) (hA : ∀ q, s.heap.size ≤ q → A q) (hRf : 0 ≤ R.frames) (hRl : 0 ≤ R.locals) (hRc : cells ≤ R.cells) (hRs : slots ≤ R.slots) (hf : x_rate4_4 room many trace x1 = some (r, trace_r)) (hC : HC D gcl (gty d) A (xw d ad ba ta imgs room work price whom bday units worth due under people askings hangs items many slip became left what which whose place deeds day won lost kept text typed rest bestSet tenths sortWorth sortDays row trace) s H locs) (hl : lv_has ls 2 [(0, .ref (ad 12)), (1, .int x1)]) (K : ∀ (H : Heap) (locs : List Loc) (ls : Array Slot) (pc : Nat), narrow .int (.int r) = .int r → HC D gcl (gty d) A (xw d ad ba ta imgs room work price whom bday units worth due under people askings hangs items many slip became left what which whose place deeds day won lost kept text typed rest bestSet tenths sortWorth sortDays row trace_r) s H locs → decode cX4_rate pc = .ok (.ireturn, 1) → W p l e R s m args below meth c H locs cells slots Q (F0 m pc ls [.int r])) : W p l e R s m args below meth c H locs cells slots Q (F0 m 0 ls []) := by
  unfold x_rate4_4 at hf
  refine lv_aload_n hx hb dX4_rate_0 rfl (lv_at hl 0 rfl) ?_
  refine va_get (ci := 8) (v := .ref (ad 0)) (C := RX8) (T := TX8) (N := 3) hx hb hts in_X8 hown hC.1 hC.2.1 (38) rfl rfl 0 (by decide) (hts _ q233) (fun _ h9 => h9) rfl dX4_rate_1 ?_
  refine lv_dup hx hb dX4_rate_4 rfl ?_
  refine va_getN (ci := 0) (v := .long trace) (C := RX0) (T := TX0) (N := 13) (host := "SleeveSlips") hx hb hts in_X0 hown hC.1 hC.2.1 (26) rfl rfl 11 (by decide) (va_Nw.use rfl (hN.1 52)) (fun _ h9 => h9) rfl dX4_rate_5 ?_
  refine lv_lconst (v := 1) hx hb dX4_rate_8 (by decide) ?_
  refine lv_ladd hx hb dX4_rate_9 ?_
  refine va_putN (ci := 0) (v := .long (trace + 1)) (ty := .long) (C := RX0) (T := TX0) (N := 13) (host := "SleeveSlips") hx hb hts in_X0 tyX0 tyX0_ok nmX0 hown hC.1 hC.2.1 hC.2.2.1 hC.2.2.2 (26) rfl rfl 11 (by decide) (va_Nw.use rfl (hN.1 52)) (fun _ h9 => h9) rfl (tyX0_ok 11 (by decide)) rfl rfl (Nat.le_of_ble_eq_true rfl) dX4_rate_10 (fun H locs hP hD hS => ?_)
  have hC : HC D gcl (gty d) A (xw d ad ba ta imgs room work price whom bday units worth due under people askings hangs items many slip became left what which whose place deeds day won lost kept text typed rest bestSet tenths sortWorth sortDays row (trace + 1)) s H locs := ⟨hC.1, hP, hD, hS⟩
  refine lv_aload_n hx hb dX4_rate_13 rfl (lv_at hl 0 rfl) ?_
  refine va_get (ci := 8) (v := .ref (ad 0)) (C := RX8) (T := TX8) (N := 3) hx hb hts in_X8 hown hC.1 hC.2.1 (38) rfl rfl 0 (by decide) (hts _ q233) (fun _ h9 => h9) rfl dX4_rate_14 ?_
  refine va_getN (ci := 0) (v := .ref (ba 0)) (C := RX0) (T := TX0) (N := 13) (host := "SleeveSlips") hx hb hts in_X0 hown hC.1 hC.2.1 (26) rfl rfl 0 (by decide) (va_Nw.use rfl (hN.1 46)) (fun _ h9 => h9) rfl dX4_rate_17 ?_
  refine va_getN (ci := 1) (v := .ref (ba 1)) (C := RX1) (T := TX1) (N := 13) (host := "SleeveSlips") hx hb hts in_X1 hown hC.1 hC.2.1 (0) rfl rfl 0 (by decide) (va_Nw.use rfl (hN.1 0)) (fun _ h9 => h9) rfl dX4_rate_20 ?_
  refine lv_iload_n hx hb dX4_rate_23 rfl (lv_at hl 1 rfl) ?_
  obtain ⟨hi_24, hf⟩ := ck_some hf
  refine va_iald hx hb hC.1 hC.2.1 (1) 0 rfl rfl hi_24 dX4_rate_24 ?_
  refine lv_aload_n hx hb dX4_rate_25 rfl (lv_at hl 0 rfl) ?_
  refine va_get (ci := 8) (v := .ref (ad 0)) (C := RX8) (T := TX8) (N := 3) hx hb hts in_X8 hown hC.1 hC.2.1 (38) rfl rfl 0 (by decide) (hts _ q233) (fun _ h9 => h9) rfl dX4_rate_26 ?_
  refine va_getN (ci := 0) (v := .ref (ta 0)) (C := RX0) (T := TX0) (N := 13) (host := "SleeveSlips") hx hb hts in_X0 hown hC.1 hC.2.1 (26) rfl rfl 1 (by decide) (va_Nw.use rfl (hN.1 49)) (fun _ h9 => h9) rfl dX4_rate_29 ?_
  refine va_getN (ci := 2) (v := .ref (ta 1)) (C := RX2) (T := TX2) (N := 12) (host := "SleeveSlips") hx hb hts in_X2 hown hC.1 hC.2.1 (10) rfl rfl 0 (by decide) (va_Nw.use rfl (hN.1 32)) (fun _ h9 => h9) rfl dX4_rate_32 ?_
  refine lv_iload_n hx hb dX4_rate_35 rfl (lv_at hl 1 rfl) ?_
  obtain ⟨hi_36, hf⟩ := ck_some hf
  refine va_aldq hx hb hC.1 hC.2.1 11 4 rfl rfl hi_36 dX4_rate_36 ?_
  refine va_getN (ci := 3) (v := .int (many x1.toNatClampNeg)) (C := RX3) (T := TX3) (N := 2) (host := "SleeveSlips") hx hb hts in_X3 hown hC.1 hC.2.1 (12 + x1.toNatClampNeg) (xw_sl (vp_lt hi_36)) rfl 1 (by decide) (va_Nw.use rfl (hN.1 30)) (fun _ h9 => h9) rfl dX4_rate_37 ?_
  refine lv_isub hx hb dX4_rate_40 ?_
  obtain ⟨e_1, e_2⟩ := so_2 (Option.some.inj hf)
  subst e_1
  subst e_2
  exact K H locs ls _ rfl hC dX4_rate_41
set_option maxRecDepth 100000 in
theorem c_x_rate4_4 {l : Launch} {sz : Nat} {D : va_G} {d : Nat → ClassId} {ad : Nat → Nat} {ba : Nat → Nat} {ta : Nat → Nat} {imgs : va_W} {room : Nat → Int32} {work : Nat → Int32} {price : Nat → Int32} {whom : Nat → Int32} {bday : Nat → Int32} {units : Nat → Int32} {worth : Nat → Int32} {due : Nat → Int32} {under : Nat → Int32} {people : Int32} {askings : Int32} {hangs : Int32} {items : Int32} {many : Nat → Int32} {slip : Nat → Nat → Int32} {became : Nat → Int32} {left : Nat → Int32} {what : Nat → Int32} {which : Nat → Int32} {whose : Nat → Int32} {place : Nat → Int32} {deeds : Int32} {day : Int32} {won : Int32} {lost : Int32} {kept : Int32} {text : Nat → Int32} {typed : Int32} {rest : Nat → Int32} {bestSet : Int32} {tenths : Nat → Int32} {sortWorth : Nat → Int32} {sortDays : Nat → Int32} {row : Nat → Int32} {trace : Int64} {x1 : Int32} {r : Int32} {trace_r : Int64} (hf : x_rate4_4 room many trace x1 = some (r, trace_r)) : MI l yX4_rate (ws_ yX4_rate cX4_rate 2 (some .int)) { frames := 0, cells := 0, slots := 0, locals := 0 } D gcl (gty d) NX (xw d ad ba ta imgs room work price whom bday units worth due under people askings hangs items many slip became left what which whose place deeds day won lost kept text typed rest bestSet tenths sortWorth sortDays row trace) (xw d ad ba ta imgs room work price whom bday units worth due under people askings hangs items many slip became left what which whose place deeds day won lost kept text typed rest bestSet tenths sortWorth sortDays row trace_r) sz [.ref (ad 12), .int x1] r :=
  MI.of (by decide) [.ref (ad 12), .int x1] [(0, .ref (ad 12)), (1, .int x1)] (Nat.le_of_ble_eq_true rfl) rfl (fun p e s m below meth c ls Q hx hb hml hown hts hN hA hC hl K => w_x_rate4_4 hx hb hml hown hts hN hA (Nat.le_refl _) (Nat.le_refl _) (Nat.le_refl _) (Nat.le_refl _) hf hC hl K)

def x_rate4_5 (room : Nat → Int32) (many : Nat → Int32) (trace : Int64) (x1 : Int32) : Option (Int32 × Int64) :=
  ck x1 4 <| ck x1 4 <| some ((room x1.toNatClampNeg) - (many x1.toNatClampNeg), trace + 1)
set_option maxHeartbeats 4000000 in
set_option maxRecDepth 100000 in
theorem w_x_rate4_5 {p : Program} {l : Launch} {e : Env} {R : Room} {s : State} {m : MethodId} {args : Array Value} {below : List Frame} {meth : Method} {c : Code} {H : Heap} {locs : List Loc} {cells slots : Nat} {Q : State → Prop} {A : Nat → Prop} {ls : Array Slot} {D : va_G} {d : Nat → ClassId} {ad : Nat → Nat} {ba : Nat → Nat} {ta : Nat → Nat} {imgs : va_W} {room : Nat → Int32} {work : Nat → Int32} {price : Nat → Int32} {whom : Nat → Int32} {bday : Nat → Int32} {units : Nat → Int32} {worth : Nat → Int32} {due : Nat → Int32} {under : Nat → Int32} {people : Int32} {askings : Int32} {hangs : Int32} {items : Int32} {many : Nat → Int32} {slip : Nat → Nat → Int32} {became : Nat → Int32} {left : Nat → Int32} {what : Nat → Int32} {which : Nat → Int32} {whose : Nat → Int32} {place : Nat → Int32} {deeds : Int32} {day : Int32} {won : Int32} {lost : Int32} {kept : Int32} {text : Nat → Int32} {typed : Int32} {rest : Nat → Int32} {bestSet : Int32} {tenths : Nat → Int32} {sortWorth : Nat → Int32} {sortDays : Nat → Int32} {row : Nat → Int32} {trace : Int64} {x1 : Int32} {r : Int32} {trace_r : Int64} (hx : p.tables.exec = Jvm.exec) (hb : c.code = cX4_rate) (hml : c.maxLocals = 2) (hown : s.vm.findClass RX4 = some m.cls) (hts : ∀ w ∈ lw_all, w.before args s = true) (hN : NX s) (hA : ∀ q, s.heap.size ≤ q → A q) (hRf : 0 ≤ R.frames) (hRl : 0 ≤ R.locals) (hRc : cells ≤ R.cells) (hRs : slots ≤ R.slots) (hf : x_rate4_5 room many trace x1 = some (r, trace_r)) (hC : HC D gcl (gty d) A (xw d ad ba ta imgs room work price whom bday units worth due under people askings hangs items many slip became left what which whose place deeds day won lost kept text typed rest bestSet tenths sortWorth sortDays row trace) s H locs) (hl : lv_has ls 2 [(0, .ref (ad 13)), (1, .int x1)]) (K : ∀ (H : Heap) (locs : List Loc) (ls : Array Slot) (pc : Nat), narrow .int (.int r) = .int r → HC D gcl (gty d) A (xw d ad ba ta imgs room work price whom bday units worth due under people askings hangs items many slip became left what which whose place deeds day won lost kept text typed rest bestSet tenths sortWorth sortDays row trace_r) s H locs → decode cX4_rate pc = .ok (.ireturn, 1) → W p l e R s m args below meth c H locs cells slots Q (F0 m pc ls [.int r])) : W p l e R s m args below meth c H locs cells slots Q (F0 m 0 ls []) := by
  unfold x_rate4_5 at hf
  refine lv_aload_n hx hb dX4_rate_0 rfl (lv_at hl 0 rfl) ?_
  refine va_get (ci := 9) (v := .ref (ad 0)) (C := RX9) (T := TX9) (N := 2) hx hb hts in_X9 hown hC.1 hC.2.1 (39) rfl rfl 0 (by decide) (hts _ q233) (fun _ h9 => h9) rfl dX4_rate_1 ?_
  refine lv_dup hx hb dX4_rate_4 rfl ?_
  refine va_getN (ci := 0) (v := .long trace) (C := RX0) (T := TX0) (N := 13) (host := "SleeveSlips") hx hb hts in_X0 hown hC.1 hC.2.1 (26) rfl rfl 11 (by decide) (va_Nw.use rfl (hN.1 52)) (fun _ h9 => h9) rfl dX4_rate_5 ?_
  refine lv_lconst (v := 1) hx hb dX4_rate_8 (by decide) ?_
  refine lv_ladd hx hb dX4_rate_9 ?_
  refine va_putN (ci := 0) (v := .long (trace + 1)) (ty := .long) (C := RX0) (T := TX0) (N := 13) (host := "SleeveSlips") hx hb hts in_X0 tyX0 tyX0_ok nmX0 hown hC.1 hC.2.1 hC.2.2.1 hC.2.2.2 (26) rfl rfl 11 (by decide) (va_Nw.use rfl (hN.1 52)) (fun _ h9 => h9) rfl (tyX0_ok 11 (by decide)) rfl rfl (Nat.le_of_ble_eq_true rfl) dX4_rate_10 (fun H locs hP hD hS => ?_)
  have hC : HC D gcl (gty d) A (xw d ad ba ta imgs room work price whom bday units worth due under people askings hangs items many slip became left what which whose place deeds day won lost kept text typed rest bestSet tenths sortWorth sortDays row (trace + 1)) s H locs := ⟨hC.1, hP, hD, hS⟩
  refine lv_aload_n hx hb dX4_rate_13 rfl (lv_at hl 0 rfl) ?_
  refine va_get (ci := 9) (v := .ref (ad 0)) (C := RX9) (T := TX9) (N := 2) hx hb hts in_X9 hown hC.1 hC.2.1 (39) rfl rfl 0 (by decide) (hts _ q233) (fun _ h9 => h9) rfl dX4_rate_14 ?_
  refine va_getN (ci := 0) (v := .ref (ba 0)) (C := RX0) (T := TX0) (N := 13) (host := "SleeveSlips") hx hb hts in_X0 hown hC.1 hC.2.1 (26) rfl rfl 0 (by decide) (va_Nw.use rfl (hN.1 46)) (fun _ h9 => h9) rfl dX4_rate_17 ?_
  refine va_getN (ci := 1) (v := .ref (ba 1)) (C := RX1) (T := TX1) (N := 13) (host := "SleeveSlips") hx hb hts in_X1 hown hC.1 hC.2.1 (0) rfl rfl 0 (by decide) (va_Nw.use rfl (hN.1 0)) (fun _ h9 => h9) rfl dX4_rate_20 ?_
  refine lv_iload_n hx hb dX4_rate_23 rfl (lv_at hl 1 rfl) ?_
  obtain ⟨hi_24, hf⟩ := ck_some hf
  refine va_iald hx hb hC.1 hC.2.1 (1) 0 rfl rfl hi_24 dX4_rate_24 ?_
  refine lv_aload_n hx hb dX4_rate_25 rfl (lv_at hl 0 rfl) ?_
  refine va_get (ci := 9) (v := .ref (ad 0)) (C := RX9) (T := TX9) (N := 2) hx hb hts in_X9 hown hC.1 hC.2.1 (39) rfl rfl 0 (by decide) (hts _ q233) (fun _ h9 => h9) rfl dX4_rate_26 ?_
  refine va_getN (ci := 0) (v := .ref (ta 0)) (C := RX0) (T := TX0) (N := 13) (host := "SleeveSlips") hx hb hts in_X0 hown hC.1 hC.2.1 (26) rfl rfl 1 (by decide) (va_Nw.use rfl (hN.1 49)) (fun _ h9 => h9) rfl dX4_rate_29 ?_
  refine va_getN (ci := 2) (v := .ref (ta 1)) (C := RX2) (T := TX2) (N := 12) (host := "SleeveSlips") hx hb hts in_X2 hown hC.1 hC.2.1 (10) rfl rfl 0 (by decide) (va_Nw.use rfl (hN.1 32)) (fun _ h9 => h9) rfl dX4_rate_32 ?_
  refine lv_iload_n hx hb dX4_rate_35 rfl (lv_at hl 1 rfl) ?_
  obtain ⟨hi_36, hf⟩ := ck_some hf
  refine va_aldq hx hb hC.1 hC.2.1 11 4 rfl rfl hi_36 dX4_rate_36 ?_
  refine va_getN (ci := 3) (v := .int (many x1.toNatClampNeg)) (C := RX3) (T := TX3) (N := 2) (host := "SleeveSlips") hx hb hts in_X3 hown hC.1 hC.2.1 (12 + x1.toNatClampNeg) (xw_sl (vp_lt hi_36)) rfl 1 (by decide) (va_Nw.use rfl (hN.1 30)) (fun _ h9 => h9) rfl dX4_rate_37 ?_
  refine lv_isub hx hb dX4_rate_40 ?_
  obtain ⟨e_1, e_2⟩ := so_2 (Option.some.inj hf)
  subst e_1
  subst e_2
  exact K H locs ls _ rfl hC dX4_rate_41
set_option maxRecDepth 100000 in
theorem c_x_rate4_5 {l : Launch} {sz : Nat} {D : va_G} {d : Nat → ClassId} {ad : Nat → Nat} {ba : Nat → Nat} {ta : Nat → Nat} {imgs : va_W} {room : Nat → Int32} {work : Nat → Int32} {price : Nat → Int32} {whom : Nat → Int32} {bday : Nat → Int32} {units : Nat → Int32} {worth : Nat → Int32} {due : Nat → Int32} {under : Nat → Int32} {people : Int32} {askings : Int32} {hangs : Int32} {items : Int32} {many : Nat → Int32} {slip : Nat → Nat → Int32} {became : Nat → Int32} {left : Nat → Int32} {what : Nat → Int32} {which : Nat → Int32} {whose : Nat → Int32} {place : Nat → Int32} {deeds : Int32} {day : Int32} {won : Int32} {lost : Int32} {kept : Int32} {text : Nat → Int32} {typed : Int32} {rest : Nat → Int32} {bestSet : Int32} {tenths : Nat → Int32} {sortWorth : Nat → Int32} {sortDays : Nat → Int32} {row : Nat → Int32} {trace : Int64} {x1 : Int32} {r : Int32} {trace_r : Int64} (hf : x_rate4_5 room many trace x1 = some (r, trace_r)) : MI l yX4_rate (ws_ yX4_rate cX4_rate 2 (some .int)) { frames := 0, cells := 0, slots := 0, locals := 0 } D gcl (gty d) NX (xw d ad ba ta imgs room work price whom bday units worth due under people askings hangs items many slip became left what which whose place deeds day won lost kept text typed rest bestSet tenths sortWorth sortDays row trace) (xw d ad ba ta imgs room work price whom bday units worth due under people askings hangs items many slip became left what which whose place deeds day won lost kept text typed rest bestSet tenths sortWorth sortDays row trace_r) sz [.ref (ad 13), .int x1] r :=
  MI.of (by decide) [.ref (ad 13), .int x1] [(0, .ref (ad 13)), (1, .int x1)] (Nat.le_of_ble_eq_true rfl) rfl (fun p e s m below meth c ls Q hx hb hml hown hts hN hA hC hl K => w_x_rate4_5 hx hb hml hown hts hN hA (Nat.le_refl _) (Nat.le_refl _) (Nat.le_refl _) (Nat.le_refl _) hf hC hl K)

def x_rate5_1 (room : Nat → Int32) (work : Nat → Int32) (many : Nat → Int32) (trace : Int64) (x1 : Int32) : Option (Int32 × Int64) :=
  bnd2 (x_rate4_1 room many (trace + 10) x1) fun r_17 trace_17 =>
  ck x1 4 <| some (r_17 + (work x1.toNatClampNeg), trace_17)
set_option maxHeartbeats 4000000 in
set_option maxRecDepth 100000 in
theorem w_x_rate5_1 {p : Program} {l : Launch} {e : Env} {R : Room} {s : State} {m : MethodId} {args : Array Value} {below : List Frame} {meth : Method} {c : Code} {H : Heap} {locs : List Loc} {cells slots : Nat} {Q : State → Prop} {A : Nat → Prop} {ls : Array Slot} {D : va_G} {d : Nat → ClassId} {ad : Nat → Nat} {ba : Nat → Nat} {ta : Nat → Nat} {imgs : va_W} {room : Nat → Int32} {work : Nat → Int32} {price : Nat → Int32} {whom : Nat → Int32} {bday : Nat → Int32} {units : Nat → Int32} {worth : Nat → Int32} {due : Nat → Int32} {under : Nat → Int32} {people : Int32} {askings : Int32} {hangs : Int32} {items : Int32} {many : Nat → Int32} {slip : Nat → Nat → Int32} {became : Nat → Int32} {left : Nat → Int32} {what : Nat → Int32} {which : Nat → Int32} {whose : Nat → Int32} {place : Nat → Int32} {deeds : Int32} {day : Int32} {won : Int32} {lost : Int32} {kept : Int32} {text : Nat → Int32} {typed : Int32} {rest : Nat → Int32} {bestSet : Int32} {tenths : Nat → Int32} {sortWorth : Nat → Int32} {sortDays : Nat → Int32} {row : Nat → Int32} {trace : Int64} {x1 : Int32} {r : Int32} {trace_r : Int64} (hx : p.tables.exec = Jvm.exec) (hb : c.code = cX5_rate) (hml : c.maxLocals = 2) (hown : s.vm.findClass RX5 = some m.cls) (hts : ∀ w ∈ lw_all, w.before args s = true) (hN : NX s) (hA : ∀ q, s.heap.size ≤ q → A q) (hRf : 1 ≤ R.frames) (hRl : 21 ≤ R.locals) (hRc : cells ≤ R.cells) (hRs : slots ≤ R.slots) (hf : x_rate5_1 room work many trace x1 = some (r, trace_r)) (hC : HC D gcl (gty d) A (xw d ad ba ta imgs room work price whom bday units worth due under people askings hangs items many slip became left what which whose place deeds day won lost kept text typed rest bestSet tenths sortWorth sortDays row trace) s H locs) (hl : lv_has ls 2 [(0, .ref (ad 9)), (1, .int x1)]) (K : ∀ (H : Heap) (locs : List Loc) (ls : Array Slot) (pc : Nat), narrow .int (.int r) = .int r → HC D gcl (gty d) A (xw d ad ba ta imgs room work price whom bday units worth due under people askings hangs items many slip became left what which whose place deeds day won lost kept text typed rest bestSet tenths sortWorth sortDays row trace_r) s H locs → decode cX5_rate pc = .ok (.ireturn, 1) → W p l e R s m args below meth c H locs cells slots Q (F0 m pc ls [.int r])) : W p l e R s m args below meth c H locs cells slots Q (F0 m 0 ls []) := by
  unfold x_rate5_1 at hf
  refine lv_aload_n hx hb dX5_rate_0 rfl (lv_at hl 0 rfl) ?_
  refine va_get (ci := 5) (v := .ref (ad 0)) (C := RX5) (T := TX5) (N := 2) hx hb hts in_X5 hown hC.1 hC.2.1 (35) rfl rfl 1 (by decide) (hts _ q244) (fun _ h9 => h9) rfl dX5_rate_1 ?_
  refine lv_dup hx hb dX5_rate_4 rfl ?_
  refine va_getN (ci := 0) (v := .long trace) (C := RX0) (T := TX0) (N := 13) (host := "SleeveSlips") hx hb hts in_X0 hown hC.1 hC.2.1 (26) rfl rfl 11 (by decide) (va_Nw.use rfl (hN.1 54)) (fun _ h9 => h9) rfl dX5_rate_5 ?_
  refine lv_ldc2 (v := 10) hx hb hown (hts _ q754) dX5_rate_8 ?_
  refine lv_ladd hx hb dX5_rate_11 ?_
  refine va_putN (ci := 0) (v := .long (trace + 10)) (ty := .long) (C := RX0) (T := TX0) (N := 13) (host := "SleeveSlips") hx hb hts in_X0 tyX0 tyX0_ok nmX0 hown hC.1 hC.2.1 hC.2.2.1 hC.2.2.2 (26) rfl rfl 11 (by decide) (va_Nw.use rfl (hN.1 54)) (fun _ h9 => h9) rfl (tyX0_ok 11 (by decide)) rfl rfl (Nat.le_of_ble_eq_true rfl) dX5_rate_12 (fun H locs hP hD hS => ?_)
  have hC : HC D gcl (gty d) A (xw d ad ba ta imgs room work price whom bday units worth due under people askings hangs items many slip became left what which whose place deeds day won lost kept text typed rest bestSet tenths sortWorth sortDays row (trace + 10)) s H locs := ⟨hC.1, hP, hD, hS⟩
  refine lv_aload_n hx hb dX5_rate_15 rfl (lv_at hl 0 rfl) ?_
  refine lv_iload_n hx hb dX5_rate_16 rfl (lv_at hl 1 rfl) ?_
  obtain ⟨r_17, trace_17, hcall, hf⟩ := bnd2_some hf
  refine hc_i (va_runSU (C := RX5) (hC.1.1 5 _ rfl).2 (As := [.int x1]) (rest := []) ⟨hx, hb, hml, hown, hts⟩ (c_x_rate4_1 hcall) (va_cwSU 1 hts (lw_SU q755 q746 q248 q744 q52 q773) rfl rfl rfl (by decide +kernel) ⟨(Nat.le_trans (Nat.le_of_ble_eq_true rfl) hRf), (Nat.le_trans (Nat.le_of_ble_eq_true rfl) hRl)⟩) (pre_V (q0 := 35) (ci := 5) NX.calling (fun U _ hW => NX.warm hW hN) hC rfl rfl) rfl rfl hl.1 rfl (lv_room (Nat.le_of_ble_eq_true rfl)) dX5_rate_17 ⟨hRc, hRs⟩) hA hC (fun H locs hC => ?_)
  have hC : HC D gcl (gty d) A (xw d ad ba ta imgs room work price whom bday units worth due under people askings hangs items many slip became left what which whose place deeds day won lost kept text typed rest bestSet tenths sortWorth sortDays row trace_17) s H locs := hC
  refine lv_aload_n hx hb dX5_rate_20 rfl (lv_at hl 0 rfl) ?_
  refine va_get (ci := 5) (v := .ref (ad 0)) (C := RX5) (T := TX5) (N := 2) hx hb hts in_X5 hown hC.1 hC.2.1 (35) rfl rfl 1 (by decide) (hts _ q244) (fun _ h9 => h9) rfl dX5_rate_21 ?_
  refine va_getN (ci := 0) (v := .ref (ba 0)) (C := RX0) (T := TX0) (N := 13) (host := "SleeveSlips") hx hb hts in_X0 hown hC.1 hC.2.1 (26) rfl rfl 0 (by decide) (va_Nw.use rfl (hN.1 47)) (fun _ h9 => h9) rfl dX5_rate_24 ?_
  refine va_getN (ci := 1) (v := .ref (ba 2)) (C := RX1) (T := TX1) (N := 13) (host := "SleeveSlips") hx hb hts in_X1 hown hC.1 hC.2.1 (0) rfl rfl 1 (by decide) (va_Nw.use rfl (hN.1 3)) (fun _ h9 => h9) rfl dX5_rate_27 ?_
  refine lv_iload_n hx hb dX5_rate_30 rfl (lv_at hl 1 rfl) ?_
  obtain ⟨hi_31, hf⟩ := ck_some hf
  refine va_iald hx hb hC.1 hC.2.1 (2) 0 rfl rfl hi_31 dX5_rate_31 ?_
  refine lv_iadd hx hb dX5_rate_32 ?_
  obtain ⟨e_1, e_2⟩ := so_2 (Option.some.inj hf)
  subst e_1
  subst e_2
  exact K H locs ls _ rfl hC dX5_rate_33
set_option maxRecDepth 100000 in
theorem c_x_rate5_1 {l : Launch} {sz : Nat} {D : va_G} {d : Nat → ClassId} {ad : Nat → Nat} {ba : Nat → Nat} {ta : Nat → Nat} {imgs : va_W} {room : Nat → Int32} {work : Nat → Int32} {price : Nat → Int32} {whom : Nat → Int32} {bday : Nat → Int32} {units : Nat → Int32} {worth : Nat → Int32} {due : Nat → Int32} {under : Nat → Int32} {people : Int32} {askings : Int32} {hangs : Int32} {items : Int32} {many : Nat → Int32} {slip : Nat → Nat → Int32} {became : Nat → Int32} {left : Nat → Int32} {what : Nat → Int32} {which : Nat → Int32} {whose : Nat → Int32} {place : Nat → Int32} {deeds : Int32} {day : Int32} {won : Int32} {lost : Int32} {kept : Int32} {text : Nat → Int32} {typed : Int32} {rest : Nat → Int32} {bestSet : Int32} {tenths : Nat → Int32} {sortWorth : Nat → Int32} {sortDays : Nat → Int32} {row : Nat → Int32} {trace : Int64} {x1 : Int32} {r : Int32} {trace_r : Int64} (hf : x_rate5_1 room work many trace x1 = some (r, trace_r)) : MI l yX5_rate (ws_ yX5_rate cX5_rate 2 (some .int)) { frames := 1, cells := 0, slots := 0, locals := 21 } D gcl (gty d) NX (xw d ad ba ta imgs room work price whom bday units worth due under people askings hangs items many slip became left what which whose place deeds day won lost kept text typed rest bestSet tenths sortWorth sortDays row trace) (xw d ad ba ta imgs room work price whom bday units worth due under people askings hangs items many slip became left what which whose place deeds day won lost kept text typed rest bestSet tenths sortWorth sortDays row trace_r) sz [.ref (ad 9), .int x1] r :=
  MI.of (by decide) [.ref (ad 9), .int x1] [(0, .ref (ad 9)), (1, .int x1)] (Nat.le_of_ble_eq_true rfl) rfl (fun p e s m below meth c ls Q hx hb hml hown hts hN hA hC hl K => w_x_rate5_1 hx hb hml hown hts hN hA (Nat.le_refl _) (Nat.le_refl _) (Nat.le_refl _) (Nat.le_refl _) hf hC hl K)

def x_rate5_3 (room : Nat → Int32) (work : Nat → Int32) (many : Nat → Int32) (trace : Int64) (x1 : Int32) : Option (Int32 × Int64) :=
  bnd2 (x_rate4_3 room many (trace + 10) x1) fun r_17 trace_17 =>
  ck x1 4 <| some (r_17 + (work x1.toNatClampNeg), trace_17)
set_option maxHeartbeats 4000000 in
set_option maxRecDepth 100000 in
theorem w_x_rate5_3 {p : Program} {l : Launch} {e : Env} {R : Room} {s : State} {m : MethodId} {args : Array Value} {below : List Frame} {meth : Method} {c : Code} {H : Heap} {locs : List Loc} {cells slots : Nat} {Q : State → Prop} {A : Nat → Prop} {ls : Array Slot} {D : va_G} {d : Nat → ClassId} {ad : Nat → Nat} {ba : Nat → Nat} {ta : Nat → Nat} {imgs : va_W} {room : Nat → Int32} {work : Nat → Int32} {price : Nat → Int32} {whom : Nat → Int32} {bday : Nat → Int32} {units : Nat → Int32} {worth : Nat → Int32} {due : Nat → Int32} {under : Nat → Int32} {people : Int32} {askings : Int32} {hangs : Int32} {items : Int32} {many : Nat → Int32} {slip : Nat → Nat → Int32} {became : Nat → Int32} {left : Nat → Int32} {what : Nat → Int32} {which : Nat → Int32} {whose : Nat → Int32} {place : Nat → Int32} {deeds : Int32} {day : Int32} {won : Int32} {lost : Int32} {kept : Int32} {text : Nat → Int32} {typed : Int32} {rest : Nat → Int32} {bestSet : Int32} {tenths : Nat → Int32} {sortWorth : Nat → Int32} {sortDays : Nat → Int32} {row : Nat → Int32} {trace : Int64} {x1 : Int32} {r : Int32} {trace_r : Int64} (hx : p.tables.exec = Jvm.exec) (hb : c.code = cX5_rate) (hml : c.maxLocals = 2) (hown : s.vm.findClass RX5 = some m.cls) (hts : ∀ w ∈ lw_all, w.before args s = true) (hN : NX s) (hA : ∀ q, s.heap.size ≤ q → A q) (hRf : 1 ≤ R.frames) (hRl : 21 ≤ R.locals) (hRc : cells ≤ R.cells) (hRs : slots ≤ R.slots) (hf : x_rate5_3 room work many trace x1 = some (r, trace_r)) (hC : HC D gcl (gty d) A (xw d ad ba ta imgs room work price whom bday units worth due under people askings hangs items many slip became left what which whose place deeds day won lost kept text typed rest bestSet tenths sortWorth sortDays row trace) s H locs) (hl : lv_has ls 2 [(0, .ref (ad 11)), (1, .int x1)]) (K : ∀ (H : Heap) (locs : List Loc) (ls : Array Slot) (pc : Nat), narrow .int (.int r) = .int r → HC D gcl (gty d) A (xw d ad ba ta imgs room work price whom bday units worth due under people askings hangs items many slip became left what which whose place deeds day won lost kept text typed rest bestSet tenths sortWorth sortDays row trace_r) s H locs → decode cX5_rate pc = .ok (.ireturn, 1) → W p l e R s m args below meth c H locs cells slots Q (F0 m pc ls [.int r])) : W p l e R s m args below meth c H locs cells slots Q (F0 m 0 ls []) := by
  unfold x_rate5_3 at hf
  refine lv_aload_n hx hb dX5_rate_0 rfl (lv_at hl 0 rfl) ?_
  refine va_get (ci := 7) (v := .ref (ad 0)) (C := RX7) (T := TX7) (N := 3) hx hb hts in_X7 hown hC.1 hC.2.1 (37) rfl rfl 1 (by decide) (hts _ q244) (fun _ h9 => h9) rfl dX5_rate_1 ?_
  refine lv_dup hx hb dX5_rate_4 rfl ?_
  refine va_getN (ci := 0) (v := .long trace) (C := RX0) (T := TX0) (N := 13) (host := "SleeveSlips") hx hb hts in_X0 hown hC.1 hC.2.1 (26) rfl rfl 11 (by decide) (va_Nw.use rfl (hN.1 54)) (fun _ h9 => h9) rfl dX5_rate_5 ?_
  refine lv_ldc2 (v := 10) hx hb hown (hts _ q754) dX5_rate_8 ?_
  refine lv_ladd hx hb dX5_rate_11 ?_
  refine va_putN (ci := 0) (v := .long (trace + 10)) (ty := .long) (C := RX0) (T := TX0) (N := 13) (host := "SleeveSlips") hx hb hts in_X0 tyX0 tyX0_ok nmX0 hown hC.1 hC.2.1 hC.2.2.1 hC.2.2.2 (26) rfl rfl 11 (by decide) (va_Nw.use rfl (hN.1 54)) (fun _ h9 => h9) rfl (tyX0_ok 11 (by decide)) rfl rfl (Nat.le_of_ble_eq_true rfl) dX5_rate_12 (fun H locs hP hD hS => ?_)
  have hC : HC D gcl (gty d) A (xw d ad ba ta imgs room work price whom bday units worth due under people askings hangs items many slip became left what which whose place deeds day won lost kept text typed rest bestSet tenths sortWorth sortDays row (trace + 10)) s H locs := ⟨hC.1, hP, hD, hS⟩
  refine lv_aload_n hx hb dX5_rate_15 rfl (lv_at hl 0 rfl) ?_
  refine lv_iload_n hx hb dX5_rate_16 rfl (lv_at hl 1 rfl) ?_
  obtain ⟨r_17, trace_17, hcall, hf⟩ := bnd2_some hf
  refine hc_i (va_runSU (C := RX7) (hC.1.1 7 _ rfl).2 (As := [.int x1]) (rest := []) ⟨hx, hb, hml, hown, hts⟩ (c_x_rate4_3 hcall) (va_cwSU 1 hts (lw_SU q755 q746 q248 q744 q52 q773) rfl rfl rfl (by decide +kernel) ⟨(Nat.le_trans (Nat.le_of_ble_eq_true rfl) hRf), (Nat.le_trans (Nat.le_of_ble_eq_true rfl) hRl)⟩) (pre_V (q0 := 37) (ci := 7) NX.calling (fun U _ hW => NX.warm hW hN) hC rfl rfl) rfl rfl hl.1 rfl (lv_room (Nat.le_of_ble_eq_true rfl)) dX5_rate_17 ⟨hRc, hRs⟩) hA hC (fun H locs hC => ?_)
  have hC : HC D gcl (gty d) A (xw d ad ba ta imgs room work price whom bday units worth due under people askings hangs items many slip became left what which whose place deeds day won lost kept text typed rest bestSet tenths sortWorth sortDays row trace_17) s H locs := hC
  refine lv_aload_n hx hb dX5_rate_20 rfl (lv_at hl 0 rfl) ?_
  refine va_get (ci := 7) (v := .ref (ad 0)) (C := RX7) (T := TX7) (N := 3) hx hb hts in_X7 hown hC.1 hC.2.1 (37) rfl rfl 1 (by decide) (hts _ q244) (fun _ h9 => h9) rfl dX5_rate_21 ?_
  refine va_getN (ci := 0) (v := .ref (ba 0)) (C := RX0) (T := TX0) (N := 13) (host := "SleeveSlips") hx hb hts in_X0 hown hC.1 hC.2.1 (26) rfl rfl 0 (by decide) (va_Nw.use rfl (hN.1 47)) (fun _ h9 => h9) rfl dX5_rate_24 ?_
  refine va_getN (ci := 1) (v := .ref (ba 2)) (C := RX1) (T := TX1) (N := 13) (host := "SleeveSlips") hx hb hts in_X1 hown hC.1 hC.2.1 (0) rfl rfl 1 (by decide) (va_Nw.use rfl (hN.1 3)) (fun _ h9 => h9) rfl dX5_rate_27 ?_
  refine lv_iload_n hx hb dX5_rate_30 rfl (lv_at hl 1 rfl) ?_
  obtain ⟨hi_31, hf⟩ := ck_some hf
  refine va_iald hx hb hC.1 hC.2.1 (2) 0 rfl rfl hi_31 dX5_rate_31 ?_
  refine lv_iadd hx hb dX5_rate_32 ?_
  obtain ⟨e_1, e_2⟩ := so_2 (Option.some.inj hf)
  subst e_1
  subst e_2
  exact K H locs ls _ rfl hC dX5_rate_33
set_option maxRecDepth 100000 in
theorem c_x_rate5_3 {l : Launch} {sz : Nat} {D : va_G} {d : Nat → ClassId} {ad : Nat → Nat} {ba : Nat → Nat} {ta : Nat → Nat} {imgs : va_W} {room : Nat → Int32} {work : Nat → Int32} {price : Nat → Int32} {whom : Nat → Int32} {bday : Nat → Int32} {units : Nat → Int32} {worth : Nat → Int32} {due : Nat → Int32} {under : Nat → Int32} {people : Int32} {askings : Int32} {hangs : Int32} {items : Int32} {many : Nat → Int32} {slip : Nat → Nat → Int32} {became : Nat → Int32} {left : Nat → Int32} {what : Nat → Int32} {which : Nat → Int32} {whose : Nat → Int32} {place : Nat → Int32} {deeds : Int32} {day : Int32} {won : Int32} {lost : Int32} {kept : Int32} {text : Nat → Int32} {typed : Int32} {rest : Nat → Int32} {bestSet : Int32} {tenths : Nat → Int32} {sortWorth : Nat → Int32} {sortDays : Nat → Int32} {row : Nat → Int32} {trace : Int64} {x1 : Int32} {r : Int32} {trace_r : Int64} (hf : x_rate5_3 room work many trace x1 = some (r, trace_r)) : MI l yX5_rate (ws_ yX5_rate cX5_rate 2 (some .int)) { frames := 1, cells := 0, slots := 0, locals := 21 } D gcl (gty d) NX (xw d ad ba ta imgs room work price whom bday units worth due under people askings hangs items many slip became left what which whose place deeds day won lost kept text typed rest bestSet tenths sortWorth sortDays row trace) (xw d ad ba ta imgs room work price whom bday units worth due under people askings hangs items many slip became left what which whose place deeds day won lost kept text typed rest bestSet tenths sortWorth sortDays row trace_r) sz [.ref (ad 11), .int x1] r :=
  MI.of (by decide) [.ref (ad 11), .int x1] [(0, .ref (ad 11)), (1, .int x1)] (Nat.le_of_ble_eq_true rfl) rfl (fun p e s m below meth c ls Q hx hb hml hown hts hN hA hC hl K => w_x_rate5_3 hx hb hml hown hts hN hA (Nat.le_refl _) (Nat.le_refl _) (Nat.le_refl _) (Nat.le_refl _) hf hC hl K)

def x_rate6_2 (room : Nat → Int32) (many : Nat → Int32) (slip : Nat → Nat → Int32) (left : Nat → Int32) (trace : Int64) (x1 : Int32) : Option (Int32 × Int64) :=
  bnd2 (x_rate4_2 room many (trace + 100) x1) fun r_17 trace_17 =>
  bnd (x_leftOn many slip left x1) fun r_25 =>
  some (r_17 - r_25, trace_17)
set_option maxHeartbeats 4000000 in
set_option maxRecDepth 100000 in
theorem w_x_rate6_2 {p : Program} {l : Launch} {e : Env} {R : Room} {s : State} {m : MethodId} {args : Array Value} {below : List Frame} {meth : Method} {c : Code} {H : Heap} {locs : List Loc} {cells slots : Nat} {Q : State → Prop} {A : Nat → Prop} {ls : Array Slot} {D : va_G} {d : Nat → ClassId} {ad : Nat → Nat} {ba : Nat → Nat} {ta : Nat → Nat} {imgs : va_W} {room : Nat → Int32} {work : Nat → Int32} {price : Nat → Int32} {whom : Nat → Int32} {bday : Nat → Int32} {units : Nat → Int32} {worth : Nat → Int32} {due : Nat → Int32} {under : Nat → Int32} {people : Int32} {askings : Int32} {hangs : Int32} {items : Int32} {many : Nat → Int32} {slip : Nat → Nat → Int32} {became : Nat → Int32} {left : Nat → Int32} {what : Nat → Int32} {which : Nat → Int32} {whose : Nat → Int32} {place : Nat → Int32} {deeds : Int32} {day : Int32} {won : Int32} {lost : Int32} {kept : Int32} {text : Nat → Int32} {typed : Int32} {rest : Nat → Int32} {bestSet : Int32} {tenths : Nat → Int32} {sortWorth : Nat → Int32} {sortDays : Nat → Int32} {row : Nat → Int32} {trace : Int64} {x1 : Int32} {r : Int32} {trace_r : Int64} (hx : p.tables.exec = Jvm.exec) (hb : c.code = cX6_rate) (hml : c.maxLocals = 2) (hown : s.vm.findClass RX6 = some m.cls) (hts : ∀ w ∈ lw_all, w.before args s = true) (hN : NX s) (hA : ∀ q, s.heap.size ≤ q → A q) (hRf : 1 ≤ R.frames) (hRl : 23 ≤ R.locals) (hRc : cells ≤ R.cells) (hRs : slots ≤ R.slots) (hf : x_rate6_2 room many slip left trace x1 = some (r, trace_r)) (hC : HC D gcl (gty d) A (xw d ad ba ta imgs room work price whom bday units worth due under people askings hangs items many slip became left what which whose place deeds day won lost kept text typed rest bestSet tenths sortWorth sortDays row trace) s H locs) (hl : lv_has ls 2 [(0, .ref (ad 10)), (1, .int x1)]) (K : ∀ (H : Heap) (locs : List Loc) (ls : Array Slot) (pc : Nat), narrow .int (.int r) = .int r → HC D gcl (gty d) A (xw d ad ba ta imgs room work price whom bday units worth due under people askings hangs items many slip became left what which whose place deeds day won lost kept text typed rest bestSet tenths sortWorth sortDays row trace_r) s H locs → decode cX6_rate pc = .ok (.ireturn, 1) → W p l e R s m args below meth c H locs cells slots Q (F0 m pc ls [.int r])) : W p l e R s m args below meth c H locs cells slots Q (F0 m 0 ls []) := by
  unfold x_rate6_2 at hf
  refine lv_aload_n hx hb dX6_rate_0 rfl (lv_at hl 0 rfl) ?_
  refine va_get (ci := 6) (v := .ref (ad 0)) (C := RX6) (T := TX6) (N := 2) hx hb hts in_X6 hown hC.1 hC.2.1 (36) rfl rfl 1 (by decide) (hts _ q255) (fun _ h9 => h9) rfl dX6_rate_1 ?_
  refine lv_dup hx hb dX6_rate_4 rfl ?_
  refine va_getN (ci := 0) (v := .long trace) (C := RX0) (T := TX0) (N := 13) (host := "SleeveSlips") hx hb hts in_X0 hown hC.1 hC.2.1 (26) rfl rfl 11 (by decide) (va_Nw.use rfl (hN.1 56)) (fun _ h9 => h9) rfl dX6_rate_5 ?_
  refine lv_ldc2 (v := 100) hx hb hown (hts _ q764) dX6_rate_8 ?_
  refine lv_ladd hx hb dX6_rate_11 ?_
  refine va_putN (ci := 0) (v := .long (trace + 100)) (ty := .long) (C := RX0) (T := TX0) (N := 13) (host := "SleeveSlips") hx hb hts in_X0 tyX0 tyX0_ok nmX0 hown hC.1 hC.2.1 hC.2.2.1 hC.2.2.2 (26) rfl rfl 11 (by decide) (va_Nw.use rfl (hN.1 56)) (fun _ h9 => h9) rfl (tyX0_ok 11 (by decide)) rfl rfl (Nat.le_of_ble_eq_true rfl) dX6_rate_12 (fun H locs hP hD hS => ?_)
  have hC : HC D gcl (gty d) A (xw d ad ba ta imgs room work price whom bday units worth due under people askings hangs items many slip became left what which whose place deeds day won lost kept text typed rest bestSet tenths sortWorth sortDays row (trace + 100)) s H locs := ⟨hC.1, hP, hD, hS⟩
  refine lv_aload_n hx hb dX6_rate_15 rfl (lv_at hl 0 rfl) ?_
  refine lv_iload_n hx hb dX6_rate_16 rfl (lv_at hl 1 rfl) ?_
  obtain ⟨r_17, trace_17, hcall, hf⟩ := bnd2_some hf
  refine hc_i (va_runSU (C := RX6) (hC.1.1 6 _ rfl).2 (As := [.int x1]) (rest := []) ⟨hx, hb, hml, hown, hts⟩ (c_x_rate4_2 hcall) (va_cwSU 1 hts (lw_SU q765 q746 q259 q744 q52 q773) rfl rfl rfl (by decide +kernel) ⟨(Nat.le_trans (Nat.le_of_ble_eq_true rfl) hRf), (Nat.le_trans (Nat.le_of_ble_eq_true rfl) hRl)⟩) (pre_V (q0 := 36) (ci := 6) NX.calling (fun U _ hW => NX.warm hW hN) hC rfl rfl) rfl rfl hl.1 rfl (lv_room (Nat.le_of_ble_eq_true rfl)) dX6_rate_17 ⟨hRc, hRs⟩) hA hC (fun H locs hC => ?_)
  have hC : HC D gcl (gty d) A (xw d ad ba ta imgs room work price whom bday units worth due under people askings hangs items many slip became left what which whose place deeds day won lost kept text typed rest bestSet tenths sortWorth sortDays row trace_17) s H locs := hC
  refine lv_aload_n hx hb dX6_rate_20 rfl (lv_at hl 0 rfl) ?_
  refine va_get (ci := 6) (v := .ref (ad 0)) (C := RX6) (T := TX6) (N := 2) hx hb hts in_X6 hown hC.1 hC.2.1 (36) rfl rfl 1 (by decide) (hts _ q255) (fun _ h9 => h9) rfl dX6_rate_21 ?_
  refine lv_iload_n hx hb dX6_rate_24 rfl (lv_at hl 1 rfl) ?_
  obtain ⟨r_25, hcall, hf⟩ := bnd_some hf
  refine hc_i (va_runVN (C := RX0) (As := [.int x1]) (rest := [.int r_17]) ⟨hx, hb, hml, hown, hts⟩ (c_x_leftOn hcall) ⟨va_cnB 1 hts (lw_meth q734) rfl rfl rfl (hN.2.1 17) (hts _ q48) (by decide +kernel) ⟨(Nat.le_trans (Nat.le_of_ble_eq_true rfl) hRf), (Nat.le_trans (Nat.le_of_ble_eq_true rfl) hRl)⟩, hts _ q733, hts _ qs22⟩ (pre_V (q0 := 26) (ci := 0) NX.calling (fun U _ hW => NX.warm hW hN) hC rfl rfl) rfl rfl hl.1 rfl (lv_room (Nat.le_of_ble_eq_true rfl)) dX6_rate_25 ⟨hRc, hRs⟩) hA hC (fun H locs hC => ?_)
  refine lv_isub hx hb dX6_rate_28 ?_
  obtain ⟨e_1, e_2⟩ := so_2 (Option.some.inj hf)
  subst e_1
  subst e_2
  exact K H locs ls _ rfl hC dX6_rate_29
set_option maxRecDepth 100000 in
theorem c_x_rate6_2 {l : Launch} {sz : Nat} {D : va_G} {d : Nat → ClassId} {ad : Nat → Nat} {ba : Nat → Nat} {ta : Nat → Nat} {imgs : va_W} {room : Nat → Int32} {work : Nat → Int32} {price : Nat → Int32} {whom : Nat → Int32} {bday : Nat → Int32} {units : Nat → Int32} {worth : Nat → Int32} {due : Nat → Int32} {under : Nat → Int32} {people : Int32} {askings : Int32} {hangs : Int32} {items : Int32} {many : Nat → Int32} {slip : Nat → Nat → Int32} {became : Nat → Int32} {left : Nat → Int32} {what : Nat → Int32} {which : Nat → Int32} {whose : Nat → Int32} {place : Nat → Int32} {deeds : Int32} {day : Int32} {won : Int32} {lost : Int32} {kept : Int32} {text : Nat → Int32} {typed : Int32} {rest : Nat → Int32} {bestSet : Int32} {tenths : Nat → Int32} {sortWorth : Nat → Int32} {sortDays : Nat → Int32} {row : Nat → Int32} {trace : Int64} {x1 : Int32} {r : Int32} {trace_r : Int64} (hf : x_rate6_2 room many slip left trace x1 = some (r, trace_r)) : MI l yX6_rate (ws_ yX6_rate cX6_rate 2 (some .int)) { frames := 1, cells := 0, slots := 0, locals := 23 } D gcl (gty d) NX (xw d ad ba ta imgs room work price whom bday units worth due under people askings hangs items many slip became left what which whose place deeds day won lost kept text typed rest bestSet tenths sortWorth sortDays row trace) (xw d ad ba ta imgs room work price whom bday units worth due under people askings hangs items many slip became left what which whose place deeds day won lost kept text typed rest bestSet tenths sortWorth sortDays row trace_r) sz [.ref (ad 10), .int x1] r :=
  MI.of (by decide) [.ref (ad 10), .int x1] [(0, .ref (ad 10)), (1, .int x1)] (Nat.le_of_ble_eq_true rfl) rfl (fun p e s m below meth c ls Q hx hb hml hown hts hN hA hC hl K => w_x_rate6_2 hx hb hml hown hts hN hA (Nat.le_refl _) (Nat.le_refl _) (Nat.le_refl _) (Nat.le_refl _) hf hC hl K)

def x_rate6_4 (room : Nat → Int32) (many : Nat → Int32) (slip : Nat → Nat → Int32) (left : Nat → Int32) (trace : Int64) (x1 : Int32) : Option (Int32 × Int64) :=
  bnd2 (x_rate4_4 room many (trace + 100) x1) fun r_17 trace_17 =>
  bnd (x_leftOn many slip left x1) fun r_25 =>
  some (r_17 - r_25, trace_17)
set_option maxHeartbeats 4000000 in
set_option maxRecDepth 100000 in
theorem w_x_rate6_4 {p : Program} {l : Launch} {e : Env} {R : Room} {s : State} {m : MethodId} {args : Array Value} {below : List Frame} {meth : Method} {c : Code} {H : Heap} {locs : List Loc} {cells slots : Nat} {Q : State → Prop} {A : Nat → Prop} {ls : Array Slot} {D : va_G} {d : Nat → ClassId} {ad : Nat → Nat} {ba : Nat → Nat} {ta : Nat → Nat} {imgs : va_W} {room : Nat → Int32} {work : Nat → Int32} {price : Nat → Int32} {whom : Nat → Int32} {bday : Nat → Int32} {units : Nat → Int32} {worth : Nat → Int32} {due : Nat → Int32} {under : Nat → Int32} {people : Int32} {askings : Int32} {hangs : Int32} {items : Int32} {many : Nat → Int32} {slip : Nat → Nat → Int32} {became : Nat → Int32} {left : Nat → Int32} {what : Nat → Int32} {which : Nat → Int32} {whose : Nat → Int32} {place : Nat → Int32} {deeds : Int32} {day : Int32} {won : Int32} {lost : Int32} {kept : Int32} {text : Nat → Int32} {typed : Int32} {rest : Nat → Int32} {bestSet : Int32} {tenths : Nat → Int32} {sortWorth : Nat → Int32} {sortDays : Nat → Int32} {row : Nat → Int32} {trace : Int64} {x1 : Int32} {r : Int32} {trace_r : Int64} (hx : p.tables.exec = Jvm.exec) (hb : c.code = cX6_rate) (hml : c.maxLocals = 2) (hown : s.vm.findClass RX6 = some m.cls) (hts : ∀ w ∈ lw_all, w.before args s = true) (hN : NX s) (hA : ∀ q, s.heap.size ≤ q → A q) (hRf : 1 ≤ R.frames) (hRl : 23 ≤ R.locals) (hRc : cells ≤ R.cells) (hRs : slots ≤ R.slots) (hf : x_rate6_4 room many slip left trace x1 = some (r, trace_r)) (hC : HC D gcl (gty d) A (xw d ad ba ta imgs room work price whom bday units worth due under people askings hangs items many slip became left what which whose place deeds day won lost kept text typed rest bestSet tenths sortWorth sortDays row trace) s H locs) (hl : lv_has ls 2 [(0, .ref (ad 12)), (1, .int x1)]) (K : ∀ (H : Heap) (locs : List Loc) (ls : Array Slot) (pc : Nat), narrow .int (.int r) = .int r → HC D gcl (gty d) A (xw d ad ba ta imgs room work price whom bday units worth due under people askings hangs items many slip became left what which whose place deeds day won lost kept text typed rest bestSet tenths sortWorth sortDays row trace_r) s H locs → decode cX6_rate pc = .ok (.ireturn, 1) → W p l e R s m args below meth c H locs cells slots Q (F0 m pc ls [.int r])) : W p l e R s m args below meth c H locs cells slots Q (F0 m 0 ls []) := by
  unfold x_rate6_4 at hf
  refine lv_aload_n hx hb dX6_rate_0 rfl (lv_at hl 0 rfl) ?_
  refine va_get (ci := 8) (v := .ref (ad 0)) (C := RX8) (T := TX8) (N := 3) hx hb hts in_X8 hown hC.1 hC.2.1 (38) rfl rfl 1 (by decide) (hts _ q255) (fun _ h9 => h9) rfl dX6_rate_1 ?_
  refine lv_dup hx hb dX6_rate_4 rfl ?_
  refine va_getN (ci := 0) (v := .long trace) (C := RX0) (T := TX0) (N := 13) (host := "SleeveSlips") hx hb hts in_X0 hown hC.1 hC.2.1 (26) rfl rfl 11 (by decide) (va_Nw.use rfl (hN.1 56)) (fun _ h9 => h9) rfl dX6_rate_5 ?_
  refine lv_ldc2 (v := 100) hx hb hown (hts _ q764) dX6_rate_8 ?_
  refine lv_ladd hx hb dX6_rate_11 ?_
  refine va_putN (ci := 0) (v := .long (trace + 100)) (ty := .long) (C := RX0) (T := TX0) (N := 13) (host := "SleeveSlips") hx hb hts in_X0 tyX0 tyX0_ok nmX0 hown hC.1 hC.2.1 hC.2.2.1 hC.2.2.2 (26) rfl rfl 11 (by decide) (va_Nw.use rfl (hN.1 56)) (fun _ h9 => h9) rfl (tyX0_ok 11 (by decide)) rfl rfl (Nat.le_of_ble_eq_true rfl) dX6_rate_12 (fun H locs hP hD hS => ?_)
  have hC : HC D gcl (gty d) A (xw d ad ba ta imgs room work price whom bday units worth due under people askings hangs items many slip became left what which whose place deeds day won lost kept text typed rest bestSet tenths sortWorth sortDays row (trace + 100)) s H locs := ⟨hC.1, hP, hD, hS⟩
  refine lv_aload_n hx hb dX6_rate_15 rfl (lv_at hl 0 rfl) ?_
  refine lv_iload_n hx hb dX6_rate_16 rfl (lv_at hl 1 rfl) ?_
  obtain ⟨r_17, trace_17, hcall, hf⟩ := bnd2_some hf
  refine hc_i (va_runSU (C := RX8) (hC.1.1 8 _ rfl).2 (As := [.int x1]) (rest := []) ⟨hx, hb, hml, hown, hts⟩ (c_x_rate4_4 hcall) (va_cwSU 1 hts (lw_SU q765 q746 q259 q744 q52 q773) rfl rfl rfl (by decide +kernel) ⟨(Nat.le_trans (Nat.le_of_ble_eq_true rfl) hRf), (Nat.le_trans (Nat.le_of_ble_eq_true rfl) hRl)⟩) (pre_V (q0 := 38) (ci := 8) NX.calling (fun U _ hW => NX.warm hW hN) hC rfl rfl) rfl rfl hl.1 rfl (lv_room (Nat.le_of_ble_eq_true rfl)) dX6_rate_17 ⟨hRc, hRs⟩) hA hC (fun H locs hC => ?_)
  have hC : HC D gcl (gty d) A (xw d ad ba ta imgs room work price whom bday units worth due under people askings hangs items many slip became left what which whose place deeds day won lost kept text typed rest bestSet tenths sortWorth sortDays row trace_17) s H locs := hC
  refine lv_aload_n hx hb dX6_rate_20 rfl (lv_at hl 0 rfl) ?_
  refine va_get (ci := 8) (v := .ref (ad 0)) (C := RX8) (T := TX8) (N := 3) hx hb hts in_X8 hown hC.1 hC.2.1 (38) rfl rfl 1 (by decide) (hts _ q255) (fun _ h9 => h9) rfl dX6_rate_21 ?_
  refine lv_iload_n hx hb dX6_rate_24 rfl (lv_at hl 1 rfl) ?_
  obtain ⟨r_25, hcall, hf⟩ := bnd_some hf
  refine hc_i (va_runVN (C := RX0) (As := [.int x1]) (rest := [.int r_17]) ⟨hx, hb, hml, hown, hts⟩ (c_x_leftOn hcall) ⟨va_cnB 1 hts (lw_meth q734) rfl rfl rfl (hN.2.1 17) (hts _ q48) (by decide +kernel) ⟨(Nat.le_trans (Nat.le_of_ble_eq_true rfl) hRf), (Nat.le_trans (Nat.le_of_ble_eq_true rfl) hRl)⟩, hts _ q733, hts _ qs22⟩ (pre_V (q0 := 26) (ci := 0) NX.calling (fun U _ hW => NX.warm hW hN) hC rfl rfl) rfl rfl hl.1 rfl (lv_room (Nat.le_of_ble_eq_true rfl)) dX6_rate_25 ⟨hRc, hRs⟩) hA hC (fun H locs hC => ?_)
  refine lv_isub hx hb dX6_rate_28 ?_
  obtain ⟨e_1, e_2⟩ := so_2 (Option.some.inj hf)
  subst e_1
  subst e_2
  exact K H locs ls _ rfl hC dX6_rate_29
set_option maxRecDepth 100000 in
theorem c_x_rate6_4 {l : Launch} {sz : Nat} {D : va_G} {d : Nat → ClassId} {ad : Nat → Nat} {ba : Nat → Nat} {ta : Nat → Nat} {imgs : va_W} {room : Nat → Int32} {work : Nat → Int32} {price : Nat → Int32} {whom : Nat → Int32} {bday : Nat → Int32} {units : Nat → Int32} {worth : Nat → Int32} {due : Nat → Int32} {under : Nat → Int32} {people : Int32} {askings : Int32} {hangs : Int32} {items : Int32} {many : Nat → Int32} {slip : Nat → Nat → Int32} {became : Nat → Int32} {left : Nat → Int32} {what : Nat → Int32} {which : Nat → Int32} {whose : Nat → Int32} {place : Nat → Int32} {deeds : Int32} {day : Int32} {won : Int32} {lost : Int32} {kept : Int32} {text : Nat → Int32} {typed : Int32} {rest : Nat → Int32} {bestSet : Int32} {tenths : Nat → Int32} {sortWorth : Nat → Int32} {sortDays : Nat → Int32} {row : Nat → Int32} {trace : Int64} {x1 : Int32} {r : Int32} {trace_r : Int64} (hf : x_rate6_4 room many slip left trace x1 = some (r, trace_r)) : MI l yX6_rate (ws_ yX6_rate cX6_rate 2 (some .int)) { frames := 1, cells := 0, slots := 0, locals := 23 } D gcl (gty d) NX (xw d ad ba ta imgs room work price whom bday units worth due under people askings hangs items many slip became left what which whose place deeds day won lost kept text typed rest bestSet tenths sortWorth sortDays row trace) (xw d ad ba ta imgs room work price whom bday units worth due under people askings hangs items many slip became left what which whose place deeds day won lost kept text typed rest bestSet tenths sortWorth sortDays row trace_r) sz [.ref (ad 12), .int x1] r :=
  MI.of (by decide) [.ref (ad 12), .int x1] [(0, .ref (ad 12)), (1, .int x1)] (Nat.le_of_ble_eq_true rfl) rfl (fun p e s m below meth c ls Q hx hb hml hown hts hN hA hC hl K => w_x_rate6_4 hx hb hml hown hts hN hA (Nat.le_refl _) (Nat.le_refl _) (Nat.le_refl _) (Nat.le_refl _) hf hC hl K)

def x_rate7_3 (room : Nat → Int32) (work : Nat → Int32) (many : Nat → Int32) (trace : Int64) (x1 : Int32) : Option (Int32 × Int64) :=
  bnd2 (x_rate5_3 room work many (trace + 1000) x1) fun r_18 trace_18 =>
  some (2 * r_18, trace_18)
set_option maxHeartbeats 4000000 in
set_option maxRecDepth 100000 in
theorem w_x_rate7_3 {p : Program} {l : Launch} {e : Env} {R : Room} {s : State} {m : MethodId} {args : Array Value} {below : List Frame} {meth : Method} {c : Code} {H : Heap} {locs : List Loc} {cells slots : Nat} {Q : State → Prop} {A : Nat → Prop} {ls : Array Slot} {D : va_G} {d : Nat → ClassId} {ad : Nat → Nat} {ba : Nat → Nat} {ta : Nat → Nat} {imgs : va_W} {room : Nat → Int32} {work : Nat → Int32} {price : Nat → Int32} {whom : Nat → Int32} {bday : Nat → Int32} {units : Nat → Int32} {worth : Nat → Int32} {due : Nat → Int32} {under : Nat → Int32} {people : Int32} {askings : Int32} {hangs : Int32} {items : Int32} {many : Nat → Int32} {slip : Nat → Nat → Int32} {became : Nat → Int32} {left : Nat → Int32} {what : Nat → Int32} {which : Nat → Int32} {whose : Nat → Int32} {place : Nat → Int32} {deeds : Int32} {day : Int32} {won : Int32} {lost : Int32} {kept : Int32} {text : Nat → Int32} {typed : Int32} {rest : Nat → Int32} {bestSet : Int32} {tenths : Nat → Int32} {sortWorth : Nat → Int32} {sortDays : Nat → Int32} {row : Nat → Int32} {trace : Int64} {x1 : Int32} {r : Int32} {trace_r : Int64} (hx : p.tables.exec = Jvm.exec) (hb : c.code = cX7_rate) (hml : c.maxLocals = 2) (hown : s.vm.findClass RX7 = some m.cls) (hts : ∀ w ∈ lw_all, w.before args s = true) (hN : NX s) (hA : ∀ q, s.heap.size ≤ q → A q) (hRf : 2 ≤ R.frames) (hRl : 42 ≤ R.locals) (hRc : cells ≤ R.cells) (hRs : slots ≤ R.slots) (hf : x_rate7_3 room work many trace x1 = some (r, trace_r)) (hC : HC D gcl (gty d) A (xw d ad ba ta imgs room work price whom bday units worth due under people askings hangs items many slip became left what which whose place deeds day won lost kept text typed rest bestSet tenths sortWorth sortDays row trace) s H locs) (hl : lv_has ls 2 [(0, .ref (ad 11)), (1, .int x1)]) (K : ∀ (H : Heap) (locs : List Loc) (ls : Array Slot) (pc : Nat), narrow .int (.int r) = .int r → HC D gcl (gty d) A (xw d ad ba ta imgs room work price whom bday units worth due under people askings hangs items many slip became left what which whose place deeds day won lost kept text typed rest bestSet tenths sortWorth sortDays row trace_r) s H locs → decode cX7_rate pc = .ok (.ireturn, 1) → W p l e R s m args below meth c H locs cells slots Q (F0 m pc ls [.int r])) : W p l e R s m args below meth c H locs cells slots Q (F0 m 0 ls []) := by
  unfold x_rate7_3 at hf
  refine lv_aload_n hx hb dX7_rate_0 rfl (lv_at hl 0 rfl) ?_
  refine va_get (ci := 7) (v := .ref (ad 0)) (C := RX7) (T := TX7) (N := 3) hx hb hts in_X7 hown hC.1 hC.2.1 (37) rfl rfl 2 (by decide) (hts _ q266) (fun _ h9 => h9) rfl dX7_rate_1 ?_
  refine lv_dup hx hb dX7_rate_4 rfl ?_
  refine va_getN (ci := 0) (v := .long trace) (C := RX0) (T := TX0) (N := 13) (host := "SleeveSlips") hx hb hts in_X0 hown hC.1 hC.2.1 (26) rfl rfl 11 (by decide) (va_Nw.use rfl (hN.1 53)) (fun _ h9 => h9) rfl dX7_rate_5 ?_
  refine lv_ldc2 (v := 1000) hx hb hown (hts _ q750) dX7_rate_8 ?_
  refine lv_ladd hx hb dX7_rate_11 ?_
  refine va_putN (ci := 0) (v := .long (trace + 1000)) (ty := .long) (C := RX0) (T := TX0) (N := 13) (host := "SleeveSlips") hx hb hts in_X0 tyX0 tyX0_ok nmX0 hown hC.1 hC.2.1 hC.2.2.1 hC.2.2.2 (26) rfl rfl 11 (by decide) (va_Nw.use rfl (hN.1 53)) (fun _ h9 => h9) rfl (tyX0_ok 11 (by decide)) rfl rfl (Nat.le_of_ble_eq_true rfl) dX7_rate_12 (fun H locs hP hD hS => ?_)
  have hC : HC D gcl (gty d) A (xw d ad ba ta imgs room work price whom bday units worth due under people askings hangs items many slip became left what which whose place deeds day won lost kept text typed rest bestSet tenths sortWorth sortDays row (trace + 1000)) s H locs := ⟨hC.1, hP, hD, hS⟩
  refine lv_iconst (v := 2) hx hb dX7_rate_15 (by decide) ?_
  refine lv_aload_n hx hb dX7_rate_16 rfl (lv_at hl 0 rfl) ?_
  refine lv_iload_n hx hb dX7_rate_17 rfl (lv_at hl 1 rfl) ?_
  obtain ⟨r_18, trace_18, hcall, hf⟩ := bnd2_some hf
  refine hc_i (va_runSU (C := RX7) (hC.1.1 7 _ rfl).2 (As := [.int x1]) (rest := [.int 2]) ⟨hx, hb, hml, hown, hts⟩ (c_x_rate5_3 hcall) (va_cwSU 1 hts (lw_SU q751 q1137 q271 q752 q53 q753) rfl rfl rfl (by decide +kernel) ⟨(Nat.le_trans (Nat.le_of_ble_eq_true rfl) hRf), (Nat.le_trans (Nat.le_of_ble_eq_true rfl) hRl)⟩) (pre_V (q0 := 37) (ci := 7) NX.calling (fun U _ hW => NX.warm hW hN) hC rfl rfl) rfl rfl hl.1 rfl (lv_room (Nat.le_of_ble_eq_true rfl)) dX7_rate_18 ⟨hRc, hRs⟩) hA hC (fun H locs hC => ?_)
  have hC : HC D gcl (gty d) A (xw d ad ba ta imgs room work price whom bday units worth due under people askings hangs items many slip became left what which whose place deeds day won lost kept text typed rest bestSet tenths sortWorth sortDays row trace_18) s H locs := hC
  refine lv_imul hx hb dX7_rate_21 ?_
  obtain ⟨e_1, e_2⟩ := so_2 (Option.some.inj hf)
  subst e_1
  subst e_2
  exact K H locs ls _ rfl hC dX7_rate_22
set_option maxRecDepth 100000 in
theorem c_x_rate7_3 {l : Launch} {sz : Nat} {D : va_G} {d : Nat → ClassId} {ad : Nat → Nat} {ba : Nat → Nat} {ta : Nat → Nat} {imgs : va_W} {room : Nat → Int32} {work : Nat → Int32} {price : Nat → Int32} {whom : Nat → Int32} {bday : Nat → Int32} {units : Nat → Int32} {worth : Nat → Int32} {due : Nat → Int32} {under : Nat → Int32} {people : Int32} {askings : Int32} {hangs : Int32} {items : Int32} {many : Nat → Int32} {slip : Nat → Nat → Int32} {became : Nat → Int32} {left : Nat → Int32} {what : Nat → Int32} {which : Nat → Int32} {whose : Nat → Int32} {place : Nat → Int32} {deeds : Int32} {day : Int32} {won : Int32} {lost : Int32} {kept : Int32} {text : Nat → Int32} {typed : Int32} {rest : Nat → Int32} {bestSet : Int32} {tenths : Nat → Int32} {sortWorth : Nat → Int32} {sortDays : Nat → Int32} {row : Nat → Int32} {trace : Int64} {x1 : Int32} {r : Int32} {trace_r : Int64} (hf : x_rate7_3 room work many trace x1 = some (r, trace_r)) : MI l yX7_rate (ws_ yX7_rate cX7_rate 2 (some .int)) { frames := 2, cells := 0, slots := 0, locals := 42 } D gcl (gty d) NX (xw d ad ba ta imgs room work price whom bday units worth due under people askings hangs items many slip became left what which whose place deeds day won lost kept text typed rest bestSet tenths sortWorth sortDays row trace) (xw d ad ba ta imgs room work price whom bday units worth due under people askings hangs items many slip became left what which whose place deeds day won lost kept text typed rest bestSet tenths sortWorth sortDays row trace_r) sz [.ref (ad 11), .int x1] r :=
  MI.of (by decide) [.ref (ad 11), .int x1] [(0, .ref (ad 11)), (1, .int x1)] (Nat.le_of_ble_eq_true rfl) rfl (fun p e s m below meth c ls Q hx hb hml hown hts hN hA hC hl K => w_x_rate7_3 hx hb hml hown hts hN hA (Nat.le_refl _) (Nat.le_refl _) (Nat.le_refl _) (Nat.le_refl _) hf hC hl K)

def x_rate8_4 (room : Nat → Int32) (many : Nat → Int32) (slip : Nat → Nat → Int32) (left : Nat → Int32) (trace : Int64) (x1 : Int32) : Option (Int32 × Int64) :=
  bnd2 (x_rate6_4 room many slip left (trace + 10000) x1) fun r_17 trace_17 =>
  some (r_17 + x1, trace_17)
set_option maxHeartbeats 4000000 in
set_option maxRecDepth 100000 in
theorem w_x_rate8_4 {p : Program} {l : Launch} {e : Env} {R : Room} {s : State} {m : MethodId} {args : Array Value} {below : List Frame} {meth : Method} {c : Code} {H : Heap} {locs : List Loc} {cells slots : Nat} {Q : State → Prop} {A : Nat → Prop} {ls : Array Slot} {D : va_G} {d : Nat → ClassId} {ad : Nat → Nat} {ba : Nat → Nat} {ta : Nat → Nat} {imgs : va_W} {room : Nat → Int32} {work : Nat → Int32} {price : Nat → Int32} {whom : Nat → Int32} {bday : Nat → Int32} {units : Nat → Int32} {worth : Nat → Int32} {due : Nat → Int32} {under : Nat → Int32} {people : Int32} {askings : Int32} {hangs : Int32} {items : Int32} {many : Nat → Int32} {slip : Nat → Nat → Int32} {became : Nat → Int32} {left : Nat → Int32} {what : Nat → Int32} {which : Nat → Int32} {whose : Nat → Int32} {place : Nat → Int32} {deeds : Int32} {day : Int32} {won : Int32} {lost : Int32} {kept : Int32} {text : Nat → Int32} {typed : Int32} {rest : Nat → Int32} {bestSet : Int32} {tenths : Nat → Int32} {sortWorth : Nat → Int32} {sortDays : Nat → Int32} {row : Nat → Int32} {trace : Int64} {x1 : Int32} {r : Int32} {trace_r : Int64} (hx : p.tables.exec = Jvm.exec) (hb : c.code = cX8_rate) (hml : c.maxLocals = 2) (hown : s.vm.findClass RX8 = some m.cls) (hts : ∀ w ∈ lw_all, w.before args s = true) (hN : NX s) (hA : ∀ q, s.heap.size ≤ q → A q) (hRf : 2 ≤ R.frames) (hRl : 44 ≤ R.locals) (hRc : cells ≤ R.cells) (hRs : slots ≤ R.slots) (hf : x_rate8_4 room many slip left trace x1 = some (r, trace_r)) (hC : HC D gcl (gty d) A (xw d ad ba ta imgs room work price whom bday units worth due under people askings hangs items many slip became left what which whose place deeds day won lost kept text typed rest bestSet tenths sortWorth sortDays row trace) s H locs) (hl : lv_has ls 2 [(0, .ref (ad 12)), (1, .int x1)]) (K : ∀ (H : Heap) (locs : List Loc) (ls : Array Slot) (pc : Nat), narrow .int (.int r) = .int r → HC D gcl (gty d) A (xw d ad ba ta imgs room work price whom bday units worth due under people askings hangs items many slip became left what which whose place deeds day won lost kept text typed rest bestSet tenths sortWorth sortDays row trace_r) s H locs → decode cX8_rate pc = .ok (.ireturn, 1) → W p l e R s m args below meth c H locs cells slots Q (F0 m pc ls [.int r])) : W p l e R s m args below meth c H locs cells slots Q (F0 m 0 ls []) := by
  unfold x_rate8_4 at hf
  refine lv_aload_n hx hb dX8_rate_0 rfl (lv_at hl 0 rfl) ?_
  refine va_get (ci := 8) (v := .ref (ad 0)) (C := RX8) (T := TX8) (N := 3) hx hb hts in_X8 hown hC.1 hC.2.1 (38) rfl rfl 2 (by decide) (hts _ q278) (fun _ h9 => h9) rfl dX8_rate_1 ?_
  refine lv_dup hx hb dX8_rate_4 rfl ?_
  refine va_getN (ci := 0) (v := .long trace) (C := RX0) (T := TX0) (N := 13) (host := "SleeveSlips") hx hb hts in_X0 hown hC.1 hC.2.1 (26) rfl rfl 11 (by decide) (va_Nw.use rfl (hN.1 55)) (fun _ h9 => h9) rfl dX8_rate_5 ?_
  refine lv_ldc2 (v := 10000) hx hb hown (hts _ q760) dX8_rate_8 ?_
  refine lv_ladd hx hb dX8_rate_11 ?_
  refine va_putN (ci := 0) (v := .long (trace + 10000)) (ty := .long) (C := RX0) (T := TX0) (N := 13) (host := "SleeveSlips") hx hb hts in_X0 tyX0 tyX0_ok nmX0 hown hC.1 hC.2.1 hC.2.2.1 hC.2.2.2 (26) rfl rfl 11 (by decide) (va_Nw.use rfl (hN.1 55)) (fun _ h9 => h9) rfl (tyX0_ok 11 (by decide)) rfl rfl (Nat.le_of_ble_eq_true rfl) dX8_rate_12 (fun H locs hP hD hS => ?_)
  have hC : HC D gcl (gty d) A (xw d ad ba ta imgs room work price whom bday units worth due under people askings hangs items many slip became left what which whose place deeds day won lost kept text typed rest bestSet tenths sortWorth sortDays row (trace + 10000)) s H locs := ⟨hC.1, hP, hD, hS⟩
  refine lv_aload_n hx hb dX8_rate_15 rfl (lv_at hl 0 rfl) ?_
  refine lv_iload_n hx hb dX8_rate_16 rfl (lv_at hl 1 rfl) ?_
  obtain ⟨r_17, trace_17, hcall, hf⟩ := bnd2_some hf
  refine hc_i (va_runSU (C := RX8) (hC.1.1 8 _ rfl).2 (As := [.int x1]) (rest := []) ⟨hx, hb, hml, hown, hts⟩ (c_x_rate6_4 hcall) (va_cwSU 1 hts (lw_SU q761 q1138 q283 q762 q54 q763) rfl rfl rfl (by decide +kernel) ⟨(Nat.le_trans (Nat.le_of_ble_eq_true rfl) hRf), (Nat.le_trans (Nat.le_of_ble_eq_true rfl) hRl)⟩) (pre_V (q0 := 38) (ci := 8) NX.calling (fun U _ hW => NX.warm hW hN) hC rfl rfl) rfl rfl hl.1 rfl (lv_room (Nat.le_of_ble_eq_true rfl)) dX8_rate_17 ⟨hRc, hRs⟩) hA hC (fun H locs hC => ?_)
  have hC : HC D gcl (gty d) A (xw d ad ba ta imgs room work price whom bday units worth due under people askings hangs items many slip became left what which whose place deeds day won lost kept text typed rest bestSet tenths sortWorth sortDays row trace_17) s H locs := hC
  refine lv_iload_n hx hb dX8_rate_20 rfl (lv_at hl 1 rfl) ?_
  refine lv_iadd hx hb dX8_rate_21 ?_
  obtain ⟨e_1, e_2⟩ := so_2 (Option.some.inj hf)
  subst e_1
  subst e_2
  exact K H locs ls _ rfl hC dX8_rate_22
set_option maxRecDepth 100000 in
theorem c_x_rate8_4 {l : Launch} {sz : Nat} {D : va_G} {d : Nat → ClassId} {ad : Nat → Nat} {ba : Nat → Nat} {ta : Nat → Nat} {imgs : va_W} {room : Nat → Int32} {work : Nat → Int32} {price : Nat → Int32} {whom : Nat → Int32} {bday : Nat → Int32} {units : Nat → Int32} {worth : Nat → Int32} {due : Nat → Int32} {under : Nat → Int32} {people : Int32} {askings : Int32} {hangs : Int32} {items : Int32} {many : Nat → Int32} {slip : Nat → Nat → Int32} {became : Nat → Int32} {left : Nat → Int32} {what : Nat → Int32} {which : Nat → Int32} {whose : Nat → Int32} {place : Nat → Int32} {deeds : Int32} {day : Int32} {won : Int32} {lost : Int32} {kept : Int32} {text : Nat → Int32} {typed : Int32} {rest : Nat → Int32} {bestSet : Int32} {tenths : Nat → Int32} {sortWorth : Nat → Int32} {sortDays : Nat → Int32} {row : Nat → Int32} {trace : Int64} {x1 : Int32} {r : Int32} {trace_r : Int64} (hf : x_rate8_4 room many slip left trace x1 = some (r, trace_r)) : MI l yX8_rate (ws_ yX8_rate cX8_rate 2 (some .int)) { frames := 2, cells := 0, slots := 0, locals := 44 } D gcl (gty d) NX (xw d ad ba ta imgs room work price whom bday units worth due under people askings hangs items many slip became left what which whose place deeds day won lost kept text typed rest bestSet tenths sortWorth sortDays row trace) (xw d ad ba ta imgs room work price whom bday units worth due under people askings hangs items many slip became left what which whose place deeds day won lost kept text typed rest bestSet tenths sortWorth sortDays row trace_r) sz [.ref (ad 12), .int x1] r :=
  MI.of (by decide) [.ref (ad 12), .int x1] [(0, .ref (ad 12)), (1, .int x1)] (Nat.le_of_ble_eq_true rfl) rfl (fun p e s m below meth c ls Q hx hb hml hown hts hN hA hC hl K => w_x_rate8_4 hx hb hml hown hts hN hA (Nat.le_refl _) (Nat.le_refl _) (Nat.le_refl _) (Nat.le_refl _) hf hC hl K)

def x_rate9_5 (room : Nat → Int32) (many : Nat → Int32) (day : Int32) (trace : Int64) (x1 : Int32) : Option (Int32 × Int64) :=
  bnd2 (x_rate4_5 room many (trace + 100000) x1) fun r_17 trace_17 =>
  some (r_17 + day, trace_17)
set_option maxHeartbeats 4000000 in
set_option maxRecDepth 100000 in
theorem w_x_rate9_5 {p : Program} {l : Launch} {e : Env} {R : Room} {s : State} {m : MethodId} {args : Array Value} {below : List Frame} {meth : Method} {c : Code} {H : Heap} {locs : List Loc} {cells slots : Nat} {Q : State → Prop} {A : Nat → Prop} {ls : Array Slot} {D : va_G} {d : Nat → ClassId} {ad : Nat → Nat} {ba : Nat → Nat} {ta : Nat → Nat} {imgs : va_W} {room : Nat → Int32} {work : Nat → Int32} {price : Nat → Int32} {whom : Nat → Int32} {bday : Nat → Int32} {units : Nat → Int32} {worth : Nat → Int32} {due : Nat → Int32} {under : Nat → Int32} {people : Int32} {askings : Int32} {hangs : Int32} {items : Int32} {many : Nat → Int32} {slip : Nat → Nat → Int32} {became : Nat → Int32} {left : Nat → Int32} {what : Nat → Int32} {which : Nat → Int32} {whose : Nat → Int32} {place : Nat → Int32} {deeds : Int32} {day : Int32} {won : Int32} {lost : Int32} {kept : Int32} {text : Nat → Int32} {typed : Int32} {rest : Nat → Int32} {bestSet : Int32} {tenths : Nat → Int32} {sortWorth : Nat → Int32} {sortDays : Nat → Int32} {row : Nat → Int32} {trace : Int64} {x1 : Int32} {r : Int32} {trace_r : Int64} (hx : p.tables.exec = Jvm.exec) (hb : c.code = cX9_rate) (hml : c.maxLocals = 2) (hown : s.vm.findClass RX9 = some m.cls) (hts : ∀ w ∈ lw_all, w.before args s = true) (hN : NX s) (hA : ∀ q, s.heap.size ≤ q → A q) (hRf : 1 ≤ R.frames) (hRl : 21 ≤ R.locals) (hRc : cells ≤ R.cells) (hRs : slots ≤ R.slots) (hf : x_rate9_5 room many day trace x1 = some (r, trace_r)) (hC : HC D gcl (gty d) A (xw d ad ba ta imgs room work price whom bday units worth due under people askings hangs items many slip became left what which whose place deeds day won lost kept text typed rest bestSet tenths sortWorth sortDays row trace) s H locs) (hl : lv_has ls 2 [(0, .ref (ad 13)), (1, .int x1)]) (K : ∀ (H : Heap) (locs : List Loc) (ls : Array Slot) (pc : Nat), narrow .int (.int r) = .int r → HC D gcl (gty d) A (xw d ad ba ta imgs room work price whom bday units worth due under people askings hangs items many slip became left what which whose place deeds day won lost kept text typed rest bestSet tenths sortWorth sortDays row trace_r) s H locs → decode cX9_rate pc = .ok (.ireturn, 1) → W p l e R s m args below meth c H locs cells slots Q (F0 m pc ls [.int r])) : W p l e R s m args below meth c H locs cells slots Q (F0 m 0 ls []) := by
  unfold x_rate9_5 at hf
  refine lv_aload_n hx hb dX9_rate_0 rfl (lv_at hl 0 rfl) ?_
  refine va_get (ci := 9) (v := .ref (ad 0)) (C := RX9) (T := TX9) (N := 2) hx hb hts in_X9 hown hC.1 hC.2.1 (39) rfl rfl 1 (by decide) (hts _ q290) (fun _ h9 => h9) rfl dX9_rate_1 ?_
  refine lv_dup hx hb dX9_rate_4 rfl ?_
  refine va_getN (ci := 0) (v := .long trace) (C := RX0) (T := TX0) (N := 13) (host := "SleeveSlips") hx hb hts in_X0 hown hC.1 hC.2.1 (26) rfl rfl 11 (by decide) (va_Nw.use rfl (hN.1 57)) (fun _ h9 => h9) rfl dX9_rate_5 ?_
  refine lv_ldc2 (v := 100000) hx hb hown (hts _ q771) dX9_rate_8 ?_
  refine lv_ladd hx hb dX9_rate_11 ?_
  refine va_putN (ci := 0) (v := .long (trace + 100000)) (ty := .long) (C := RX0) (T := TX0) (N := 13) (host := "SleeveSlips") hx hb hts in_X0 tyX0 tyX0_ok nmX0 hown hC.1 hC.2.1 hC.2.2.1 hC.2.2.2 (26) rfl rfl 11 (by decide) (va_Nw.use rfl (hN.1 57)) (fun _ h9 => h9) rfl (tyX0_ok 11 (by decide)) rfl rfl (Nat.le_of_ble_eq_true rfl) dX9_rate_12 (fun H locs hP hD hS => ?_)
  have hC : HC D gcl (gty d) A (xw d ad ba ta imgs room work price whom bday units worth due under people askings hangs items many slip became left what which whose place deeds day won lost kept text typed rest bestSet tenths sortWorth sortDays row (trace + 100000)) s H locs := ⟨hC.1, hP, hD, hS⟩
  refine lv_aload_n hx hb dX9_rate_15 rfl (lv_at hl 0 rfl) ?_
  refine lv_iload_n hx hb dX9_rate_16 rfl (lv_at hl 1 rfl) ?_
  obtain ⟨r_17, trace_17, hcall, hf⟩ := bnd2_some hf
  refine hc_i (va_runSU (C := RX9) (hC.1.1 9 _ rfl).2 (As := [.int x1]) (rest := []) ⟨hx, hb, hml, hown, hts⟩ (c_x_rate4_5 hcall) (va_cwSU 1 hts (lw_SU q772 q746 q294 q744 q52 q773) rfl rfl rfl (by decide +kernel) ⟨(Nat.le_trans (Nat.le_of_ble_eq_true rfl) hRf), (Nat.le_trans (Nat.le_of_ble_eq_true rfl) hRl)⟩) (pre_V (q0 := 39) (ci := 9) NX.calling (fun U _ hW => NX.warm hW hN) hC rfl rfl) rfl rfl hl.1 rfl (lv_room (Nat.le_of_ble_eq_true rfl)) dX9_rate_17 ⟨hRc, hRs⟩) hA hC (fun H locs hC => ?_)
  have hC : HC D gcl (gty d) A (xw d ad ba ta imgs room work price whom bday units worth due under people askings hangs items many slip became left what which whose place deeds day won lost kept text typed rest bestSet tenths sortWorth sortDays row trace_17) s H locs := hC
  refine lv_aload_n hx hb dX9_rate_20 rfl (lv_at hl 0 rfl) ?_
  refine va_get (ci := 9) (v := .ref (ad 0)) (C := RX9) (T := TX9) (N := 2) hx hb hts in_X9 hown hC.1 hC.2.1 (39) rfl rfl 1 (by decide) (hts _ q290) (fun _ h9 => h9) rfl dX9_rate_21 ?_
  refine va_getN (ci := 0) (v := .ref (ta 0)) (C := RX0) (T := TX0) (N := 13) (host := "SleeveSlips") hx hb hts in_X0 hown hC.1 hC.2.1 (26) rfl rfl 1 (by decide) (va_Nw.use rfl (hN.1 48)) (fun _ h9 => h9) rfl dX9_rate_24 ?_
  refine va_getN (ci := 2) (v := .int day) (C := RX2) (T := TX2) (N := 12) (host := "SleeveSlips") hx hb hts in_X2 hown hC.1 hC.2.1 (10) rfl rfl 8 (by decide) (va_Nw.use rfl (hN.1 41)) (fun _ h9 => h9) rfl dX9_rate_27 ?_
  refine lv_iadd hx hb dX9_rate_30 ?_
  obtain ⟨e_1, e_2⟩ := so_2 (Option.some.inj hf)
  subst e_1
  subst e_2
  exact K H locs ls _ rfl hC dX9_rate_31
set_option maxRecDepth 100000 in
theorem c_x_rate9_5 {l : Launch} {sz : Nat} {D : va_G} {d : Nat → ClassId} {ad : Nat → Nat} {ba : Nat → Nat} {ta : Nat → Nat} {imgs : va_W} {room : Nat → Int32} {work : Nat → Int32} {price : Nat → Int32} {whom : Nat → Int32} {bday : Nat → Int32} {units : Nat → Int32} {worth : Nat → Int32} {due : Nat → Int32} {under : Nat → Int32} {people : Int32} {askings : Int32} {hangs : Int32} {items : Int32} {many : Nat → Int32} {slip : Nat → Nat → Int32} {became : Nat → Int32} {left : Nat → Int32} {what : Nat → Int32} {which : Nat → Int32} {whose : Nat → Int32} {place : Nat → Int32} {deeds : Int32} {day : Int32} {won : Int32} {lost : Int32} {kept : Int32} {text : Nat → Int32} {typed : Int32} {rest : Nat → Int32} {bestSet : Int32} {tenths : Nat → Int32} {sortWorth : Nat → Int32} {sortDays : Nat → Int32} {row : Nat → Int32} {trace : Int64} {x1 : Int32} {r : Int32} {trace_r : Int64} (hf : x_rate9_5 room many day trace x1 = some (r, trace_r)) : MI l yX9_rate (ws_ yX9_rate cX9_rate 2 (some .int)) { frames := 1, cells := 0, slots := 0, locals := 21 } D gcl (gty d) NX (xw d ad ba ta imgs room work price whom bday units worth due under people askings hangs items many slip became left what which whose place deeds day won lost kept text typed rest bestSet tenths sortWorth sortDays row trace) (xw d ad ba ta imgs room work price whom bday units worth due under people askings hangs items many slip became left what which whose place deeds day won lost kept text typed rest bestSet tenths sortWorth sortDays row trace_r) sz [.ref (ad 13), .int x1] r :=
  MI.of (by decide) [.ref (ad 13), .int x1] [(0, .ref (ad 13)), (1, .int x1)] (Nat.le_of_ble_eq_true rfl) rfl (fun p e s m below meth c ls Q hx hb hml hown hts hN hA hC hl K => w_x_rate9_5 hx hb hml hown hts hN hA (Nat.le_refl _) (Nat.le_refl _) (Nat.le_refl _) (Nat.le_refl _) hf hC hl K)

def x_rate (room : Nat → Int32) (work : Nat → Int32) (people : Int32) (many : Nat → Int32) (slip : Nat → Nat → Int32) (left : Nat → Int32) (day : Int32) (trace : Int64) (x1 : Int32) (x2 : Int32) : Option (Int32 × Int64) :=
  bnd (x_in x1 0 5) fun r_3 =>
  if r_3 = 0 then (some ((-1000000), trace)) else
  bnd (x_isPerson people x2) fun r_11 =>
  if r_11 = 0 then (some ((-1000000), trace)) else
  if x1 = 0 then (bnd2 (x_rate4_0 room many trace x2) fun r_24 trace_24 =>
  some (r_24, trace_24)) else
  if x1 = 1 then (bnd2 (x_rate5_1 room work many trace x2) fun r_24 trace_24 =>
  some (r_24, trace_24)) else
  if x1 = 2 then (bnd2 (x_rate6_2 room many slip left trace x2) fun r_24 trace_24 =>
  some (r_24, trace_24)) else
  if x1 = 3 then (bnd2 (x_rate7_3 room work many trace x2) fun r_24 trace_24 =>
  some (r_24, trace_24)) else
  if x1 = 4 then (bnd2 (x_rate8_4 room many slip left trace x2) fun r_24 trace_24 =>
  some (r_24, trace_24)) else
  if x1 = 5 then (bnd2 (x_rate9_5 room many day trace x2) fun r_24 trace_24 =>
  some (r_24, trace_24)) else
  none
set_option maxHeartbeats 4000000 in
set_option maxRecDepth 100000 in
theorem w_x_rate {p : Program} {l : Launch} {e : Env} {R : Room} {s : State} {m : MethodId} {args : Array Value} {below : List Frame} {meth : Method} {c : Code} {H : Heap} {locs : List Loc} {cells slots : Nat} {Q : State → Prop} {A : Nat → Prop} {ls : Array Slot} {D : va_G} {d : Nat → ClassId} {ad : Nat → Nat} {ba : Nat → Nat} {ta : Nat → Nat} {imgs : va_W} {room : Nat → Int32} {work : Nat → Int32} {price : Nat → Int32} {whom : Nat → Int32} {bday : Nat → Int32} {units : Nat → Int32} {worth : Nat → Int32} {due : Nat → Int32} {under : Nat → Int32} {people : Int32} {askings : Int32} {hangs : Int32} {items : Int32} {many : Nat → Int32} {slip : Nat → Nat → Int32} {became : Nat → Int32} {left : Nat → Int32} {what : Nat → Int32} {which : Nat → Int32} {whose : Nat → Int32} {place : Nat → Int32} {deeds : Int32} {day : Int32} {won : Int32} {lost : Int32} {kept : Int32} {text : Nat → Int32} {typed : Int32} {rest : Nat → Int32} {bestSet : Int32} {tenths : Nat → Int32} {sortWorth : Nat → Int32} {sortDays : Nat → Int32} {row : Nat → Int32} {trace : Int64} {x1 : Int32} {x2 : Int32} {r : Int32} {trace_r : Int64} (hx : p.tables.exec = Jvm.exec) (hb : c.code = cX0_rate) (hml : c.maxLocals = 3) (hown : s.vm.findClass RX0 = some m.cls) (hts : ∀ w ∈ lw_all, w.before args s = true) (hN : NX s) (hA : ∀ q, s.heap.size ≤ q → A q) (hRf : 3 ≤ R.frames) (hRl : 65 ≤ R.locals) (hRc : cells ≤ R.cells) (hRs : slots ≤ R.slots) (hf : x_rate room work people many slip left day trace x1 x2 = some (r, trace_r)) (hC : HC D gcl (gty d) A (xw d ad ba ta imgs room work price whom bday units worth due under people askings hangs items many slip became left what which whose place deeds day won lost kept text typed rest bestSet tenths sortWorth sortDays row trace) s H locs) (hl : lv_has ls 3 [(0, .ref (ad 0)), (1, .int x1), (2, .int x2)]) (K : ∀ (H : Heap) (locs : List Loc) (ls : Array Slot) (pc : Nat), narrow .int (.int r) = .int r → HC D gcl (gty d) A (xw d ad ba ta imgs room work price whom bday units worth due under people askings hangs items many slip became left what which whose place deeds day won lost kept text typed rest bestSet tenths sortWorth sortDays row trace_r) s H locs → decode cX0_rate pc = .ok (.ireturn, 1) → W p l e R s m args below meth c H locs cells slots Q (F0 m pc ls [.int r])) : W p l e R s m args below meth c H locs cells slots Q (F0 m 0 ls []) := by
  unfold x_rate at hf
  refine lv_iload_n hx hb dX0_rate_0 rfl (lv_at hl 1 rfl) ?_
  refine lv_iconst (v := 0) hx hb dX0_rate_1 (by decide) ?_
  refine lv_iconst (v := 5) hx hb dX0_rate_2 (by decide) ?_
  obtain ⟨r_3, hcall, hf⟩ := bnd_some hf
  refine hc_i (va_runS (As := [.int x1, .int 0, .int 5]) (rest := []) ⟨hx, hb, hml, hown, hts⟩ (c_x_in hcall) (va_cwS 3 hts (lw_S q358 q359 q48 q360) rfl rfl rfl (by decide +kernel) ⟨(Nat.le_trans (Nat.le_of_ble_eq_true rfl) hRf), (Nat.le_trans (Nat.le_of_ble_eq_true rfl) hRl)⟩) (pre_S (fun _ _ _ _ h => h) (fun _ _ _ => trivial) hC) rfl rfl hl.1 rfl (lv_room (Nat.le_of_ble_eq_true rfl)) dX0_rate_3 ⟨hRc, hRs⟩) hA hC (fun H locs hC => ?_)
  refine lv_if_eq (tgt := 30) hx hb dX0_rate_6 (by decide) (fun c_6 => ?_) (fun c_6 => ?_)
  · have hf := if_t hf c_6
    refine lv_ldcw (v := (-1000000)) hx hb hown (hts _ q774) dX0_rate_30 ?_
    obtain ⟨e_1, e_2⟩ := so_2 (Option.some.inj hf)
    subst e_1
    subst e_2
    exact K H locs ls _ rfl hC dX0_rate_33
  · have hf := if_f hf c_6
    refine lv_aload_n hx hb dX0_rate_9 rfl (lv_at hl 0 rfl) ?_
    refine lv_iload_n hx hb dX0_rate_10 rfl (lv_at hl 2 rfl) ?_
    obtain ⟨r_11, hcall, hf⟩ := bnd_some hf
    refine hc_i (va_runV (C := RX0) (As := [.int x2]) (rest := []) ⟨hx, hb, hml, hown, hts⟩ (c_x_isPerson hcall) (cwV 1 hts (lw_V q555 q557 qs8 q48 q558) rfl rfl rfl (by decide +kernel) ⟨(Nat.le_trans (Nat.le_of_ble_eq_true rfl) hRf), (Nat.le_trans (Nat.le_of_ble_eq_true rfl) hRl)⟩) (pre_V (q0 := 26) (ci := 0) NX.calling (fun U _ hW => NX.warm hW hN) hC rfl rfl) rfl rfl hl.1 rfl (lv_room (Nat.le_of_ble_eq_true rfl)) dX0_rate_11 ⟨hRc, hRs⟩) hA hC (fun H locs hC => ?_)
    refine lv_if_eq (tgt := 30) hx hb dX0_rate_14 (by decide) (fun c_14 => ?_) (fun c_14 => ?_)
    · have hf := if_t hf c_14
      refine lv_ldcw (v := (-1000000)) hx hb hown (hts _ q774) dX0_rate_30 ?_
      obtain ⟨e_1, e_2⟩ := so_2 (Option.some.inj hf)
      subst e_1
      subst e_2
      exact K H locs ls _ rfl hC dX0_rate_33
    · have hf := if_f hf c_14
      refine lv_aload_n hx hb dX0_rate_17 rfl (lv_at hl 0 rfl) ?_
      refine va_get (ci := 0) (v := .ref (ad 7)) (C := RX0) (T := TX0) (N := 13) hx hb hts in_X0 hown hC.1 hC.2.1 (26) rfl rfl 12 (by decide) (hts _ q326) (fun _ h9 => h9) rfl dX0_rate_18 ?_
      refine lv_iload_n hx hb dX0_rate_21 rfl (lv_at hl 1 rfl) ?_
      by_cases ck_22_0 : x1 = 0
      · have hf := if_t hf ck_22_0
        refine va_aldq hx hb hC.1 hC.2.1 33 6 rfl rfl (by rw [ck_22_0]; exact vp_in_iff.mpr (by decide)) dX0_rate_22 ?_
        refine W.eq (g2 := F0 m 23 ls [.ref (ad 8)]) (by rw [ck_22_0]; rfl) ?_
        refine lv_iload_n hx hb dX0_rate_23 rfl (lv_at hl 2 rfl) ?_
        obtain ⟨r_24, trace_24, hcall, hf⟩ := bnd2_some hf
        refine hc_i (va_runV (C := RX4) (As := [.int x2]) (rest := []) ⟨hx, hb, hml, hown, hts⟩ (c_x_rate4_0 hcall) (cwV 1 hts (lw_V q743 q744 q745 q52 q773) rfl rfl rfl (by decide +kernel) ⟨(Nat.le_trans (Nat.le_of_ble_eq_true rfl) hRf), (Nat.le_trans (Nat.le_of_ble_eq_true rfl) hRl)⟩) (pre_V (q0 := 34) (ci := 4) NX.calling (fun U _ hW => NX.warm hW hN) hC rfl rfl) rfl rfl hl.1 rfl (lv_room (Nat.le_of_ble_eq_true rfl)) dX0_rate_24 ⟨hRc, hRs⟩) hA hC (fun H locs hC => ?_)
        have hC : HC D gcl (gty d) A (xw d ad ba ta imgs room work price whom bday units worth due under people askings hangs items many slip became left what which whose place deeds day won lost kept text typed rest bestSet tenths sortWorth sortDays row trace_24) s H locs := hC
        refine lv_goto (tgt := 33) hx hb dX0_rate_27 (by decide) ?_
        obtain ⟨e_1, e_2⟩ := so_2 (Option.some.inj hf)
        subst e_1
        subst e_2
        exact K H locs ls _ rfl hC dX0_rate_33
      · have hf := if_f hf ck_22_0
        by_cases ck_22_1 : x1 = 1
        · have hf := if_t hf ck_22_1
          refine va_aldq hx hb hC.1 hC.2.1 33 6 rfl rfl (by rw [ck_22_1]; exact vp_in_iff.mpr (by decide)) dX0_rate_22 ?_
          refine W.eq (g2 := F0 m 23 ls [.ref (ad 9)]) (by rw [ck_22_1]; rfl) ?_
          refine lv_iload_n hx hb dX0_rate_23 rfl (lv_at hl 2 rfl) ?_
          obtain ⟨r_24, trace_24, hcall, hf⟩ := bnd2_some hf
          refine hc_i (va_runU (C := RX5) (As := [.int x2]) (rest := []) ⟨hx, hb, hml, hown, hts⟩ (c_x_rate5_1 hcall) (va_cwO (owner := "SleeveSlips$Person") 1 hts (lw_O q743 q746 q744 q756 q752 q53 q753) rfl rfl rfl q773 (by decide +kernel) ⟨(Nat.le_trans (Nat.le_of_ble_eq_true rfl) hRf), (Nat.le_trans (Nat.le_of_ble_eq_true rfl) hRl)⟩) (pre_V (q0 := 35) (ci := 5) NX.calling (fun U _ hW => NX.warm hW hN) hC rfl rfl) rfl rfl hl.1 rfl (lv_room (Nat.le_of_ble_eq_true rfl)) dX0_rate_24 ⟨hRc, hRs⟩) hA hC (fun H locs hC => ?_)
          have hC : HC D gcl (gty d) A (xw d ad ba ta imgs room work price whom bday units worth due under people askings hangs items many slip became left what which whose place deeds day won lost kept text typed rest bestSet tenths sortWorth sortDays row trace_24) s H locs := hC
          refine lv_goto (tgt := 33) hx hb dX0_rate_27 (by decide) ?_
          obtain ⟨e_1, e_2⟩ := so_2 (Option.some.inj hf)
          subst e_1
          subst e_2
          exact K H locs ls _ rfl hC dX0_rate_33
        · have hf := if_f hf ck_22_1
          by_cases ck_22_2 : x1 = 2
          · have hf := if_t hf ck_22_2
            refine va_aldq hx hb hC.1 hC.2.1 33 6 rfl rfl (by rw [ck_22_2]; exact vp_in_iff.mpr (by decide)) dX0_rate_22 ?_
            refine W.eq (g2 := F0 m 23 ls [.ref (ad 10)]) (by rw [ck_22_2]; rfl) ?_
            refine lv_iload_n hx hb dX0_rate_23 rfl (lv_at hl 2 rfl) ?_
            obtain ⟨r_24, trace_24, hcall, hf⟩ := bnd2_some hf
            refine hc_i (va_runU (C := RX6) (As := [.int x2]) (rest := []) ⟨hx, hb, hml, hown, hts⟩ (c_x_rate6_2 hcall) (va_cwO (owner := "SleeveSlips$Person") 1 hts (lw_O q743 q746 q744 q767 q762 q54 q763) rfl rfl rfl q773 (by decide +kernel) ⟨(Nat.le_trans (Nat.le_of_ble_eq_true rfl) hRf), (Nat.le_trans (Nat.le_of_ble_eq_true rfl) hRl)⟩) (pre_V (q0 := 36) (ci := 6) NX.calling (fun U _ hW => NX.warm hW hN) hC rfl rfl) rfl rfl hl.1 rfl (lv_room (Nat.le_of_ble_eq_true rfl)) dX0_rate_24 ⟨hRc, hRs⟩) hA hC (fun H locs hC => ?_)
            have hC : HC D gcl (gty d) A (xw d ad ba ta imgs room work price whom bday units worth due under people askings hangs items many slip became left what which whose place deeds day won lost kept text typed rest bestSet tenths sortWorth sortDays row trace_24) s H locs := hC
            refine lv_goto (tgt := 33) hx hb dX0_rate_27 (by decide) ?_
            obtain ⟨e_1, e_2⟩ := so_2 (Option.some.inj hf)
            subst e_1
            subst e_2
            exact K H locs ls _ rfl hC dX0_rate_33
          · have hf := if_f hf ck_22_2
            by_cases ck_22_3 : x1 = 3
            · have hf := if_t hf ck_22_3
              refine va_aldq hx hb hC.1 hC.2.1 33 6 rfl rfl (by rw [ck_22_3]; exact vp_in_iff.mpr (by decide)) dX0_rate_22 ?_
              refine W.eq (g2 := F0 m 23 ls [.ref (ad 11)]) (by rw [ck_22_3]; rfl) ?_
              refine lv_iload_n hx hb dX0_rate_23 rfl (lv_at hl 2 rfl) ?_
              obtain ⟨r_24, trace_24, hcall, hf⟩ := bnd2_some hf
              refine hc_i (va_runU (C := RX7) (As := [.int x2]) (rest := []) ⟨hx, hb, hml, hown, hts⟩ (c_x_rate7_3 hcall) (va_cwO (owner := "SleeveSlips$Person") 1 hts (lw_O q743 q746 q744 q747 q748 q55 q749) rfl rfl rfl q773 (by decide +kernel) ⟨(Nat.le_trans (Nat.le_of_ble_eq_true rfl) hRf), (Nat.le_trans (Nat.le_of_ble_eq_true rfl) hRl)⟩) (pre_V (q0 := 37) (ci := 7) NX.calling (fun U _ hW => NX.warm hW hN) hC rfl rfl) rfl rfl hl.1 rfl (lv_room (Nat.le_of_ble_eq_true rfl)) dX0_rate_24 ⟨hRc, hRs⟩) hA hC (fun H locs hC => ?_)
              have hC : HC D gcl (gty d) A (xw d ad ba ta imgs room work price whom bday units worth due under people askings hangs items many slip became left what which whose place deeds day won lost kept text typed rest bestSet tenths sortWorth sortDays row trace_24) s H locs := hC
              refine lv_goto (tgt := 33) hx hb dX0_rate_27 (by decide) ?_
              obtain ⟨e_1, e_2⟩ := so_2 (Option.some.inj hf)
              subst e_1
              subst e_2
              exact K H locs ls _ rfl hC dX0_rate_33
            · have hf := if_f hf ck_22_3
              by_cases ck_22_4 : x1 = 4
              · have hf := if_t hf ck_22_4
                refine va_aldq hx hb hC.1 hC.2.1 33 6 rfl rfl (by rw [ck_22_4]; exact vp_in_iff.mpr (by decide)) dX0_rate_22 ?_
                refine W.eq (g2 := F0 m 23 ls [.ref (ad 12)]) (by rw [ck_22_4]; rfl) ?_
                refine lv_iload_n hx hb dX0_rate_23 rfl (lv_at hl 2 rfl) ?_
                obtain ⟨r_24, trace_24, hcall, hf⟩ := bnd2_some hf
                refine hc_i (va_runU (C := RX8) (As := [.int x2]) (rest := []) ⟨hx, hb, hml, hown, hts⟩ (c_x_rate8_4 hcall) (va_cwO (owner := "SleeveSlips$Person") 1 hts (lw_O q743 q746 q744 q757 q758 q56 q759) rfl rfl rfl q773 (by decide +kernel) ⟨(Nat.le_trans (Nat.le_of_ble_eq_true rfl) hRf), (Nat.le_trans (Nat.le_of_ble_eq_true rfl) hRl)⟩) (pre_V (q0 := 38) (ci := 8) NX.calling (fun U _ hW => NX.warm hW hN) hC rfl rfl) rfl rfl hl.1 rfl (lv_room (Nat.le_of_ble_eq_true rfl)) dX0_rate_24 ⟨hRc, hRs⟩) hA hC (fun H locs hC => ?_)
                have hC : HC D gcl (gty d) A (xw d ad ba ta imgs room work price whom bday units worth due under people askings hangs items many slip became left what which whose place deeds day won lost kept text typed rest bestSet tenths sortWorth sortDays row trace_24) s H locs := hC
                refine lv_goto (tgt := 33) hx hb dX0_rate_27 (by decide) ?_
                obtain ⟨e_1, e_2⟩ := so_2 (Option.some.inj hf)
                subst e_1
                subst e_2
                exact K H locs ls _ rfl hC dX0_rate_33
              · have hf := if_f hf ck_22_4
                by_cases ck_22_5 : x1 = 5
                · have hf := if_t hf ck_22_5
                  refine va_aldq hx hb hC.1 hC.2.1 33 6 rfl rfl (by rw [ck_22_5]; exact vp_in_iff.mpr (by decide)) dX0_rate_22 ?_
                  refine W.eq (g2 := F0 m 23 ls [.ref (ad 13)]) (by rw [ck_22_5]; rfl) ?_
                  refine lv_iload_n hx hb dX0_rate_23 rfl (lv_at hl 2 rfl) ?_
                  obtain ⟨r_24, trace_24, hcall, hf⟩ := bnd2_some hf
                  refine hc_i (va_runU (C := RX9) (As := [.int x2]) (rest := []) ⟨hx, hb, hml, hown, hts⟩ (c_x_rate9_5 hcall) (va_cwO (owner := "SleeveSlips$Person") 1 hts (lw_O q743 q746 q744 q768 q769 q57 q770) rfl rfl rfl q773 (by decide +kernel) ⟨(Nat.le_trans (Nat.le_of_ble_eq_true rfl) hRf), (Nat.le_trans (Nat.le_of_ble_eq_true rfl) hRl)⟩) (pre_V (q0 := 39) (ci := 9) NX.calling (fun U _ hW => NX.warm hW hN) hC rfl rfl) rfl rfl hl.1 rfl (lv_room (Nat.le_of_ble_eq_true rfl)) dX0_rate_24 ⟨hRc, hRs⟩) hA hC (fun H locs hC => ?_)
                  have hC : HC D gcl (gty d) A (xw d ad ba ta imgs room work price whom bday units worth due under people askings hangs items many slip became left what which whose place deeds day won lost kept text typed rest bestSet tenths sortWorth sortDays row trace_24) s H locs := hC
                  refine lv_goto (tgt := 33) hx hb dX0_rate_27 (by decide) ?_
                  obtain ⟨e_1, e_2⟩ := so_2 (Option.some.inj hf)
                  subst e_1
                  subst e_2
                  exact K H locs ls _ rfl hC dX0_rate_33
                · have hf := if_f hf ck_22_5
                  cases hf
set_option maxRecDepth 100000 in
theorem c_x_rate {l : Launch} {sz : Nat} {D : va_G} {d : Nat → ClassId} {ad : Nat → Nat} {ba : Nat → Nat} {ta : Nat → Nat} {imgs : va_W} {room : Nat → Int32} {work : Nat → Int32} {price : Nat → Int32} {whom : Nat → Int32} {bday : Nat → Int32} {units : Nat → Int32} {worth : Nat → Int32} {due : Nat → Int32} {under : Nat → Int32} {people : Int32} {askings : Int32} {hangs : Int32} {items : Int32} {many : Nat → Int32} {slip : Nat → Nat → Int32} {became : Nat → Int32} {left : Nat → Int32} {what : Nat → Int32} {which : Nat → Int32} {whose : Nat → Int32} {place : Nat → Int32} {deeds : Int32} {day : Int32} {won : Int32} {lost : Int32} {kept : Int32} {text : Nat → Int32} {typed : Int32} {rest : Nat → Int32} {bestSet : Int32} {tenths : Nat → Int32} {sortWorth : Nat → Int32} {sortDays : Nat → Int32} {row : Nat → Int32} {trace : Int64} {x1 : Int32} {x2 : Int32} {r : Int32} {trace_r : Int64} (hf : x_rate room work people many slip left day trace x1 x2 = some (r, trace_r)) : MI l yX0_rate (ws_ yX0_rate cX0_rate 3 (some .int)) { frames := 3, cells := 0, slots := 0, locals := 65 } D gcl (gty d) NX (xw d ad ba ta imgs room work price whom bday units worth due under people askings hangs items many slip became left what which whose place deeds day won lost kept text typed rest bestSet tenths sortWorth sortDays row trace) (xw d ad ba ta imgs room work price whom bday units worth due under people askings hangs items many slip became left what which whose place deeds day won lost kept text typed rest bestSet tenths sortWorth sortDays row trace_r) sz [.ref (ad 0), .int x1, .int x2] r :=
  MI.of (by decide) [.ref (ad 0), .int x1, .int x2] [(0, .ref (ad 0)), (1, .int x1), (2, .int x2)] (Nat.le_of_ble_eq_true rfl) rfl (fun p e s m below meth c ls Q hx hb hml hown hts hN hA hC hl K => w_x_rate hx hb hml hown hts hN hA (Nat.le_refl _) (Nat.le_refl _) (Nat.le_refl _) (Nat.le_refl _) hf hC hl K)

