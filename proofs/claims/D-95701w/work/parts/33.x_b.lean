set_option maxRecDepth 100000

def x_mayWork_L4 (x1 : Int32) (under : Nat → Int32) (askings : Int32) (became : Nat → Int32) : Nat → Int32 → Int32 → Option (Int32)
  | 0, _, _ => none
  | n_4 + 1, x2_4, x3_4 =>
  if askings ≤ x3_4 then (some x2_4) else
  if x2_4 = 0 then (x_mayWork_L4 x1 under askings became n_4 0 (x3_4 + 1) ) else
  ck x1 8 <| if (((under x1.toNatClampNeg) >>> (x3_4 &&& 31)) &&& 1) = 0 then (x_mayWork_L4 x1 under askings became n_4 1 (x3_4 + 1) ) else
  ck x3_4 8 <| if (became x3_4.toNatClampNeg) = 2 then (x_mayWork_L4 x1 under askings became n_4 1 (x3_4 + 1) ) else
  x_mayWork_L4 x1 under askings became n_4 0 (x3_4 + 1) 
theorem x_mayWork_L4_s (x1 : Int32) (under : Nat → Int32) (askings : Int32) (became : Nat → Int32) (n_4 : Nat) (x2_4 : Int32) (x3_4 : Int32) : x_mayWork_L4 x1 under askings became (n_4 + 1) x2_4 x3_4 = (
  if askings ≤ x3_4 then (some x2_4) else
  if x2_4 = 0 then (x_mayWork_L4 x1 under askings became n_4 0 (x3_4 + 1) ) else
  ck x1 8 <| if (((under x1.toNatClampNeg) >>> (x3_4 &&& 31)) &&& 1) = 0 then (x_mayWork_L4 x1 under askings became n_4 1 (x3_4 + 1) ) else
  ck x3_4 8 <| if (became x3_4.toNatClampNeg) = 2 then (x_mayWork_L4 x1 under askings became n_4 1 (x3_4 + 1) ) else
  x_mayWork_L4 x1 under askings became n_4 0 (x3_4 + 1) ) := rfl
def x_mayWork (under : Nat → Int32) (askings : Int32) (became : Nat → Int32) (x1 : Int32) : Option (Int32) :=
  bnd (x_mayWork_L4 x1 under askings became g_fuel 1 0 ) (fun x2_60 =>
  ckz x2_60 <| some x2_60)
set_option maxHeartbeats 4000000 in
set_option maxRecDepth 100000 in
theorem w_x_mayWork {p : Program} {l : Launch} {e : Env} {R : Room} {s : State} {m : MethodId} {args : Array Value} {below : List Frame} {meth : Method} {c : Code} {H : Heap} {locs : List Loc} {cells slots : Nat} {Q : State → Prop} {A : Nat → Prop} {ls : Array Slot} {D : va_G} {d : Nat → ClassId} {ad : Nat → Nat} {ba : Nat → Nat} {ta : Nat → Nat} {imgs : va_W} {room : Nat → Int32} {work : Nat → Int32} {price : Nat → Int32} {whom : Nat → Int32} {bday : Nat → Int32} {units : Nat → Int32} {worth : Nat → Int32} {due : Nat → Int32} {under : Nat → Int32} {people : Int32} {askings : Int32} {hangs : Int32} {items : Int32} {many : Nat → Int32} {slip : Nat → Nat → Int32} {became : Nat → Int32} {left : Nat → Int32} {what : Nat → Int32} {which : Nat → Int32} {whose : Nat → Int32} {place : Nat → Int32} {deeds : Int32} {day : Int32} {won : Int32} {lost : Int32} {kept : Int32} {text : Nat → Int32} {typed : Int32} {rest : Nat → Int32} {bestSet : Int32} {tenths : Nat → Int32} {sortWorth : Nat → Int32} {sortDays : Nat → Int32} {row : Nat → Int32} {trace : Int64} {x1 : Int32} {r : Int32} (hx : p.tables.exec = Jvm.exec) (hb : c.code = cX0_mayWork) (hml : c.maxLocals = 4) (hown : s.vm.findClass RX0 = some m.cls) (hts : ∀ w ∈ lw_all, w.before args s = true) (hN : NX s) (hA : ∀ q, s.heap.size ≤ q → A q) (hRf : 0 ≤ R.frames) (hRl : 0 ≤ R.locals) (hRc : cells ≤ R.cells) (hRs : slots ≤ R.slots) (hf : x_mayWork under askings became x1 = some r) (hC : HC D gcl (gty d) A (xw d ad ba ta imgs room work price whom bday units worth due under people askings hangs items many slip became left what which whose place deeds day won lost kept text typed rest bestSet tenths sortWorth sortDays row trace) s H locs) (hl : lv_has ls 4 [(0, .ref (ad 0)), (1, .int x1)]) (K : ∀ (H : Heap) (locs : List Loc) (ls : Array Slot) (pc : Nat), narrow .boolean (.int r) = .int r → HC D gcl (gty d) A (xw d ad ba ta imgs room work price whom bday units worth due under people askings hangs items many slip became left what which whose place deeds day won lost kept text typed rest bestSet tenths sortWorth sortDays row trace) s H locs → decode cX0_mayWork pc = .ok (.ireturn, 1) → W p l e R s m args below meth c H locs cells slots Q (F0 m pc ls [.int r])) : W p l e R s m args below meth c H locs cells slots Q (F0 m 0 ls []) := by
  unfold x_mayWork at hf
  refine lv_iconst (v := 1) hx hb dX0_mayWork_0 (by decide) ?_
  refine lv_istore_n (lv' := [(2, .int 1), (0, .ref (ad 0)), (1, .int x1)]) hx hb dX0_mayWork_1 rfl hl (by decide) rfl (fun ls hl => ?_)
  refine lv_iconst (v := 0) hx hb dX0_mayWork_2 (by decide) ?_
  refine lv_istore_n (lv' := [(3, .int 0), (2, .int 1), (0, .ref (ad 0)), (1, .int x1)]) hx hb dX0_mayWork_3 rfl hl (by decide) rfl (fun ls hl => ?_)
  obtain ⟨x2_60, hL, hf⟩ := bnd_some hf
  have X_4 : ∀ (H : Heap) (locs : List Loc) (ls : Array Slot), HC D gcl (gty d) A (xw d ad ba ta imgs room work price whom bday units worth due under people askings hangs items many slip became left what which whose place deeds day won lost kept text typed rest bestSet tenths sortWorth sortDays row trace) s H locs → lv_has ls 4 [(2, .int x2_60)] → W p l e R s m args below meth c H locs cells slots Q (F0 m 60 ls []) := by
    intro H locs ls hC hl
    refine lv_iload_n hx hb dX0_mayWork_60 rfl (lv_at hl 0 rfl) ?_
    obtain ⟨hz_61, hf⟩ := ckz_some hf
    have e_1 := (Option.some.inj hf)
    subst e_1
    exact K H locs ls _ (nz_01 hz_61) hC dX0_mayWork_61
  have L_4 : ∀ (n_4 : Nat) (x2_4 : Int32) (x3_4 : Int32), x_mayWork_L4 x1 under askings became n_4 x2_4 x3_4 = some x2_60 → ∀ (H : Heap) (locs : List Loc) (ls : Array Slot), HC D gcl (gty d) A (xw d ad ba ta imgs room work price whom bday units worth due under people askings hangs items many slip became left what which whose place deeds day won lost kept text typed rest bestSet tenths sortWorth sortDays row trace) s H locs → lv_has ls 4 [(0, .ref (ad 0)), (1, .int x1), (2, .int x2_4), (3, .int x3_4)] → W p l e R s m args below meth c H locs cells slots Q (F0 m 4 ls []) := by
    intro n_4
    induction n_4 with
    | zero => intro _ _ hf; cases hf
    | succ n_4 ih =>
      intro x2_4 x3_4 hf H locs ls hC hl
      rw [x_mayWork_L4_s] at hf
      refine lv_iload_n hx hb dX0_mayWork_4 rfl (lv_at hl 3 rfl) ?_
      refine lv_aload_n hx hb dX0_mayWork_5 rfl (lv_at hl 0 rfl) ?_
      refine va_get (ci := 0) (v := .ref (ba 0)) (C := RX0) (T := TX0) (N := 13) hx hb hts in_X0 hown hC.1 hC.2.1 (26) rfl rfl 0 (by decide) (hts _ q302) (fun _ h9 => h9) rfl dX0_mayWork_6 ?_
      refine va_getN (ci := 1) (v := .int askings) (C := RX1) (T := TX1) (N := 13) (host := "SleeveSlips") hx hb hts in_X1 hown hC.1 hC.2.1 (0) rfl rfl 10 (by decide) (va_Nw.use rfl (hN.1 22)) (fun _ h9 => h9) rfl dX0_mayWork_9 ?_
      refine lv_icmp_ge (tgt := 60) hx hb dX0_mayWork_12 (by decide) (fun c_12 => ?_) (fun c_12 => ?_)
      · have hf := if_t hf c_12
        have e_1 := (Option.some.inj hf)
        subst e_1
        exact X_4 H locs ls hC (lv_sub hl [2] rfl)
      · have hf := if_f hf c_12
        refine lv_iload_n hx hb dX0_mayWork_15 rfl (lv_at hl 2 rfl) ?_
        refine lv_if_eq (tgt := 52) hx hb dX0_mayWork_16 (by decide) (fun c_16 => ?_) (fun c_16 => ?_)
        · have hf := if_t hf c_16
          refine lv_iconst (v := 0) hx hb dX0_mayWork_52 (by decide) ?_
          refine lv_istore_n (lv' := [(2, .int 0), (0, .ref (ad 0)), (1, .int x1), (3, .int x3_4)]) hx hb dX0_mayWork_53 rfl hl (by decide) rfl (fun ls hl => ?_)
          refine lv_iinc (v := x3_4 + 1) (lv' := [(3, .int (x3_4 + 1)), (2, .int 0), (0, .ref (ad 0)), (1, .int x1)]) hx hb dX0_mayWork_54 hl (k := 3) rfl rfl (by decide) rfl (fun ls hl => ?_)
          refine lv_goto (tgt := 4) hx hb dX0_mayWork_57 (by decide) ?_
          exact ih _ _ hf H locs ls hC (lv_sub hl [2, 3, 1, 0] rfl)
        · have hf := if_f hf c_16
          refine lv_aload_n hx hb dX0_mayWork_19 rfl (lv_at hl 0 rfl) ?_
          refine va_get (ci := 0) (v := .ref (ba 0)) (C := RX0) (T := TX0) (N := 13) hx hb hts in_X0 hown hC.1 hC.2.1 (26) rfl rfl 0 (by decide) (hts _ q302) (fun _ h9 => h9) rfl dX0_mayWork_20 ?_
          refine va_getN (ci := 1) (v := .ref (ba 9)) (C := RX1) (T := TX1) (N := 13) (host := "SleeveSlips") hx hb hts in_X1 hown hC.1 hC.2.1 (0) rfl rfl 8 (by decide) (va_Nw.use rfl (hN.1 19)) (fun _ h9 => h9) rfl dX0_mayWork_23 ?_
          refine lv_iload_n hx hb dX0_mayWork_26 rfl (lv_at hl 1 rfl) ?_
          obtain ⟨hi_27, hf⟩ := ck_some hf
          refine va_iald hx hb hC.1 hC.2.1 (9) 0 rfl rfl hi_27 dX0_mayWork_27 ?_
          refine lv_iload_n hx hb dX0_mayWork_28 rfl (lv_at hl 3 rfl) ?_
          refine lv_ishr hx hb dX0_mayWork_29 ?_
          refine lv_iconst (v := 1) hx hb dX0_mayWork_30 (by decide) ?_
          refine lv_iand hx hb dX0_mayWork_31 ?_
          refine lv_if_eq (tgt := 48) hx hb dX0_mayWork_32 (by decide) (fun c_32 => ?_) (fun c_32 => ?_)
          · have hf := if_t hf c_32
            refine lv_iconst (v := 1) hx hb dX0_mayWork_48 (by decide) ?_
            refine lv_goto (tgt := 53) hx hb dX0_mayWork_49 (by decide) ?_
            refine lv_istore_n (lv' := [(2, .int 1), (0, .ref (ad 0)), (1, .int x1), (3, .int x3_4)]) hx hb dX0_mayWork_53 rfl hl (by decide) rfl (fun ls hl => ?_)
            refine lv_iinc (v := x3_4 + 1) (lv' := [(3, .int (x3_4 + 1)), (2, .int 1), (0, .ref (ad 0)), (1, .int x1)]) hx hb dX0_mayWork_54 hl (k := 3) rfl rfl (by decide) rfl (fun ls hl => ?_)
            refine lv_goto (tgt := 4) hx hb dX0_mayWork_57 (by decide) ?_
            exact ih _ _ hf H locs ls hC (lv_sub hl [2, 3, 1, 0] rfl)
          · have hf := if_f hf c_32
            refine lv_aload_n hx hb dX0_mayWork_35 rfl (lv_at hl 0 rfl) ?_
            refine va_get (ci := 0) (v := .ref (ta 0)) (C := RX0) (T := TX0) (N := 13) hx hb hts in_X0 hown hC.1 hC.2.1 (26) rfl rfl 1 (by decide) (hts _ q305) (fun _ h9 => h9) rfl dX0_mayWork_36 ?_
            refine va_getN (ci := 2) (v := .ref (ta 10)) (C := RX2) (T := TX2) (N := 12) (host := "SleeveSlips") hx hb hts in_X2 hown hC.1 hC.2.1 (10) rfl rfl 1 (by decide) (va_Nw.use rfl (hN.1 34)) (fun _ h9 => h9) rfl dX0_mayWork_39 ?_
            refine lv_iload_n hx hb dX0_mayWork_42 rfl (lv_at hl 3 rfl) ?_
            obtain ⟨hi_43, hf⟩ := ck_some hf
            refine va_iald hx hb hC.1 hC.2.1 (20) 0 rfl rfl hi_43 dX0_mayWork_43 ?_
            refine lv_iconst (v := 2) hx hb dX0_mayWork_44 (by decide) ?_
            refine lv_icmp_ne (tgt := 52) hx hb dX0_mayWork_45 (by decide) (fun c_45 => ?_) (fun c_45 => ?_)
            · have hf := if_f hf c_45
              refine lv_iconst (v := 0) hx hb dX0_mayWork_52 (by decide) ?_
              refine lv_istore_n (lv' := [(2, .int 0), (0, .ref (ad 0)), (1, .int x1), (3, .int x3_4)]) hx hb dX0_mayWork_53 rfl hl (by decide) rfl (fun ls hl => ?_)
              refine lv_iinc (v := x3_4 + 1) (lv' := [(3, .int (x3_4 + 1)), (2, .int 0), (0, .ref (ad 0)), (1, .int x1)]) hx hb dX0_mayWork_54 hl (k := 3) rfl rfl (by decide) rfl (fun ls hl => ?_)
              refine lv_goto (tgt := 4) hx hb dX0_mayWork_57 (by decide) ?_
              exact ih _ _ hf H locs ls hC (lv_sub hl [2, 3, 1, 0] rfl)
            · have hf := if_t hf c_45
              refine lv_iconst (v := 1) hx hb dX0_mayWork_48 (by decide) ?_
              refine lv_goto (tgt := 53) hx hb dX0_mayWork_49 (by decide) ?_
              refine lv_istore_n (lv' := [(2, .int 1), (0, .ref (ad 0)), (1, .int x1), (3, .int x3_4)]) hx hb dX0_mayWork_53 rfl hl (by decide) rfl (fun ls hl => ?_)
              refine lv_iinc (v := x3_4 + 1) (lv' := [(3, .int (x3_4 + 1)), (2, .int 1), (0, .ref (ad 0)), (1, .int x1)]) hx hb dX0_mayWork_54 hl (k := 3) rfl rfl (by decide) rfl (fun ls hl => ?_)
              refine lv_goto (tgt := 4) hx hb dX0_mayWork_57 (by decide) ?_
              exact ih _ _ hf H locs ls hC (lv_sub hl [2, 3, 1, 0] rfl)
  exact L_4 _ _ _ hL H locs ls hC (lv_sub hl [2, 3, 1, 0] rfl)
set_option maxRecDepth 100000 in
theorem c_x_mayWork {l : Launch} {sz : Nat} {D : va_G} {d : Nat → ClassId} {ad : Nat → Nat} {ba : Nat → Nat} {ta : Nat → Nat} {imgs : va_W} {room : Nat → Int32} {work : Nat → Int32} {price : Nat → Int32} {whom : Nat → Int32} {bday : Nat → Int32} {units : Nat → Int32} {worth : Nat → Int32} {due : Nat → Int32} {under : Nat → Int32} {people : Int32} {askings : Int32} {hangs : Int32} {items : Int32} {many : Nat → Int32} {slip : Nat → Nat → Int32} {became : Nat → Int32} {left : Nat → Int32} {what : Nat → Int32} {which : Nat → Int32} {whose : Nat → Int32} {place : Nat → Int32} {deeds : Int32} {day : Int32} {won : Int32} {lost : Int32} {kept : Int32} {text : Nat → Int32} {typed : Int32} {rest : Nat → Int32} {bestSet : Int32} {tenths : Nat → Int32} {sortWorth : Nat → Int32} {sortDays : Nat → Int32} {row : Nat → Int32} {trace : Int64} {x1 : Int32} {r : Int32} (hf : x_mayWork under askings became x1 = some r) : MI l yX0_mayWork (ws_ yX0_mayWork cX0_mayWork 4 (some .boolean)) { frames := 0, cells := 0, slots := 0, locals := 0 } D gcl (gty d) NX (xw d ad ba ta imgs room work price whom bday units worth due under people askings hangs items many slip became left what which whose place deeds day won lost kept text typed rest bestSet tenths sortWorth sortDays row trace) (xw d ad ba ta imgs room work price whom bday units worth due under people askings hangs items many slip became left what which whose place deeds day won lost kept text typed rest bestSet tenths sortWorth sortDays row trace) sz [.ref (ad 0), .int x1] r :=
  MI.of (by decide) [.ref (ad 0), .int x1] [(0, .ref (ad 0)), (1, .int x1)] (Nat.le_of_ble_eq_true rfl) rfl (fun p e s m below meth c ls Q hx hb hml hown hts hN hA hC hl K => w_x_mayWork hx hb hml hown hts hN hA (Nat.le_refl _) (Nat.le_refl _) (Nat.le_refl _) (Nat.le_refl _) hf hC hl K)

def x_firstOf_L2 (under : Nat → Int32) (askings : Int32) (many : Nat → Int32) (slip : Nat → Nat → Int32) (became : Nat → Int32) (q_ : Nat) : Nat → Int32 → Option ((Int32) ⊕ (Unit))
  | 0, _ => none
  | n_2 + 1, x2_2 =>
  if (many q_) ≤ x2_2 then (some (.inr ())) else
  ck x2_2 5 <| bnd (x_mayWork under askings became (slip q_ x2_2.toNatClampNeg)) fun r_17 =>
  if r_17 = 0 then (x_firstOf_L2 under askings many slip became q_ n_2 (x2_2 + 1) ) else
  some (.inl x2_2)
theorem x_firstOf_L2_s (under : Nat → Int32) (askings : Int32) (many : Nat → Int32) (slip : Nat → Nat → Int32) (became : Nat → Int32) (q_ : Nat) (n_2 : Nat) (x2_2 : Int32) : x_firstOf_L2 under askings many slip became q_ (n_2 + 1) x2_2 = (
  if (many q_) ≤ x2_2 then (some (.inr ())) else
  ck x2_2 5 <| bnd (x_mayWork under askings became (slip q_ x2_2.toNatClampNeg)) fun r_17 =>
  if r_17 = 0 then (x_firstOf_L2 under askings many slip became q_ n_2 (x2_2 + 1) ) else
  some (.inl x2_2)) := rfl
def x_firstOf (under : Nat → Int32) (askings : Int32) (many : Nat → Int32) (slip : Nat → Nat → Int32) (became : Nat → Int32) (q_ : Nat) : Option (Int32) :=
  bndS (x_firstOf_L2 under askings many slip became q_ g_fuel 0 ) (fun _ =>
  some (-9))
set_option maxHeartbeats 4000000 in
set_option maxRecDepth 100000 in
theorem w_x_firstOf {p : Program} {l : Launch} {e : Env} {R : Room} {s : State} {m : MethodId} {args : Array Value} {below : List Frame} {meth : Method} {c : Code} {H : Heap} {locs : List Loc} {cells slots : Nat} {Q : State → Prop} {A : Nat → Prop} {ls : Array Slot} {D : va_G} {d : Nat → ClassId} {ad : Nat → Nat} {ba : Nat → Nat} {ta : Nat → Nat} {imgs : va_W} {room : Nat → Int32} {work : Nat → Int32} {price : Nat → Int32} {whom : Nat → Int32} {bday : Nat → Int32} {units : Nat → Int32} {worth : Nat → Int32} {due : Nat → Int32} {under : Nat → Int32} {people : Int32} {askings : Int32} {hangs : Int32} {items : Int32} {many : Nat → Int32} {slip : Nat → Nat → Int32} {became : Nat → Int32} {left : Nat → Int32} {what : Nat → Int32} {which : Nat → Int32} {whose : Nat → Int32} {place : Nat → Int32} {deeds : Int32} {day : Int32} {won : Int32} {lost : Int32} {kept : Int32} {text : Nat → Int32} {typed : Int32} {rest : Nat → Int32} {bestSet : Int32} {tenths : Nat → Int32} {sortWorth : Nat → Int32} {sortDays : Nat → Int32} {row : Nat → Int32} {trace : Int64} {q_ : Nat} {r : Int32} (hx : p.tables.exec = Jvm.exec) (hb : c.code = cX0_firstOf) (hml : c.maxLocals = 3) (hown : s.vm.findClass RX0 = some m.cls) (hts : ∀ w ∈ lw_all, w.before args s = true) (hN : NX s) (hq : q_ < 4) (hA : ∀ q, s.heap.size ≤ q → A q) (hRf : 1 ≤ R.frames) (hRl : 23 ≤ R.locals) (hRc : cells ≤ R.cells) (hRs : slots ≤ R.slots) (hf : x_firstOf under askings many slip became q_ = some r) (hC : HC D gcl (gty d) A (xw d ad ba ta imgs room work price whom bday units worth due under people askings hangs items many slip became left what which whose place deeds day won lost kept text typed rest bestSet tenths sortWorth sortDays row trace) s H locs) (hl : lv_has ls 3 [(0, .ref (ad 0)), (1, .ref (ta (2 + q_)))]) (K : ∀ (H : Heap) (locs : List Loc) (ls : Array Slot) (pc : Nat), narrow .int (.int r) = .int r → HC D gcl (gty d) A (xw d ad ba ta imgs room work price whom bday units worth due under people askings hangs items many slip became left what which whose place deeds day won lost kept text typed rest bestSet tenths sortWorth sortDays row trace) s H locs → decode cX0_firstOf pc = .ok (.ireturn, 1) → W p l e R s m args below meth c H locs cells slots Q (F0 m pc ls [.int r])) : W p l e R s m args below meth c H locs cells slots Q (F0 m 0 ls []) := by
  unfold x_firstOf at hf
  refine lv_iconst (v := 0) hx hb dX0_firstOf_0 (by decide) ?_
  refine lv_istore_n (lv' := [(2, .int 0), (0, .ref (ad 0)), (1, .ref (ta (2 + q_)))]) hx hb dX0_firstOf_1 rfl hl (by decide) rfl (fun ls hl => ?_)
  obtain ⟨rho_2, hL, hR_2, hO⟩ := bndS_some hf
  have X_2 : ∀ u_2, rho_2 = .inr u_2 → ∀ (H : Heap) (locs : List Loc) (ls : Array Slot), HC D gcl (gty d) A (xw d ad ba ta imgs room work price whom bday units worth due under people askings hangs items many slip became left what which whose place deeds day won lost kept text typed rest bestSet tenths sortWorth sortDays row trace) s H locs → lv_has ls 3 [] → W p l e R s m args below meth c H locs cells slots Q (F0 m 31 ls []) := by
    intro u_2 er H locs ls hC hl
    have hf := hO _ er
    refine lv_bipush (v := (-9)) hx hb dX0_firstOf_31 (by decide) ?_
    have e_1 := (Option.some.inj hf)
    subst e_1
    exact K H locs ls _ rfl hC dX0_firstOf_33
  have XR_2 := hR_2
  have L_2 : ∀ (n_2 : Nat) (x2_2 : Int32), x_firstOf_L2 under askings many slip became q_ n_2 x2_2 = some rho_2 → ∀ (H : Heap) (locs : List Loc) (ls : Array Slot), HC D gcl (gty d) A (xw d ad ba ta imgs room work price whom bday units worth due under people askings hangs items many slip became left what which whose place deeds day won lost kept text typed rest bestSet tenths sortWorth sortDays row trace) s H locs → lv_has ls 3 [(0, .ref (ad 0)), (1, .ref (ta (2 + q_))), (2, .int x2_2)] → W p l e R s m args below meth c H locs cells slots Q (F0 m 2 ls []) := by
    intro n_2
    induction n_2 with
    | zero => intro _ hf; cases hf
    | succ n_2 ih =>
      intro x2_2 hf H locs ls hC hl
      rw [x_firstOf_L2_s] at hf
      refine lv_iload_n hx hb dX0_firstOf_2 rfl (lv_at hl 2 rfl) ?_
      refine lv_aload_n hx hb dX0_firstOf_3 rfl (lv_at hl 1 rfl) ?_
      refine va_getN (ci := 3) (v := .int (many q_)) (C := RX3) (T := TX3) (N := 2) (host := "SleeveSlips") hx hb hts in_X3 hown hC.1 hC.2.1 (12 + q_) (xw_sl hq) rfl 1 (by decide) (va_Nw.use rfl (hN.1 31)) (fun _ h9 => h9) rfl dX0_firstOf_4 ?_
      refine lv_icmp_ge (tgt := 31) hx hb dX0_firstOf_7 (by decide) (fun c_7 => ?_) (fun c_7 => ?_)
      · have hf := if_t hf c_7
        exact X_2 _ (Option.some.inj hf).symm H locs ls hC (lv_sub hl [] rfl)
      · have hf := if_f hf c_7
        refine lv_aload_n hx hb dX0_firstOf_10 rfl (lv_at hl 0 rfl) ?_
        refine lv_aload_n hx hb dX0_firstOf_11 rfl (lv_at hl 1 rfl) ?_
        refine va_getN (ci := 3) (v := .ref (ta (6 + q_))) (C := RX3) (T := TX3) (N := 2) (host := "SleeveSlips") hx hb hts in_X3 hown hC.1 hC.2.1 (12 + q_) (xw_sl hq) rfl 0 (by decide) (va_Nw.use rfl (hN.1 28)) (fun _ h9 => h9) rfl dX0_firstOf_12 ?_
        refine lv_iload_n hx hb dX0_firstOf_15 rfl (lv_at hl 2 rfl) ?_
        obtain ⟨hi_16, hf⟩ := ck_some hf
        refine va_iald hx hb hC.1 hC.2.1 (16 + q_) 0 (xw_sp hq) rfl hi_16 dX0_firstOf_16 ?_
        obtain ⟨r_17, hcall, hf⟩ := bnd_some hf
        refine hc_i (va_runV (C := RX0) (As := [.int (slip q_ x2_2.toNatClampNeg)]) (rest := []) ⟨hx, hb, hml, hown, hts⟩ (c_x_mayWork hcall) (cwV 1 hts (lw_V q642 q644 qs14 q48 q645) rfl rfl rfl (by decide +kernel) ⟨(Nat.le_trans (Nat.le_of_ble_eq_true rfl) hRf), (Nat.le_trans (Nat.le_of_ble_eq_true rfl) hRl)⟩) (pre_V (q0 := 26) (ci := 0) NX.calling (fun U _ hW => NX.warm hW hN) hC rfl rfl) rfl rfl hl.1 rfl (lv_room (Nat.le_of_ble_eq_true rfl)) dX0_firstOf_17 ⟨hRc, hRs⟩) hA hC (fun H locs hC => ?_)
        refine lv_if_eq (tgt := 25) hx hb dX0_firstOf_20 (by decide) (fun c_20 => ?_) (fun c_20 => ?_)
        · have hf := if_t hf c_20
          refine lv_iinc (v := x2_2 + 1) (lv' := [(2, .int (x2_2 + 1)), (0, .ref (ad 0)), (1, .ref (ta (2 + q_)))]) hx hb dX0_firstOf_25 hl (k := 2) rfl rfl (by decide) rfl (fun ls hl => ?_)
          refine lv_goto (tgt := 2) hx hb dX0_firstOf_28 (by decide) ?_
          exact ih _ hf H locs ls hC (lv_sub hl [1, 2, 0] rfl)
        · have hf := if_f hf c_20
          refine lv_iload_n hx hb dX0_firstOf_23 rfl (lv_at hl 2 rfl) ?_
          have hf := XR_2 _ (Option.some.inj hf).symm
          have e_1 := hf
          subst e_1
          exact K H locs ls _ rfl hC dX0_firstOf_24
  exact L_2 _ _ hL H locs ls hC (lv_sub hl [1, 2, 0] rfl)
set_option maxRecDepth 100000 in
theorem c_x_firstOf {l : Launch} {sz : Nat} {D : va_G} {d : Nat → ClassId} {ad : Nat → Nat} {ba : Nat → Nat} {ta : Nat → Nat} {imgs : va_W} {room : Nat → Int32} {work : Nat → Int32} {price : Nat → Int32} {whom : Nat → Int32} {bday : Nat → Int32} {units : Nat → Int32} {worth : Nat → Int32} {due : Nat → Int32} {under : Nat → Int32} {people : Int32} {askings : Int32} {hangs : Int32} {items : Int32} {many : Nat → Int32} {slip : Nat → Nat → Int32} {became : Nat → Int32} {left : Nat → Int32} {what : Nat → Int32} {which : Nat → Int32} {whose : Nat → Int32} {place : Nat → Int32} {deeds : Int32} {day : Int32} {won : Int32} {lost : Int32} {kept : Int32} {text : Nat → Int32} {typed : Int32} {rest : Nat → Int32} {bestSet : Int32} {tenths : Nat → Int32} {sortWorth : Nat → Int32} {sortDays : Nat → Int32} {row : Nat → Int32} {trace : Int64} {q_ : Nat} {r : Int32} (hq : q_ < 4) (hf : x_firstOf under askings many slip became q_ = some r) : MI l yX0_firstOf (ws_ yX0_firstOf cX0_firstOf 3 (some .int)) { frames := 1, cells := 0, slots := 0, locals := 23 } D gcl (gty d) NX (xw d ad ba ta imgs room work price whom bday units worth due under people askings hangs items many slip became left what which whose place deeds day won lost kept text typed rest bestSet tenths sortWorth sortDays row trace) (xw d ad ba ta imgs room work price whom bday units worth due under people askings hangs items many slip became left what which whose place deeds day won lost kept text typed rest bestSet tenths sortWorth sortDays row trace) sz [.ref (ad 0), .ref (ta (2 + q_))] r :=
  MI.of (by decide) [.ref (ad 0), .ref (ta (2 + q_))] [(0, .ref (ad 0)), (1, .ref (ta (2 + q_)))] (Nat.le_of_ble_eq_true rfl) rfl (fun p e s m below meth c ls Q hx hb hml hown hts hN hA hC hl K => w_x_firstOf hx hb hml hown hts hN hq hA (Nat.le_refl _) (Nat.le_refl _) (Nat.le_refl _) (Nat.le_refl _) hf hC hl K)

def x_works_L15 (x1 : Int32) (work : Nat → Int32) (worth : Nat → Int32) (under : Nat → Int32) (askings : Int32) : Nat → Int32 → Int32 → (Nat → Int32) → (Nat → Nat → Int32) → (Nat → Int32) → (Nat → Int32) → Int32 → Option (Int32 × (Nat → Int32) × (Nat → Nat → Int32) × (Nat → Int32) × (Nat → Int32) × Int32)
  | 0, _, _, _, _, _, _, _ => none
  | n_15 + 1, x3_15, x4_15, many_15, slip_15, became_15, left_15, won_15 =>
  ck x1 4 <| if (work x1.toNatClampNeg) ≤ x4_15 then (some (x3_15, many_15, slip_15, became_15, left_15, won_15)) else
  bnd (x_firstOf under askings many_15 slip_15 became_15 x1.toNatClampNeg) fun r_31 =>
  if r_31 = (-9) then (x_works_L15 x1 work worth under askings n_15 x3_15 (x4_15 + 1) many_15 slip_15 became_15 left_15 won_15) else
  ck r_31 5 <| ck (slip_15 x1.toNatClampNeg r_31.toNatClampNeg) 8 <| ck (slip_15 x1.toNatClampNeg r_31.toNatClampNeg) 8 <| ck (slip_15 x1.toNatClampNeg r_31.toNatClampNeg) 8 <| if ((upd left_15 (slip_15 x1.toNatClampNeg r_31.toNatClampNeg).toNatClampNeg ((left_15 (slip_15 x1.toNatClampNeg r_31.toNatClampNeg).toNatClampNeg) - 1)) (slip_15 x1.toNatClampNeg r_31.toNatClampNeg).toNatClampNeg) = 0 then (ck (slip_15 x1.toNatClampNeg r_31.toNatClampNeg) 8 <| ck (slip_15 x1.toNatClampNeg r_31.toNatClampNeg) 8 <| bnd2 (x_unpin (slip_15 x1.toNatClampNeg) (many_15 x1.toNatClampNeg) r_31) fun sl_115 mn_115 =>
  x_works_L15 x1 work worth under askings n_15 (x3_15 + 1) (x4_15 + 1) (upd many_15 x1.toNatClampNeg mn_115) (va_up slip_15 x1.toNatClampNeg sl_115) (upd became_15 (slip_15 x1.toNatClampNeg r_31.toNatClampNeg).toNatClampNeg 2) (upd left_15 (slip_15 x1.toNatClampNeg r_31.toNatClampNeg).toNatClampNeg ((left_15 (slip_15 x1.toNatClampNeg r_31.toNatClampNeg).toNatClampNeg) - 1)) (won_15 + (worth (slip_15 x1.toNatClampNeg r_31.toNatClampNeg).toNatClampNeg))) else
  x_works_L15 x1 work worth under askings n_15 x3_15 (x4_15 + 1) many_15 slip_15 became_15 (upd left_15 (slip_15 x1.toNatClampNeg r_31.toNatClampNeg).toNatClampNeg ((left_15 (slip_15 x1.toNatClampNeg r_31.toNatClampNeg).toNatClampNeg) - 1)) won_15
theorem x_works_L15_s (x1 : Int32) (work : Nat → Int32) (worth : Nat → Int32) (under : Nat → Int32) (askings : Int32) (n_15 : Nat) (x3_15 : Int32) (x4_15 : Int32) (many_15 : Nat → Int32) (slip_15 : Nat → Nat → Int32) (became_15 : Nat → Int32) (left_15 : Nat → Int32) (won_15 : Int32) : x_works_L15 x1 work worth under askings (n_15 + 1) x3_15 x4_15 many_15 slip_15 became_15 left_15 won_15 = (
  ck x1 4 <| if (work x1.toNatClampNeg) ≤ x4_15 then (some (x3_15, many_15, slip_15, became_15, left_15, won_15)) else
  bnd (x_firstOf under askings many_15 slip_15 became_15 x1.toNatClampNeg) fun r_31 =>
  if r_31 = (-9) then (x_works_L15 x1 work worth under askings n_15 x3_15 (x4_15 + 1) many_15 slip_15 became_15 left_15 won_15) else
  ck r_31 5 <| ck (slip_15 x1.toNatClampNeg r_31.toNatClampNeg) 8 <| ck (slip_15 x1.toNatClampNeg r_31.toNatClampNeg) 8 <| ck (slip_15 x1.toNatClampNeg r_31.toNatClampNeg) 8 <| if ((upd left_15 (slip_15 x1.toNatClampNeg r_31.toNatClampNeg).toNatClampNeg ((left_15 (slip_15 x1.toNatClampNeg r_31.toNatClampNeg).toNatClampNeg) - 1)) (slip_15 x1.toNatClampNeg r_31.toNatClampNeg).toNatClampNeg) = 0 then (ck (slip_15 x1.toNatClampNeg r_31.toNatClampNeg) 8 <| ck (slip_15 x1.toNatClampNeg r_31.toNatClampNeg) 8 <| bnd2 (x_unpin (slip_15 x1.toNatClampNeg) (many_15 x1.toNatClampNeg) r_31) fun sl_115 mn_115 =>
  x_works_L15 x1 work worth under askings n_15 (x3_15 + 1) (x4_15 + 1) (upd many_15 x1.toNatClampNeg mn_115) (va_up slip_15 x1.toNatClampNeg sl_115) (upd became_15 (slip_15 x1.toNatClampNeg r_31.toNatClampNeg).toNatClampNeg 2) (upd left_15 (slip_15 x1.toNatClampNeg r_31.toNatClampNeg).toNatClampNeg ((left_15 (slip_15 x1.toNatClampNeg r_31.toNatClampNeg).toNatClampNeg) - 1)) (won_15 + (worth (slip_15 x1.toNatClampNeg r_31.toNatClampNeg).toNatClampNeg))) else
  x_works_L15 x1 work worth under askings n_15 x3_15 (x4_15 + 1) many_15 slip_15 became_15 (upd left_15 (slip_15 x1.toNatClampNeg r_31.toNatClampNeg).toNatClampNeg ((left_15 (slip_15 x1.toNatClampNeg r_31.toNatClampNeg).toNatClampNeg) - 1)) won_15) := rfl
def x_works (work : Nat → Int32) (worth : Nat → Int32) (under : Nat → Int32) (askings : Int32) (many : Nat → Int32) (slip : Nat → Nat → Int32) (became : Nat → Int32) (left : Nat → Int32) (won : Int32) (x1 : Int32) : Option (Int32 × (Nat → Int32) × (Nat → Nat → Int32) × (Nat → Int32) × (Nat → Int32) × Int32) :=
  ck x1 4 <| bnd6 (x_works_L15 x1 work worth under askings g_fuel 0 0 many slip became left won) (fun x3_127 many_127 slip_127 became_127 left_127 won_127 =>
  some (x3_127, many_127, slip_127, became_127, left_127, won_127))
set_option maxHeartbeats 4000000 in
set_option maxRecDepth 100000 in
theorem w_x_works {p : Program} {l : Launch} {e : Env} {R : Room} {s : State} {m : MethodId} {args : Array Value} {below : List Frame} {meth : Method} {c : Code} {H : Heap} {locs : List Loc} {cells slots : Nat} {Q : State → Prop} {A : Nat → Prop} {ls : Array Slot} {D : va_G} {d : Nat → ClassId} {ad : Nat → Nat} {ba : Nat → Nat} {ta : Nat → Nat} {imgs : va_W} {room : Nat → Int32} {work : Nat → Int32} {price : Nat → Int32} {whom : Nat → Int32} {bday : Nat → Int32} {units : Nat → Int32} {worth : Nat → Int32} {due : Nat → Int32} {under : Nat → Int32} {people : Int32} {askings : Int32} {hangs : Int32} {items : Int32} {many : Nat → Int32} {slip : Nat → Nat → Int32} {became : Nat → Int32} {left : Nat → Int32} {what : Nat → Int32} {which : Nat → Int32} {whose : Nat → Int32} {place : Nat → Int32} {deeds : Int32} {day : Int32} {won : Int32} {lost : Int32} {kept : Int32} {text : Nat → Int32} {typed : Int32} {rest : Nat → Int32} {bestSet : Int32} {tenths : Nat → Int32} {sortWorth : Nat → Int32} {sortDays : Nat → Int32} {row : Nat → Int32} {trace : Int64} {x1 : Int32} {r : Int32} {many_r : Nat → Int32} {slip_r : Nat → Nat → Int32} {became_r : Nat → Int32} {left_r : Nat → Int32} {won_r : Int32} (hx : p.tables.exec = Jvm.exec) (hb : c.code = cX0_works) (hml : c.maxLocals = 7) (hown : s.vm.findClass RX0 = some m.cls) (hts : ∀ w ∈ lw_all, w.before args s = true) (hN : NX s) (hA : ∀ q, s.heap.size ≤ q → A q) (hRf : 2 ≤ R.frames) (hRl : 45 ≤ R.locals) (hRc : cells ≤ R.cells) (hRs : slots ≤ R.slots) (hf : x_works work worth under askings many slip became left won x1 = some (r, many_r, slip_r, became_r, left_r, won_r)) (hC : HC D gcl (gty d) A (xw d ad ba ta imgs room work price whom bday units worth due under people askings hangs items many slip became left what which whose place deeds day won lost kept text typed rest bestSet tenths sortWorth sortDays row trace) s H locs) (hl : lv_has ls 7 [(0, .ref (ad 0)), (1, .int x1)]) (K : ∀ (H : Heap) (locs : List Loc) (ls : Array Slot) (pc : Nat), narrow .int (.int r) = .int r → HC D gcl (gty d) A (xw d ad ba ta imgs room work price whom bday units worth due under people askings hangs items many_r slip_r became_r left_r what which whose place deeds day won_r lost kept text typed rest bestSet tenths sortWorth sortDays row trace) s H locs → decode cX0_works pc = .ok (.ireturn, 1) → W p l e R s m args below meth c H locs cells slots Q (F0 m pc ls [.int r])) : W p l e R s m args below meth c H locs cells slots Q (F0 m 0 ls []) := by
  unfold x_works at hf
  refine lv_aload_n hx hb dX0_works_0 rfl (lv_at hl 0 rfl) ?_
  refine va_get (ci := 0) (v := .ref (ta 0)) (C := RX0) (T := TX0) (N := 13) hx hb hts in_X0 hown hC.1 hC.2.1 (26) rfl rfl 1 (by decide) (hts _ q305) (fun _ h9 => h9) rfl dX0_works_1 ?_
  refine va_getN (ci := 2) (v := .ref (ta 1)) (C := RX2) (T := TX2) (N := 12) (host := "SleeveSlips") hx hb hts in_X2 hown hC.1 hC.2.1 (10) rfl rfl 0 (by decide) (va_Nw.use rfl (hN.1 33)) (fun _ h9 => h9) rfl dX0_works_4 ?_
  refine lv_iload_n hx hb dX0_works_7 rfl (lv_at hl 1 rfl) ?_
  obtain ⟨hi_8, hf⟩ := ck_some hf
  refine va_aldq hx hb hC.1 hC.2.1 11 4 rfl rfl hi_8 dX0_works_8 ?_
  refine lv_astore_n (lv' := [(2, .ref (ta (2 + x1.toNatClampNeg))), (0, .ref (ad 0)), (1, .int x1)]) hx hb dX0_works_9 rfl hl (by decide) rfl (fun ls hl => ?_)
  refine lv_iconst (v := 0) hx hb dX0_works_10 (by decide) ?_
  refine lv_istore_n (lv' := [(3, .int 0), (2, .ref (ta (2 + x1.toNatClampNeg))), (0, .ref (ad 0)), (1, .int x1)]) hx hb dX0_works_11 rfl hl (by decide) rfl (fun ls hl => ?_)
  refine lv_iconst (v := 0) hx hb dX0_works_12 (by decide) ?_
  refine lv_istore (lv' := [(4, .int 0), (3, .int 0), (2, .ref (ta (2 + x1.toNatClampNeg))), (0, .ref (ad 0)), (1, .int x1)]) hx hb dX0_works_13 hl (by decide) rfl (fun ls hl => ?_)
  obtain ⟨x3_127, many_127, slip_127, became_127, left_127, won_127, hL, hf⟩ := bnd6_some hf
  have X_15 : ∀ (H : Heap) (locs : List Loc) (ls : Array Slot), HC D gcl (gty d) A (xw d ad ba ta imgs room work price whom bday units worth due under people askings hangs items many_127 slip_127 became_127 left_127 what which whose place deeds day won_127 lost kept text typed rest bestSet tenths sortWorth sortDays row trace) s H locs → lv_has ls 7 [(3, .int x3_127)] → W p l e R s m args below meth c H locs cells slots Q (F0 m 127 ls []) := by
    intro H locs ls hC hl
    refine lv_iload_n hx hb dX0_works_127 rfl (lv_at hl 0 rfl) ?_
    obtain ⟨e_1, e_2, e_3, e_4, e_5, e_6⟩ := so_6 (Option.some.inj hf)
    subst e_1
    subst e_2
    subst e_3
    subst e_4
    subst e_5
    subst e_6
    exact K H locs ls _ rfl hC dX0_works_128
  have L_15 : ∀ (n_15 : Nat) (x3_15 : Int32) (x4_15 : Int32) (many_15 : Nat → Int32) (slip_15 : Nat → Nat → Int32) (became_15 : Nat → Int32) (left_15 : Nat → Int32) (won_15 : Int32), x_works_L15 x1 work worth under askings n_15 x3_15 x4_15 many_15 slip_15 became_15 left_15 won_15 = some (x3_127, many_127, slip_127, became_127, left_127, won_127) → ∀ (H : Heap) (locs : List Loc) (ls : Array Slot), HC D gcl (gty d) A (xw d ad ba ta imgs room work price whom bday units worth due under people askings hangs items many_15 slip_15 became_15 left_15 what which whose place deeds day won_15 lost kept text typed rest bestSet tenths sortWorth sortDays row trace) s H locs → lv_has ls 7 [(0, .ref (ad 0)), (1, .int x1), (2, .ref (ta (2 + x1.toNatClampNeg))), (3, .int x3_15), (4, .int x4_15)] → W p l e R s m args below meth c H locs cells slots Q (F0 m 15 ls []) := by
    intro n_15
    induction n_15 with
    | zero => intro _ _ _ _ _ _ _ hf; cases hf
    | succ n_15 ih =>
      intro x3_15 x4_15 many_15 slip_15 became_15 left_15 won_15 hf H locs ls hC hl
      rw [x_works_L15_s] at hf
      refine lv_iload hx hb dX0_works_15 (lv_at hl 4 rfl) ?_
      refine lv_aload_n hx hb dX0_works_17 rfl (lv_at hl 0 rfl) ?_
      refine va_get (ci := 0) (v := .ref (ba 0)) (C := RX0) (T := TX0) (N := 13) hx hb hts in_X0 hown hC.1 hC.2.1 (26) rfl rfl 0 (by decide) (hts _ q302) (fun _ h9 => h9) rfl dX0_works_18 ?_
      refine va_getN (ci := 1) (v := .ref (ba 2)) (C := RX1) (T := TX1) (N := 13) (host := "SleeveSlips") hx hb hts in_X1 hown hC.1 hC.2.1 (0) rfl rfl 1 (by decide) (va_Nw.use rfl (hN.1 5)) (fun _ h9 => h9) rfl dX0_works_21 ?_
      refine lv_iload_n hx hb dX0_works_24 rfl (lv_at hl 1 rfl) ?_
      obtain ⟨hi_25, hf⟩ := ck_some hf
      refine va_iald hx hb hC.1 hC.2.1 (2) 0 rfl rfl hi_25 dX0_works_25 ?_
      refine lv_icmp_ge (tgt := 127) hx hb dX0_works_26 (by decide) (fun c_26 => ?_) (fun c_26 => ?_)
      · have hf := if_t hf c_26
        obtain ⟨e_1, e_2, e_3, e_4, e_5, e_6⟩ := so_6 (Option.some.inj hf)
        subst e_1
        subst e_2
        subst e_3
        subst e_4
        subst e_5
        subst e_6
        exact X_15 H locs ls hC (lv_sub hl [3] rfl)
      · have hf := if_f hf c_26
        refine lv_aload_n hx hb dX0_works_29 rfl (lv_at hl 0 rfl) ?_
        refine lv_aload_n hx hb dX0_works_30 rfl (lv_at hl 2 rfl) ?_
        obtain ⟨r_31, hcall, hf⟩ := bnd_some hf
        refine hc_i (va_runV (C := RX0) (As := [.ref (ta (2 + x1.toNatClampNeg))]) (rest := []) ⟨hx, hb, hml, hown, hts⟩ (c_x_firstOf (vp_lt hi_8) hcall) (cwV 1 hts (lw_V q638 q640 qs13 q48 q641) rfl rfl rfl (by decide +kernel) ⟨(Nat.le_trans (Nat.le_of_ble_eq_true rfl) hRf), (Nat.le_trans (Nat.le_of_ble_eq_true rfl) hRl)⟩) (pre_V (q0 := 26) (ci := 0) NX.calling (fun U _ hW => NX.warm hW hN) hC rfl rfl) rfl rfl hl.1 rfl (lv_room (Nat.le_of_ble_eq_true rfl)) dX0_works_31 ⟨hRc, hRs⟩) hA hC (fun H locs hC => ?_)
        refine lv_istore (lv' := [(5, .int r_31), (0, .ref (ad 0)), (1, .int x1), (2, .ref (ta (2 + x1.toNatClampNeg))), (3, .int x3_15), (4, .int x4_15)]) hx hb dX0_works_34 hl (by decide) rfl (fun ls hl => ?_)
        refine lv_iload hx hb dX0_works_36 (lv_at hl 0 rfl) ?_
        refine lv_bipush (v := (-9)) hx hb dX0_works_38 (by decide) ?_
        refine lv_icmp_eq (tgt := 121) hx hb dX0_works_40 (by decide) (fun c_40 => ?_) (fun c_40 => ?_)
        · have hf := if_t hf c_40
          refine lv_iinc (v := x4_15 + 1) (lv' := [(4, .int (x4_15 + 1)), (5, .int r_31), (0, .ref (ad 0)), (1, .int x1), (2, .ref (ta (2 + x1.toNatClampNeg))), (3, .int x3_15)]) hx hb dX0_works_121 hl (k := 5) rfl rfl (by decide) rfl (fun ls hl => ?_)
          refine lv_goto (tgt := 15) hx hb dX0_works_124 (by decide) ?_
          exact ih _ _ _ _ _ _ _ hf H locs ls hC (lv_sub hl [2, 3, 4, 5, 0] rfl)
        · have hf := if_f hf c_40
          refine lv_aload_n hx hb dX0_works_43 rfl (lv_at hl 3 rfl) ?_
          refine va_getN (ci := 3) (v := .ref (ta (6 + x1.toNatClampNeg))) (C := RX3) (T := TX3) (N := 2) (host := "SleeveSlips") hx hb hts in_X3 hown hC.1 hC.2.1 (12 + x1.toNatClampNeg) (xw_sl (vp_lt hi_8)) rfl 0 (by decide) (va_Nw.use rfl (hN.1 28)) (fun _ h9 => h9) rfl dX0_works_44 ?_
          refine lv_iload hx hb dX0_works_47 (lv_at hl 0 rfl) ?_
          obtain ⟨hi_49, hf⟩ := ck_some hf
          refine va_iald hx hb hC.1 hC.2.1 (16 + x1.toNatClampNeg) 0 (xw_sp (vp_lt hi_8)) rfl hi_49 dX0_works_49 ?_
          refine lv_istore (lv' := [(6, .int (slip_15 x1.toNatClampNeg r_31.toNatClampNeg)), (5, .int r_31), (0, .ref (ad 0)), (1, .int x1), (2, .ref (ta (2 + x1.toNatClampNeg))), (3, .int x3_15), (4, .int x4_15)]) hx hb dX0_works_50 hl (by decide) rfl (fun ls hl => ?_)
          refine lv_aload_n hx hb dX0_works_52 rfl (lv_at hl 2 rfl) ?_
          refine va_get (ci := 0) (v := .ref (ta 0)) (C := RX0) (T := TX0) (N := 13) hx hb hts in_X0 hown hC.1 hC.2.1 (26) rfl rfl 1 (by decide) (hts _ q305) (fun _ h9 => h9) rfl dX0_works_53 ?_
          refine va_getN (ci := 2) (v := .ref (ta 11)) (C := RX2) (T := TX2) (N := 12) (host := "SleeveSlips") hx hb hts in_X2 hown hC.1 hC.2.1 (10) rfl rfl 2 (by decide) (va_Nw.use rfl (hN.1 35)) (fun _ h9 => h9) rfl dX0_works_56 ?_
          refine lv_iload hx hb dX0_works_59 (lv_at hl 0 rfl) ?_
          refine lv_dup2_11 hx hb dX0_works_61 rfl rfl ?_
          obtain ⟨hi_62, hf⟩ := ck_some hf
          refine va_iald hx hb hC.1 hC.2.1 (21) 0 rfl rfl hi_62 dX0_works_62 ?_
          refine lv_iconst (v := 1) hx hb dX0_works_63 (by decide) ?_
          refine lv_isub hx hb dX0_works_64 ?_
          obtain ⟨hi_65, hf⟩ := ck_some hf
          refine va_iast hx hb hC.1 hC.2.1 hC.2.2.1 hC.2.2.2 (21) 0 rfl rfl hi_65 dX0_works_65 (fun H locs hP hD hS => ?_)
          have hC : HC D gcl (gty d) A (xw d ad ba ta imgs room work price whom bday units worth due under people askings hangs items many_15 slip_15 became_15 (upd left_15 (slip_15 x1.toNatClampNeg r_31.toNatClampNeg).toNatClampNeg ((left_15 (slip_15 x1.toNatClampNeg r_31.toNatClampNeg).toNatClampNeg) - 1)) what which whose place deeds day won_15 lost kept text typed rest bestSet tenths sortWorth sortDays row trace) s H locs := ⟨hC.1, hP, hD, hS⟩
          refine lv_aload_n hx hb dX0_works_66 rfl (lv_at hl 2 rfl) ?_
          refine va_get (ci := 0) (v := .ref (ta 0)) (C := RX0) (T := TX0) (N := 13) hx hb hts in_X0 hown hC.1 hC.2.1 (26) rfl rfl 1 (by decide) (hts _ q305) (fun _ h9 => h9) rfl dX0_works_67 ?_
          refine va_getN (ci := 2) (v := .ref (ta 11)) (C := RX2) (T := TX2) (N := 12) (host := "SleeveSlips") hx hb hts in_X2 hown hC.1 hC.2.1 (10) rfl rfl 2 (by decide) (va_Nw.use rfl (hN.1 35)) (fun _ h9 => h9) rfl dX0_works_70 ?_
          refine lv_iload hx hb dX0_works_73 (lv_at hl 0 rfl) ?_
          obtain ⟨hi_75, hf⟩ := ck_some hf
          refine va_iald hx hb hC.1 hC.2.1 (21) 0 rfl rfl hi_75 dX0_works_75 ?_
          refine lv_if_ne (tgt := 121) hx hb dX0_works_76 (by decide) (fun c_76 => ?_) (fun c_76 => ?_)
          · have hf := if_f hf c_76
            refine lv_iinc (v := x4_15 + 1) (lv' := [(4, .int (x4_15 + 1)), (6, .int (slip_15 x1.toNatClampNeg r_31.toNatClampNeg)), (5, .int r_31), (0, .ref (ad 0)), (1, .int x1), (2, .ref (ta (2 + x1.toNatClampNeg))), (3, .int x3_15)]) hx hb dX0_works_121 hl (k := 6) rfl rfl (by decide) rfl (fun ls hl => ?_)
            refine lv_goto (tgt := 15) hx hb dX0_works_124 (by decide) ?_
            exact ih _ _ _ _ _ _ _ hf H locs ls hC (lv_sub hl [3, 4, 5, 6, 0] rfl)
          · have hf := if_t hf c_76
            refine lv_aload_n hx hb dX0_works_79 rfl (lv_at hl 2 rfl) ?_
            refine va_get (ci := 0) (v := .ref (ta 0)) (C := RX0) (T := TX0) (N := 13) hx hb hts in_X0 hown hC.1 hC.2.1 (26) rfl rfl 1 (by decide) (hts _ q305) (fun _ h9 => h9) rfl dX0_works_80 ?_
            refine va_getN (ci := 2) (v := .ref (ta 10)) (C := RX2) (T := TX2) (N := 12) (host := "SleeveSlips") hx hb hts in_X2 hown hC.1 hC.2.1 (10) rfl rfl 1 (by decide) (va_Nw.use rfl (hN.1 34)) (fun _ h9 => h9) rfl dX0_works_83 ?_
            refine lv_iload hx hb dX0_works_86 (lv_at hl 0 rfl) ?_
            refine lv_iconst (v := 2) hx hb dX0_works_88 (by decide) ?_
            obtain ⟨hi_89, hf⟩ := ck_some hf
            refine va_iast hx hb hC.1 hC.2.1 hC.2.2.1 hC.2.2.2 (20) 0 rfl rfl hi_89 dX0_works_89 (fun H locs hP hD hS => ?_)
            have hC : HC D gcl (gty d) A (xw d ad ba ta imgs room work price whom bday units worth due under people askings hangs items many_15 slip_15 (upd became_15 (slip_15 x1.toNatClampNeg r_31.toNatClampNeg).toNatClampNeg 2) (upd left_15 (slip_15 x1.toNatClampNeg r_31.toNatClampNeg).toNatClampNeg ((left_15 (slip_15 x1.toNatClampNeg r_31.toNatClampNeg).toNatClampNeg) - 1)) what which whose place deeds day won_15 lost kept text typed rest bestSet tenths sortWorth sortDays row trace) s H locs := ⟨hC.1, hP, hD, hS⟩
            refine lv_aload_n hx hb dX0_works_90 rfl (lv_at hl 2 rfl) ?_
            refine va_get (ci := 0) (v := .ref (ta 0)) (C := RX0) (T := TX0) (N := 13) hx hb hts in_X0 hown hC.1 hC.2.1 (26) rfl rfl 1 (by decide) (hts _ q305) (fun _ h9 => h9) rfl dX0_works_91 ?_
            refine lv_dup hx hb dX0_works_94 rfl ?_
            refine va_getN (ci := 2) (v := .int won_15) (C := RX2) (T := TX2) (N := 12) (host := "SleeveSlips") hx hb hts in_X2 hown hC.1 hC.2.1 (10) rfl rfl 9 (by decide) (va_Nw.use rfl (hN.1 43)) (fun _ h9 => h9) rfl dX0_works_95 ?_
            refine lv_aload_n hx hb dX0_works_98 rfl (lv_at hl 2 rfl) ?_
            refine va_get (ci := 0) (v := .ref (ba 0)) (C := RX0) (T := TX0) (N := 13) hx hb hts in_X0 hown hC.1 hC.2.1 (26) rfl rfl 0 (by decide) (hts _ q302) (fun _ h9 => h9) rfl dX0_works_99 ?_
            refine va_getN (ci := 1) (v := .ref (ba 7)) (C := RX1) (T := TX1) (N := 13) (host := "SleeveSlips") hx hb hts in_X1 hown hC.1 hC.2.1 (0) rfl rfl 6 (by decide) (va_Nw.use rfl (hN.1 15)) (fun _ h9 => h9) rfl dX0_works_102 ?_
            refine lv_iload hx hb dX0_works_105 (lv_at hl 0 rfl) ?_
            obtain ⟨hi_107, hf⟩ := ck_some hf
            refine va_iald hx hb hC.1 hC.2.1 (7) 0 rfl rfl hi_107 dX0_works_107 ?_
            refine lv_iadd hx hb dX0_works_108 ?_
            refine va_putN (ci := 2) (v := .int (won_15 + (worth (slip_15 x1.toNatClampNeg r_31.toNatClampNeg).toNatClampNeg))) (ty := .int) (C := RX2) (T := TX2) (N := 12) (host := "SleeveSlips") hx hb hts in_X2 tyX2 tyX2_ok nmX2 hown hC.1 hC.2.1 hC.2.2.1 hC.2.2.2 (10) rfl rfl 9 (by decide) (va_Nw.use rfl (hN.1 43)) (fun _ h9 => h9) rfl (tyX2_ok 9 (by decide)) rfl rfl (Nat.le_of_ble_eq_true rfl) dX0_works_109 (fun H locs hP hD hS => ?_)
            have hC : HC D gcl (gty d) A (xw d ad ba ta imgs room work price whom bday units worth due under people askings hangs items many_15 slip_15 (upd became_15 (slip_15 x1.toNatClampNeg r_31.toNatClampNeg).toNatClampNeg 2) (upd left_15 (slip_15 x1.toNatClampNeg r_31.toNatClampNeg).toNatClampNeg ((left_15 (slip_15 x1.toNatClampNeg r_31.toNatClampNeg).toNatClampNeg) - 1)) what which whose place deeds day (won_15 + (worth (slip_15 x1.toNatClampNeg r_31.toNatClampNeg).toNatClampNeg)) lost kept text typed rest bestSet tenths sortWorth sortDays row trace) s H locs := ⟨hC.1, hP, hD, hS⟩
            refine lv_aload_n hx hb dX0_works_112 rfl (lv_at hl 4 rfl) ?_
            refine lv_iload hx hb dX0_works_113 (lv_at hl 1 rfl) ?_
            obtain ⟨sl_115, mn_115, hcall, hf⟩ := bnd2_some hf
            refine hs_v (va_runV (C := RX3) (As := [.int r_31]) (rest := []) ⟨hx, hb, hml, hown, hts⟩ (c_x_unpin_ (vp_lt hi_8) hcall) (cwV 1 hts (lw_V q628 q613 q614 q51 q615) rfl rfl rfl (by decide +kernel) ⟨(Nat.le_trans (Nat.le_of_ble_eq_true rfl) hRf), (Nat.le_trans (Nat.le_of_ble_eq_true rfl) hRl)⟩) (pre_VG (q0 := 2 + x1.toNatClampNeg) (ci := 3) NX.calling (fun U _ hW => NX.warm hW hN) hC [0, 1, 2, 3, 4, 5, 6] rfl rfl (tw_sl (vp_lt hi_8))) rfl rfl hl.1 rfl (lv_room (Nat.le_of_ble_eq_true rfl)) dX0_works_115 ⟨hRc, hRs⟩) hA hC (fun H locs hC => ?_)
            have hC : HC D gcl (gty d) A (xw d ad ba ta imgs room work price whom bday units worth due under people askings hangs items (upd many_15 x1.toNatClampNeg mn_115) (va_up slip_15 x1.toNatClampNeg sl_115) (upd became_15 (slip_15 x1.toNatClampNeg r_31.toNatClampNeg).toNatClampNeg 2) (upd left_15 (slip_15 x1.toNatClampNeg r_31.toNatClampNeg).toNatClampNeg ((left_15 (slip_15 x1.toNatClampNeg r_31.toNatClampNeg).toNatClampNeg) - 1)) what which whose place deeds day (won_15 + (worth (slip_15 x1.toNatClampNeg r_31.toNatClampNeg).toNatClampNeg)) lost kept text typed rest bestSet tenths sortWorth sortDays row trace) s H locs := hC
            refine lv_iinc (v := x3_15 + 1) (lv' := [(3, .int (x3_15 + 1)), (6, .int (slip_15 x1.toNatClampNeg r_31.toNatClampNeg)), (5, .int r_31), (0, .ref (ad 0)), (1, .int x1), (2, .ref (ta (2 + x1.toNatClampNeg))), (4, .int x4_15)]) hx hb dX0_works_118 hl (k := 5) rfl rfl (by decide) rfl (fun ls hl => ?_)
            refine lv_iinc (v := x4_15 + 1) (lv' := [(4, .int (x4_15 + 1)), (3, .int (x3_15 + 1)), (6, .int (slip_15 x1.toNatClampNeg r_31.toNatClampNeg)), (5, .int r_31), (0, .ref (ad 0)), (1, .int x1), (2, .ref (ta (2 + x1.toNatClampNeg)))]) hx hb dX0_works_121 hl (k := 6) rfl rfl (by decide) rfl (fun ls hl => ?_)
            refine lv_goto (tgt := 15) hx hb dX0_works_124 (by decide) ?_
            exact ih _ _ _ _ _ _ _ hf H locs ls hC (lv_sub hl [4, 5, 6, 1, 0] rfl)
  exact L_15 _ _ _ _ _ _ _ _ hL H locs ls hC (lv_sub hl [3, 4, 2, 1, 0] rfl)
set_option maxRecDepth 100000 in
theorem c_x_works {l : Launch} {sz : Nat} {D : va_G} {d : Nat → ClassId} {ad : Nat → Nat} {ba : Nat → Nat} {ta : Nat → Nat} {imgs : va_W} {room : Nat → Int32} {work : Nat → Int32} {price : Nat → Int32} {whom : Nat → Int32} {bday : Nat → Int32} {units : Nat → Int32} {worth : Nat → Int32} {due : Nat → Int32} {under : Nat → Int32} {people : Int32} {askings : Int32} {hangs : Int32} {items : Int32} {many : Nat → Int32} {slip : Nat → Nat → Int32} {became : Nat → Int32} {left : Nat → Int32} {what : Nat → Int32} {which : Nat → Int32} {whose : Nat → Int32} {place : Nat → Int32} {deeds : Int32} {day : Int32} {won : Int32} {lost : Int32} {kept : Int32} {text : Nat → Int32} {typed : Int32} {rest : Nat → Int32} {bestSet : Int32} {tenths : Nat → Int32} {sortWorth : Nat → Int32} {sortDays : Nat → Int32} {row : Nat → Int32} {trace : Int64} {x1 : Int32} {r : Int32} {many_r : Nat → Int32} {slip_r : Nat → Nat → Int32} {became_r : Nat → Int32} {left_r : Nat → Int32} {won_r : Int32} (hf : x_works work worth under askings many slip became left won x1 = some (r, many_r, slip_r, became_r, left_r, won_r)) : MI l yX0_works (ws_ yX0_works cX0_works 7 (some .int)) { frames := 2, cells := 0, slots := 0, locals := 45 } D gcl (gty d) NX (xw d ad ba ta imgs room work price whom bday units worth due under people askings hangs items many slip became left what which whose place deeds day won lost kept text typed rest bestSet tenths sortWorth sortDays row trace) (xw d ad ba ta imgs room work price whom bday units worth due under people askings hangs items many_r slip_r became_r left_r what which whose place deeds day won_r lost kept text typed rest bestSet tenths sortWorth sortDays row trace) sz [.ref (ad 0), .int x1] r :=
  MI.of (by decide) [.ref (ad 0), .int x1] [(0, .ref (ad 0)), (1, .int x1)] (Nat.le_of_ble_eq_true rfl) rfl (fun p e s m below meth c ls Q hx hb hml hown hts hN hA hC hl K => w_x_works hx hb hml hown hts hN hA (Nat.le_refl _) (Nat.le_refl _) (Nat.le_refl _) (Nat.le_refl _) hf hC hl K)

def x_day_L19 (work : Nat → Int32) (worth : Nat → Int32) (under : Nat → Int32) (people : Int32) (askings : Int32) : Nat → Int32 → Int32 → (Nat → Int32) → (Nat → Nat → Int32) → (Nat → Int32) → (Nat → Int32) → Int32 → Option (Int32 × (Nat → Int32) × (Nat → Nat → Int32) × (Nat → Int32) × (Nat → Int32) × Int32)
  | 0, _, _, _, _, _, _, _ => none
  | n_19 + 1, x1_19, x2_19, many_19, slip_19, became_19, left_19, won_19 =>
  if people ≤ x2_19 then (some (x1_19, many_19, slip_19, became_19, left_19, won_19)) else
  bnd6 (x_works work worth under askings many_19 slip_19 became_19 left_19 won_19 x2_19) fun r_33 many_33 slip_33 became_33 left_33 won_33 =>
  x_day_L19 work worth under people askings n_19 (x1_19 + r_33) (x2_19 + 1) many_33 slip_33 became_33 left_33 won_33
theorem x_day_L19_s (work : Nat → Int32) (worth : Nat → Int32) (under : Nat → Int32) (people : Int32) (askings : Int32) (n_19 : Nat) (x1_19 : Int32) (x2_19 : Int32) (many_19 : Nat → Int32) (slip_19 : Nat → Nat → Int32) (became_19 : Nat → Int32) (left_19 : Nat → Int32) (won_19 : Int32) : x_day_L19 work worth under people askings (n_19 + 1) x1_19 x2_19 many_19 slip_19 became_19 left_19 won_19 = (
  if people ≤ x2_19 then (some (x1_19, many_19, slip_19, became_19, left_19, won_19)) else
  bnd6 (x_works work worth under askings many_19 slip_19 became_19 left_19 won_19 x2_19) fun r_33 many_33 slip_33 became_33 left_33 won_33 =>
  x_day_L19 work worth under people askings n_19 (x1_19 + r_33) (x2_19 + 1) many_33 slip_33 became_33 left_33 won_33) := rfl
def x_day_L46 (bday : Nat → Int32) (worth : Nat → Int32) (due : Nat → Int32) (askings : Int32) (day : Int32) : Nat → Int32 → (Nat → Int32) → (Nat → Nat → Int32) → (Nat → Int32) → (Nat → Int32) → (Nat → Int32) → (Nat → Int32) → (Nat → Int32) → Int32 → Int32 → Option ((Nat → Int32) × (Nat → Nat → Int32) × (Nat → Int32) × (Nat → Int32) × (Nat → Int32) × (Nat → Int32) × (Nat → Int32) × Int32 × Int32)
  | 0, _, _, _, _, _, _, _, _, _, _ => none
  | n_46 + 1, x2_46, many_46, slip_46, became_46, what_46, which_46, whose_46, place_46, deeds_46, lost_46 =>
  if askings ≤ x2_46 then (some (many_46, slip_46, became_46, what_46, which_46, whose_46, place_46, deeds_46, lost_46)) else
  bnd (x_isPinned became_46 x2_46) fun r_59 =>
  bnd9 (if r_59 = 0 then (some (many_46, slip_46, became_46, what_46, which_46, whose_46, place_46, deeds_46, lost_46)) else
  ck x2_46 8 <| if (due x2_46.toNatClampNeg) = day then (bnd7 (x_goes many_46 slip_46 what_46 which_46 whose_46 place_46 deeds_46 2 x2_46) fun many_90 slip_90 what_90 which_90 whose_90 place_90 deeds_90 =>
  ck x2_46 8 <| ck x2_46 8 <| some (many_90, slip_90, upd became_46 x2_46.toNatClampNeg 3, what_90, which_90, whose_90, place_90, deeds_90, lost_46 + (worth x2_46.toNatClampNeg))) else
  some (many_46, slip_46, became_46, what_46, which_46, whose_46, place_46, deeds_46, lost_46)) (fun (many_124 : Nat → Int32) (slip_124 : Nat → Nat → Int32) (became_124 : Nat → Int32) (what_124 : Nat → Int32) (which_124 : Nat → Int32) (whose_124 : Nat → Int32) (place_124 : Nat → Int32) (deeds_124 : Int32) (lost_124 : Int32) =>
  ck x2_46 8 <| if (became_124 x2_46.toNatClampNeg) = 0 then (ck x2_46 8 <| if (bday x2_46.toNatClampNeg) = day then (ck x2_46 8 <| x_day_L46 bday worth due askings day n_46 (x2_46 + 1) many_124 slip_124 (upd became_124 x2_46.toNatClampNeg 3) what_124 which_124 whose_124 place_124 deeds_124 lost_124) else
  ck x2_46 8 <| ck x2_46 8 <| x_day_L46 bday worth due askings day n_46 (x2_46 + 1) many_124 slip_124 (upd became_124 x2_46.toNatClampNeg (became_124 x2_46.toNatClampNeg)) what_124 which_124 whose_124 place_124 deeds_124 lost_124) else
  ck x2_46 8 <| ck x2_46 8 <| x_day_L46 bday worth due askings day n_46 (x2_46 + 1) many_124 slip_124 (upd became_124 x2_46.toNatClampNeg (became_124 x2_46.toNatClampNeg)) what_124 which_124 whose_124 place_124 deeds_124 lost_124)
theorem x_day_L46_s (bday : Nat → Int32) (worth : Nat → Int32) (due : Nat → Int32) (askings : Int32) (day : Int32) (n_46 : Nat) (x2_46 : Int32) (many_46 : Nat → Int32) (slip_46 : Nat → Nat → Int32) (became_46 : Nat → Int32) (what_46 : Nat → Int32) (which_46 : Nat → Int32) (whose_46 : Nat → Int32) (place_46 : Nat → Int32) (deeds_46 : Int32) (lost_46 : Int32) : x_day_L46 bday worth due askings day (n_46 + 1) x2_46 many_46 slip_46 became_46 what_46 which_46 whose_46 place_46 deeds_46 lost_46 = (
  if askings ≤ x2_46 then (some (many_46, slip_46, became_46, what_46, which_46, whose_46, place_46, deeds_46, lost_46)) else
  bnd (x_isPinned became_46 x2_46) fun r_59 =>
  bnd9 (if r_59 = 0 then (some (many_46, slip_46, became_46, what_46, which_46, whose_46, place_46, deeds_46, lost_46)) else
  ck x2_46 8 <| if (due x2_46.toNatClampNeg) = day then (bnd7 (x_goes many_46 slip_46 what_46 which_46 whose_46 place_46 deeds_46 2 x2_46) fun many_90 slip_90 what_90 which_90 whose_90 place_90 deeds_90 =>
  ck x2_46 8 <| ck x2_46 8 <| some (many_90, slip_90, upd became_46 x2_46.toNatClampNeg 3, what_90, which_90, whose_90, place_90, deeds_90, lost_46 + (worth x2_46.toNatClampNeg))) else
  some (many_46, slip_46, became_46, what_46, which_46, whose_46, place_46, deeds_46, lost_46)) (fun (many_124 : Nat → Int32) (slip_124 : Nat → Nat → Int32) (became_124 : Nat → Int32) (what_124 : Nat → Int32) (which_124 : Nat → Int32) (whose_124 : Nat → Int32) (place_124 : Nat → Int32) (deeds_124 : Int32) (lost_124 : Int32) =>
  ck x2_46 8 <| if (became_124 x2_46.toNatClampNeg) = 0 then (ck x2_46 8 <| if (bday x2_46.toNatClampNeg) = day then (ck x2_46 8 <| x_day_L46 bday worth due askings day n_46 (x2_46 + 1) many_124 slip_124 (upd became_124 x2_46.toNatClampNeg 3) what_124 which_124 whose_124 place_124 deeds_124 lost_124) else
  ck x2_46 8 <| ck x2_46 8 <| x_day_L46 bday worth due askings day n_46 (x2_46 + 1) many_124 slip_124 (upd became_124 x2_46.toNatClampNeg (became_124 x2_46.toNatClampNeg)) what_124 which_124 whose_124 place_124 deeds_124 lost_124) else
  ck x2_46 8 <| ck x2_46 8 <| x_day_L46 bday worth due askings day n_46 (x2_46 + 1) many_124 slip_124 (upd became_124 x2_46.toNatClampNeg (became_124 x2_46.toNatClampNeg)) what_124 which_124 whose_124 place_124 deeds_124 lost_124)) := rfl
def x_day (work : Nat → Int32) (bday : Nat → Int32) (worth : Nat → Int32) (due : Nat → Int32) (under : Nat → Int32) (people : Int32) (askings : Int32) (many : Nat → Int32) (slip : Nat → Nat → Int32) (became : Nat → Int32) (left : Nat → Int32) (what : Nat → Int32) (which : Nat → Int32) (whose : Nat → Int32) (place : Nat → Int32) (deeds : Int32) (day : Int32) (won : Int32) (lost : Int32) : Option (Int32 × (Nat → Int32) × (Nat → Nat → Int32) × (Nat → Int32) × (Nat → Int32) × (Nat → Int32) × (Nat → Int32) × (Nat → Int32) × (Nat → Int32) × Int32 × Int32 × Int32 × Int32) :=
  if day ≤ 9 then (bnd6 (x_day_L19 work worth under people askings g_fuel 0 0 many slip became left won) (fun x1_44 many_44 slip_44 became_44 left_44 won_44 =>
  bnd9 (x_day_L46 bday worth due askings day g_fuel 0 many_44 slip_44 became_44 what which whose place deeds lost) (fun many_183 slip_183 became_183 what_183 which_183 whose_183 place_183 deeds_183 lost_183 =>
  some (x1_44, many_183, slip_183, became_183, left_44, what_183, which_183, whose_183, place_183, 0, day + 1, won_44, lost_183)))) else
  some ((-2), many, slip, became, left, what, which, whose, place, deeds, day, won, lost)
set_option maxHeartbeats 4000000 in
set_option maxRecDepth 100000 in
theorem w_x_day {p : Program} {l : Launch} {e : Env} {R : Room} {s : State} {m : MethodId} {args : Array Value} {below : List Frame} {meth : Method} {c : Code} {H : Heap} {locs : List Loc} {cells slots : Nat} {Q : State → Prop} {A : Nat → Prop} {ls : Array Slot} {D : va_G} {d : Nat → ClassId} {ad : Nat → Nat} {ba : Nat → Nat} {ta : Nat → Nat} {imgs : va_W} {room : Nat → Int32} {work : Nat → Int32} {price : Nat → Int32} {whom : Nat → Int32} {bday : Nat → Int32} {units : Nat → Int32} {worth : Nat → Int32} {due : Nat → Int32} {under : Nat → Int32} {people : Int32} {askings : Int32} {hangs : Int32} {items : Int32} {many : Nat → Int32} {slip : Nat → Nat → Int32} {became : Nat → Int32} {left : Nat → Int32} {what : Nat → Int32} {which : Nat → Int32} {whose : Nat → Int32} {place : Nat → Int32} {deeds : Int32} {day : Int32} {won : Int32} {lost : Int32} {kept : Int32} {text : Nat → Int32} {typed : Int32} {rest : Nat → Int32} {bestSet : Int32} {tenths : Nat → Int32} {sortWorth : Nat → Int32} {sortDays : Nat → Int32} {row : Nat → Int32} {trace : Int64} {r : Int32} {many_r : Nat → Int32} {slip_r : Nat → Nat → Int32} {became_r : Nat → Int32} {left_r : Nat → Int32} {what_r : Nat → Int32} {which_r : Nat → Int32} {whose_r : Nat → Int32} {place_r : Nat → Int32} {deeds_r : Int32} {day_r : Int32} {won_r : Int32} {lost_r : Int32} (hx : p.tables.exec = Jvm.exec) (hb : c.code = cX0_day) (hml : c.maxLocals = 3) (hown : s.vm.findClass RX0 = some m.cls) (hts : ∀ w ∈ lw_all, w.before args s = true) (hN : NX s) (hA : ∀ q, s.heap.size ≤ q → A q) (hRf : 3 ≤ R.frames) (hRl : 107 ≤ R.locals) (hRc : cells ≤ R.cells) (hRs : slots ≤ R.slots) (hf : x_day work bday worth due under people askings many slip became left what which whose place deeds day won lost = some (r, many_r, slip_r, became_r, left_r, what_r, which_r, whose_r, place_r, deeds_r, day_r, won_r, lost_r)) (hC : HC D gcl (gty d) A (xw d ad ba ta imgs room work price whom bday units worth due under people askings hangs items many slip became left what which whose place deeds day won lost kept text typed rest bestSet tenths sortWorth sortDays row trace) s H locs) (hl : lv_has ls 3 [(0, .ref (ad 0))]) (K : ∀ (H : Heap) (locs : List Loc) (ls : Array Slot) (pc : Nat), narrow .int (.int r) = .int r → HC D gcl (gty d) A (xw d ad ba ta imgs room work price whom bday units worth due under people askings hangs items many_r slip_r became_r left_r what_r which_r whose_r place_r deeds_r day_r won_r lost_r kept text typed rest bestSet tenths sortWorth sortDays row trace) s H locs → decode cX0_day pc = .ok (.ireturn, 1) → W p l e R s m args below meth c H locs cells slots Q (F0 m pc ls [.int r])) : W p l e R s m args below meth c H locs cells slots Q (F0 m 0 ls []) := by
  unfold x_day at hf
  refine lv_aload_n hx hb dX0_day_0 rfl (lv_at hl 0 rfl) ?_
  refine va_get (ci := 0) (v := .ref (ta 0)) (C := RX0) (T := TX0) (N := 13) hx hb hts in_X0 hown hC.1 hC.2.1 (26) rfl rfl 1 (by decide) (hts _ q305) (fun _ h9 => h9) rfl dX0_day_1 ?_
  refine va_getN (ci := 2) (v := .int day) (C := RX2) (T := TX2) (N := 12) (host := "SleeveSlips") hx hb hts in_X2 hown hC.1 hC.2.1 (10) rfl rfl 8 (by decide) (va_Nw.use rfl (hN.1 42)) (fun _ h9 => h9) rfl dX0_day_4 ?_
  refine lv_bipush (v := 9) hx hb dX0_day_7 (by decide) ?_
  refine lv_icmp_le (tgt := 15) hx hb dX0_day_9 (by decide) (fun c_9 => ?_) (fun c_9 => ?_)
  · have hf := if_t hf c_9
    refine lv_iconst (v := 0) hx hb dX0_day_15 (by decide) ?_
    refine lv_istore_n (lv' := [(1, .int 0), (0, .ref (ad 0))]) hx hb dX0_day_16 rfl hl (by decide) rfl (fun ls hl => ?_)
    refine lv_iconst (v := 0) hx hb dX0_day_17 (by decide) ?_
    refine lv_istore_n (lv' := [(2, .int 0), (1, .int 0), (0, .ref (ad 0))]) hx hb dX0_day_18 rfl hl (by decide) rfl (fun ls hl => ?_)
    obtain ⟨x1_44, many_44, slip_44, became_44, left_44, won_44, hL, hf⟩ := bnd6_some hf
    have X_19 : ∀ (H : Heap) (locs : List Loc) (ls : Array Slot), HC D gcl (gty d) A (xw d ad ba ta imgs room work price whom bday units worth due under people askings hangs items many_44 slip_44 became_44 left_44 what which whose place deeds day won_44 lost kept text typed rest bestSet tenths sortWorth sortDays row trace) s H locs → lv_has ls 3 [(0, .ref (ad 0)), (1, .int x1_44)] → W p l e R s m args below meth c H locs cells slots Q (F0 m 44 ls []) := by
      intro H locs ls hC hl
      refine lv_iconst (v := 0) hx hb dX0_day_44 (by decide) ?_
      refine lv_istore_n (lv' := [(2, .int 0), (0, .ref (ad 0)), (1, .int x1_44)]) hx hb dX0_day_45 rfl hl (by decide) rfl (fun ls hl => ?_)
      obtain ⟨many_183, slip_183, became_183, what_183, which_183, whose_183, place_183, deeds_183, lost_183, hL, hf⟩ := bnd9_some hf
      have X_46 : ∀ (H : Heap) (locs : List Loc) (ls : Array Slot), HC D gcl (gty d) A (xw d ad ba ta imgs room work price whom bday units worth due under people askings hangs items many_183 slip_183 became_183 left_44 what_183 which_183 whose_183 place_183 deeds_183 day won_44 lost_183 kept text typed rest bestSet tenths sortWorth sortDays row trace) s H locs → lv_has ls 3 [(0, .ref (ad 0)), (1, .int x1_44)] → W p l e R s m args below meth c H locs cells slots Q (F0 m 183 ls []) := by
        intro H locs ls hC hl
        refine lv_aload_n hx hb dX0_day_183 rfl (lv_at hl 0 rfl) ?_
        refine va_get (ci := 0) (v := .ref (ta 0)) (C := RX0) (T := TX0) (N := 13) hx hb hts in_X0 hown hC.1 hC.2.1 (26) rfl rfl 1 (by decide) (hts _ q305) (fun _ h9 => h9) rfl dX0_day_184 ?_
        refine lv_dup hx hb dX0_day_187 rfl ?_
        refine va_getN (ci := 2) (v := .int day) (C := RX2) (T := TX2) (N := 12) (host := "SleeveSlips") hx hb hts in_X2 hown hC.1 hC.2.1 (10) rfl rfl 8 (by decide) (va_Nw.use rfl (hN.1 42)) (fun _ h9 => h9) rfl dX0_day_188 ?_
        refine lv_iconst (v := 1) hx hb dX0_day_191 (by decide) ?_
        refine lv_iadd hx hb dX0_day_192 ?_
        refine va_putN (ci := 2) (v := .int (day + 1)) (ty := .int) (C := RX2) (T := TX2) (N := 12) (host := "SleeveSlips") hx hb hts in_X2 tyX2 tyX2_ok nmX2 hown hC.1 hC.2.1 hC.2.2.1 hC.2.2.2 (10) rfl rfl 8 (by decide) (va_Nw.use rfl (hN.1 42)) (fun _ h9 => h9) rfl (tyX2_ok 8 (by decide)) rfl rfl (Nat.le_of_ble_eq_true rfl) dX0_day_193 (fun H locs hP hD hS => ?_)
        have hC : HC D gcl (gty d) A (xw d ad ba ta imgs room work price whom bday units worth due under people askings hangs items many_183 slip_183 became_183 left_44 what_183 which_183 whose_183 place_183 deeds_183 (day + 1) won_44 lost_183 kept text typed rest bestSet tenths sortWorth sortDays row trace) s H locs := ⟨hC.1, hP, hD, hS⟩
        refine lv_aload_n hx hb dX0_day_196 rfl (lv_at hl 0 rfl) ?_
        refine va_get (ci := 0) (v := .ref (ta 0)) (C := RX0) (T := TX0) (N := 13) hx hb hts in_X0 hown hC.1 hC.2.1 (26) rfl rfl 1 (by decide) (hts _ q305) (fun _ h9 => h9) rfl dX0_day_197 ?_
        refine lv_iconst (v := 0) hx hb dX0_day_200 (by decide) ?_
        refine va_putN (ci := 2) (v := .int 0) (ty := .int) (C := RX2) (T := TX2) (N := 12) (host := "SleeveSlips") hx hb hts in_X2 tyX2 tyX2_ok nmX2 hown hC.1 hC.2.1 hC.2.2.1 hC.2.2.2 (10) rfl rfl 7 (by decide) (va_Nw.use rfl (hN.1 40)) (fun _ h9 => h9) rfl (tyX2_ok 7 (by decide)) rfl rfl (Nat.le_of_ble_eq_true rfl) dX0_day_201 (fun H locs hP hD hS => ?_)
        have hC : HC D gcl (gty d) A (xw d ad ba ta imgs room work price whom bday units worth due under people askings hangs items many_183 slip_183 became_183 left_44 what_183 which_183 whose_183 place_183 0 (day + 1) won_44 lost_183 kept text typed rest bestSet tenths sortWorth sortDays row trace) s H locs := ⟨hC.1, hP, hD, hS⟩
        refine lv_iload_n hx hb dX0_day_204 rfl (lv_at hl 1 rfl) ?_
        obtain ⟨e_1, e_2, e_3, e_4, e_5, e_6, e_7, e_8, e_9, e_10, e_11, e_12, e_13⟩ := so_13 (Option.some.inj hf)
        subst e_1
        subst e_2
        subst e_3
        subst e_4
        subst e_5
        subst e_6
        subst e_7
        subst e_8
        subst e_9
        subst e_10
        subst e_11
        subst e_12
        subst e_13
        exact K H locs ls _ rfl hC dX0_day_205
      have L_46 : ∀ (n_46 : Nat) (x2_46 : Int32) (many_46 : Nat → Int32) (slip_46 : Nat → Nat → Int32) (became_46 : Nat → Int32) (what_46 : Nat → Int32) (which_46 : Nat → Int32) (whose_46 : Nat → Int32) (place_46 : Nat → Int32) (deeds_46 : Int32) (lost_46 : Int32), x_day_L46 bday worth due askings day n_46 x2_46 many_46 slip_46 became_46 what_46 which_46 whose_46 place_46 deeds_46 lost_46 = some (many_183, slip_183, became_183, what_183, which_183, whose_183, place_183, deeds_183, lost_183) → ∀ (H : Heap) (locs : List Loc) (ls : Array Slot), HC D gcl (gty d) A (xw d ad ba ta imgs room work price whom bday units worth due under people askings hangs items many_46 slip_46 became_46 left_44 what_46 which_46 whose_46 place_46 deeds_46 day won_44 lost_46 kept text typed rest bestSet tenths sortWorth sortDays row trace) s H locs → lv_has ls 3 [(0, .ref (ad 0)), (1, .int x1_44), (2, .int x2_46)] → W p l e R s m args below meth c H locs cells slots Q (F0 m 46 ls []) := by
        intro n_46
        induction n_46 with
        | zero => intro _ _ _ _ _ _ _ _ _ _ hf; cases hf
        | succ n_46 ih =>
          intro x2_46 many_46 slip_46 became_46 what_46 which_46 whose_46 place_46 deeds_46 lost_46 hf H locs ls hC hl
          rw [x_day_L46_s] at hf
          refine lv_iload_n hx hb dX0_day_46 rfl (lv_at hl 2 rfl) ?_
          refine lv_aload_n hx hb dX0_day_47 rfl (lv_at hl 0 rfl) ?_
          refine va_get (ci := 0) (v := .ref (ba 0)) (C := RX0) (T := TX0) (N := 13) hx hb hts in_X0 hown hC.1 hC.2.1 (26) rfl rfl 0 (by decide) (hts _ q302) (fun _ h9 => h9) rfl dX0_day_48 ?_
          refine va_getN (ci := 1) (v := .int askings) (C := RX1) (T := TX1) (N := 13) (host := "SleeveSlips") hx hb hts in_X1 hown hC.1 hC.2.1 (0) rfl rfl 10 (by decide) (va_Nw.use rfl (hN.1 22)) (fun _ h9 => h9) rfl dX0_day_51 ?_
          refine lv_icmp_ge (tgt := 183) hx hb dX0_day_54 (by decide) (fun c_54 => ?_) (fun c_54 => ?_)
          · have hf := if_t hf c_54
            obtain ⟨e_1, e_2, e_3, e_4, e_5, e_6, e_7, e_8, e_9⟩ := so_9 (Option.some.inj hf)
            subst e_1
            subst e_2
            subst e_3
            subst e_4
            subst e_5
            subst e_6
            subst e_7
            subst e_8
            subst e_9
            exact X_46 H locs ls hC (lv_sub hl [0, 1] rfl)
          · have hf := if_f hf c_54
            refine lv_aload_n hx hb dX0_day_57 rfl (lv_at hl 0 rfl) ?_
            refine lv_iload_n hx hb dX0_day_58 rfl (lv_at hl 2 rfl) ?_
            obtain ⟨r_59, hcall, hf⟩ := bnd_some hf
            refine hc_i (va_runV (C := RX0) (As := [.int x2_46]) (rest := []) ⟨hx, hb, hml, hown, hts⟩ (c_x_isPinned hcall) (cwV 1 hts (lw_V q602 q604 qs11 q48 q605) rfl rfl rfl (by decide +kernel) ⟨(Nat.le_trans (Nat.le_of_ble_eq_true rfl) hRf), (Nat.le_trans (Nat.le_of_ble_eq_true rfl) hRl)⟩) (pre_V (q0 := 26) (ci := 0) NX.calling (fun U _ hW => NX.warm hW hN) hC rfl rfl) rfl rfl hl.1 rfl (lv_room (Nat.le_of_ble_eq_true rfl)) dX0_day_59 ⟨hRc, hRs⟩) hA hC (fun H locs hC => ?_)
            obtain ⟨many_124, slip_124, became_124, what_124, which_124, whose_124, place_124, deeds_124, lost_124, hj, hf⟩ := bnd9_some hf
            have J_124 : ∀ (H : Heap) (locs : List Loc) (ls : Array Slot), HC D gcl (gty d) A (xw d ad ba ta imgs room work price whom bday units worth due under people askings hangs items many_124 slip_124 became_124 left_44 what_124 which_124 whose_124 place_124 deeds_124 day won_44 lost_124 kept text typed rest bestSet tenths sortWorth sortDays row trace) s H locs → lv_has ls 3 [(0, .ref (ad 0)), (1, .int x1_44), (2, .int x2_46)] → W p l e R s m args below meth c H locs cells slots Q (F0 m 124 ls []) := by
              intro H locs ls hC hl
              refine lv_aload_n hx hb dX0_day_124 rfl (lv_at hl 0 rfl) ?_
              refine va_get (ci := 0) (v := .ref (ta 0)) (C := RX0) (T := TX0) (N := 13) hx hb hts in_X0 hown hC.1 hC.2.1 (26) rfl rfl 1 (by decide) (hts _ q305) (fun _ h9 => h9) rfl dX0_day_125 ?_
              refine va_getN (ci := 2) (v := .ref (ta 10)) (C := RX2) (T := TX2) (N := 12) (host := "SleeveSlips") hx hb hts in_X2 hown hC.1 hC.2.1 (10) rfl rfl 1 (by decide) (va_Nw.use rfl (hN.1 34)) (fun _ h9 => h9) rfl dX0_day_128 ?_
              refine lv_iload_n hx hb dX0_day_131 rfl (lv_at hl 2 rfl) ?_
              refine lv_aload_n hx hb dX0_day_132 rfl (lv_at hl 0 rfl) ?_
              refine va_get (ci := 0) (v := .ref (ta 0)) (C := RX0) (T := TX0) (N := 13) hx hb hts in_X0 hown hC.1 hC.2.1 (26) rfl rfl 1 (by decide) (hts _ q305) (fun _ h9 => h9) rfl dX0_day_133 ?_
              refine va_getN (ci := 2) (v := .ref (ta 10)) (C := RX2) (T := TX2) (N := 12) (host := "SleeveSlips") hx hb hts in_X2 hown hC.1 hC.2.1 (10) rfl rfl 1 (by decide) (va_Nw.use rfl (hN.1 34)) (fun _ h9 => h9) rfl dX0_day_136 ?_
              refine lv_iload_n hx hb dX0_day_139 rfl (lv_at hl 2 rfl) ?_
              obtain ⟨hi_140, hf⟩ := ck_some hf
              refine va_iald hx hb hC.1 hC.2.1 (20) 0 rfl rfl hi_140 dX0_day_140 ?_
              refine lv_if_ne (tgt := 167) hx hb dX0_day_141 (by decide) (fun c_141 => ?_) (fun c_141 => ?_)
              · have hf := if_f hf c_141
                refine lv_aload_n hx hb dX0_day_167 rfl (lv_at hl 0 rfl) ?_
                refine va_get (ci := 0) (v := .ref (ta 0)) (C := RX0) (T := TX0) (N := 13) hx hb hts in_X0 hown hC.1 hC.2.1 (26) rfl rfl 1 (by decide) (hts _ q305) (fun _ h9 => h9) rfl dX0_day_168 ?_
                refine va_getN (ci := 2) (v := .ref (ta 10)) (C := RX2) (T := TX2) (N := 12) (host := "SleeveSlips") hx hb hts in_X2 hown hC.1 hC.2.1 (10) rfl rfl 1 (by decide) (va_Nw.use rfl (hN.1 34)) (fun _ h9 => h9) rfl dX0_day_171 ?_
                refine lv_iload_n hx hb dX0_day_174 rfl (lv_at hl 2 rfl) ?_
                obtain ⟨hi_175, hf⟩ := ck_some hf
                refine va_iald hx hb hC.1 hC.2.1 (20) 0 rfl rfl hi_175 dX0_day_175 ?_
                obtain ⟨hi_176, hf⟩ := ck_some hf
                refine va_iast hx hb hC.1 hC.2.1 hC.2.2.1 hC.2.2.2 (20) 0 rfl rfl hi_176 dX0_day_176 (fun H locs hP hD hS => ?_)
                have hC : HC D gcl (gty d) A (xw d ad ba ta imgs room work price whom bday units worth due under people askings hangs items many_124 slip_124 (upd became_124 x2_46.toNatClampNeg (became_124 x2_46.toNatClampNeg)) left_44 what_124 which_124 whose_124 place_124 deeds_124 day won_44 lost_124 kept text typed rest bestSet tenths sortWorth sortDays row trace) s H locs := ⟨hC.1, hP, hD, hS⟩
                refine lv_iinc (v := x2_46 + 1) (lv' := [(2, .int (x2_46 + 1)), (0, .ref (ad 0)), (1, .int x1_44)]) hx hb dX0_day_177 hl (k := 2) rfl rfl (by decide) rfl (fun ls hl => ?_)
                refine lv_goto (tgt := 46) hx hb dX0_day_180 (by decide) ?_
                exact ih _ _ _ _ _ _ _ _ _ _ hf H locs ls hC (lv_sub hl [1, 2, 0] rfl)
              · have hf := if_t hf c_141
                refine lv_aload_n hx hb dX0_day_144 rfl (lv_at hl 0 rfl) ?_
                refine va_get (ci := 0) (v := .ref (ba 0)) (C := RX0) (T := TX0) (N := 13) hx hb hts in_X0 hown hC.1 hC.2.1 (26) rfl rfl 0 (by decide) (hts _ q302) (fun _ h9 => h9) rfl dX0_day_145 ?_
                refine va_getN (ci := 1) (v := .ref (ba 5)) (C := RX1) (T := TX1) (N := 13) (host := "SleeveSlips") hx hb hts in_X1 hown hC.1 hC.2.1 (0) rfl rfl 4 (by decide) (va_Nw.use rfl (hN.1 11)) (fun _ h9 => h9) rfl dX0_day_148 ?_
                refine lv_iload_n hx hb dX0_day_151 rfl (lv_at hl 2 rfl) ?_
                obtain ⟨hi_152, hf⟩ := ck_some hf
                refine va_iald hx hb hC.1 hC.2.1 (5) 0 rfl rfl hi_152 dX0_day_152 ?_
                refine lv_aload_n hx hb dX0_day_153 rfl (lv_at hl 0 rfl) ?_
                refine va_get (ci := 0) (v := .ref (ta 0)) (C := RX0) (T := TX0) (N := 13) hx hb hts in_X0 hown hC.1 hC.2.1 (26) rfl rfl 1 (by decide) (hts _ q305) (fun _ h9 => h9) rfl dX0_day_154 ?_
                refine va_getN (ci := 2) (v := .int day) (C := RX2) (T := TX2) (N := 12) (host := "SleeveSlips") hx hb hts in_X2 hown hC.1 hC.2.1 (10) rfl rfl 8 (by decide) (va_Nw.use rfl (hN.1 42)) (fun _ h9 => h9) rfl dX0_day_157 ?_
                refine lv_icmp_ne (tgt := 167) hx hb dX0_day_160 (by decide) (fun c_160 => ?_) (fun c_160 => ?_)
                · have hf := if_f hf c_160
                  refine lv_aload_n hx hb dX0_day_167 rfl (lv_at hl 0 rfl) ?_
                  refine va_get (ci := 0) (v := .ref (ta 0)) (C := RX0) (T := TX0) (N := 13) hx hb hts in_X0 hown hC.1 hC.2.1 (26) rfl rfl 1 (by decide) (hts _ q305) (fun _ h9 => h9) rfl dX0_day_168 ?_
                  refine va_getN (ci := 2) (v := .ref (ta 10)) (C := RX2) (T := TX2) (N := 12) (host := "SleeveSlips") hx hb hts in_X2 hown hC.1 hC.2.1 (10) rfl rfl 1 (by decide) (va_Nw.use rfl (hN.1 34)) (fun _ h9 => h9) rfl dX0_day_171 ?_
                  refine lv_iload_n hx hb dX0_day_174 rfl (lv_at hl 2 rfl) ?_
                  obtain ⟨hi_175, hf⟩ := ck_some hf
                  refine va_iald hx hb hC.1 hC.2.1 (20) 0 rfl rfl hi_175 dX0_day_175 ?_
                  obtain ⟨hi_176, hf⟩ := ck_some hf
                  refine va_iast hx hb hC.1 hC.2.1 hC.2.2.1 hC.2.2.2 (20) 0 rfl rfl hi_176 dX0_day_176 (fun H locs hP hD hS => ?_)
                  have hC : HC D gcl (gty d) A (xw d ad ba ta imgs room work price whom bday units worth due under people askings hangs items many_124 slip_124 (upd became_124 x2_46.toNatClampNeg (became_124 x2_46.toNatClampNeg)) left_44 what_124 which_124 whose_124 place_124 deeds_124 day won_44 lost_124 kept text typed rest bestSet tenths sortWorth sortDays row trace) s H locs := ⟨hC.1, hP, hD, hS⟩
                  refine lv_iinc (v := x2_46 + 1) (lv' := [(2, .int (x2_46 + 1)), (0, .ref (ad 0)), (1, .int x1_44)]) hx hb dX0_day_177 hl (k := 2) rfl rfl (by decide) rfl (fun ls hl => ?_)
                  refine lv_goto (tgt := 46) hx hb dX0_day_180 (by decide) ?_
                  exact ih _ _ _ _ _ _ _ _ _ _ hf H locs ls hC (lv_sub hl [1, 2, 0] rfl)
                · have hf := if_t hf c_160
                  refine lv_iconst (v := 3) hx hb dX0_day_163 (by decide) ?_
                  refine lv_goto (tgt := 176) hx hb dX0_day_164 (by decide) ?_
                  obtain ⟨hi_176, hf⟩ := ck_some hf
                  refine va_iast hx hb hC.1 hC.2.1 hC.2.2.1 hC.2.2.2 (20) 0 rfl rfl hi_176 dX0_day_176 (fun H locs hP hD hS => ?_)
                  have hC : HC D gcl (gty d) A (xw d ad ba ta imgs room work price whom bday units worth due under people askings hangs items many_124 slip_124 (upd became_124 x2_46.toNatClampNeg 3) left_44 what_124 which_124 whose_124 place_124 deeds_124 day won_44 lost_124 kept text typed rest bestSet tenths sortWorth sortDays row trace) s H locs := ⟨hC.1, hP, hD, hS⟩
                  refine lv_iinc (v := x2_46 + 1) (lv' := [(2, .int (x2_46 + 1)), (0, .ref (ad 0)), (1, .int x1_44)]) hx hb dX0_day_177 hl (k := 2) rfl rfl (by decide) rfl (fun ls hl => ?_)
                  refine lv_goto (tgt := 46) hx hb dX0_day_180 (by decide) ?_
                  exact ih _ _ _ _ _ _ _ _ _ _ hf H locs ls hC (lv_sub hl [1, 2, 0] rfl)
            have hf := hj
            refine lv_if_eq (tgt := 124) hx hb dX0_day_62 (by decide) (fun c_62 => ?_) (fun c_62 => ?_)
            · have hf := if_t hf c_62
              obtain ⟨e_1, e_2, e_3, e_4, e_5, e_6, e_7, e_8, e_9⟩ := so_9 (Option.some.inj hf)
              subst e_1
              subst e_2
              subst e_3
              subst e_4
              subst e_5
              subst e_6
              subst e_7
              subst e_8
              subst e_9
              exact J_124 H locs ls hC (lv_sub hl [0, 1, 2] rfl)
            · have hf := if_f hf c_62
              refine lv_aload_n hx hb dX0_day_65 rfl (lv_at hl 0 rfl) ?_
              refine va_get (ci := 0) (v := .ref (ba 0)) (C := RX0) (T := TX0) (N := 13) hx hb hts in_X0 hown hC.1 hC.2.1 (26) rfl rfl 0 (by decide) (hts _ q302) (fun _ h9 => h9) rfl dX0_day_66 ?_
              refine va_getN (ci := 1) (v := .ref (ba 8)) (C := RX1) (T := TX1) (N := 13) (host := "SleeveSlips") hx hb hts in_X1 hown hC.1 hC.2.1 (0) rfl rfl 7 (by decide) (va_Nw.use rfl (hN.1 17)) (fun _ h9 => h9) rfl dX0_day_69 ?_
              refine lv_iload_n hx hb dX0_day_72 rfl (lv_at hl 2 rfl) ?_
              obtain ⟨hi_73, hf⟩ := ck_some hf
              refine va_iald hx hb hC.1 hC.2.1 (8) 0 rfl rfl hi_73 dX0_day_73 ?_
              refine lv_aload_n hx hb dX0_day_74 rfl (lv_at hl 0 rfl) ?_
              refine va_get (ci := 0) (v := .ref (ta 0)) (C := RX0) (T := TX0) (N := 13) hx hb hts in_X0 hown hC.1 hC.2.1 (26) rfl rfl 1 (by decide) (hts _ q305) (fun _ h9 => h9) rfl dX0_day_75 ?_
              refine va_getN (ci := 2) (v := .int day) (C := RX2) (T := TX2) (N := 12) (host := "SleeveSlips") hx hb hts in_X2 hown hC.1 hC.2.1 (10) rfl rfl 8 (by decide) (va_Nw.use rfl (hN.1 42)) (fun _ h9 => h9) rfl dX0_day_78 ?_
              refine lv_icmp_ne (tgt := 124) hx hb dX0_day_81 (by decide) (fun c_81 => ?_) (fun c_81 => ?_)
              · have hf := if_f hf c_81
                obtain ⟨e_1, e_2, e_3, e_4, e_5, e_6, e_7, e_8, e_9⟩ := so_9 (Option.some.inj hf)
                subst e_1
                subst e_2
                subst e_3
                subst e_4
                subst e_5
                subst e_6
                subst e_7
                subst e_8
                subst e_9
                exact J_124 H locs ls hC (lv_sub hl [0, 1, 2] rfl)
              · have hf := if_t hf c_81
                refine lv_aload_n hx hb dX0_day_84 rfl (lv_at hl 0 rfl) ?_
                refine va_get (ci := 0) (v := .ref (ta 0)) (C := RX0) (T := TX0) (N := 13) hx hb hts in_X0 hown hC.1 hC.2.1 (26) rfl rfl 1 (by decide) (hts _ q305) (fun _ h9 => h9) rfl dX0_day_85 ?_
                refine lv_iconst (v := 2) hx hb dX0_day_88 (by decide) ?_
                refine lv_iload_n hx hb dX0_day_89 rfl (lv_at hl 2 rfl) ?_
                obtain ⟨many_90, slip_90, what_90, which_90, whose_90, place_90, deeds_90, hcall, hf⟩ := bnd7_some hf
                refine hs_v (va_runV (C := RX2) (As := [.int 2, .int x2_46]) (rest := []) ⟨hx, hb, hml, hown, hts⟩ (c_x_goes hcall) (cwV 2 hts (lw_V q606 q607 q608 q50 q609) rfl rfl rfl (by decide +kernel) ⟨(Nat.le_trans (Nat.le_of_ble_eq_true rfl) hRf), (Nat.le_trans (Nat.le_of_ble_eq_true rfl) hRl)⟩) (pre_VG (q0 := 0) (ci := 2) NX.calling (fun U _ hW => NX.warm hW hN) hC [0, 1, 2, 3, 4, 5, 6] rfl rfl rfl) rfl rfl hl.1 rfl (lv_room (Nat.le_of_ble_eq_true rfl)) dX0_day_90 ⟨hRc, hRs⟩) hA hC (fun H locs hC => ?_)
                have hC : HC D gcl (gty d) A (xw d ad ba ta imgs room work price whom bday units worth due under people askings hangs items many_90 slip_90 became_46 left_44 what_90 which_90 whose_90 place_90 deeds_90 day won_44 lost_46 kept text typed rest bestSet tenths sortWorth sortDays row trace) s H locs := hC
                refine lv_aload_n hx hb dX0_day_93 rfl (lv_at hl 0 rfl) ?_
                refine va_get (ci := 0) (v := .ref (ta 0)) (C := RX0) (T := TX0) (N := 13) hx hb hts in_X0 hown hC.1 hC.2.1 (26) rfl rfl 1 (by decide) (hts _ q305) (fun _ h9 => h9) rfl dX0_day_94 ?_
                refine va_getN (ci := 2) (v := .ref (ta 10)) (C := RX2) (T := TX2) (N := 12) (host := "SleeveSlips") hx hb hts in_X2 hown hC.1 hC.2.1 (10) rfl rfl 1 (by decide) (va_Nw.use rfl (hN.1 34)) (fun _ h9 => h9) rfl dX0_day_97 ?_
                refine lv_iload_n hx hb dX0_day_100 rfl (lv_at hl 2 rfl) ?_
                refine lv_iconst (v := 3) hx hb dX0_day_101 (by decide) ?_
                obtain ⟨hi_102, hf⟩ := ck_some hf
                refine va_iast hx hb hC.1 hC.2.1 hC.2.2.1 hC.2.2.2 (20) 0 rfl rfl hi_102 dX0_day_102 (fun H locs hP hD hS => ?_)
                have hC : HC D gcl (gty d) A (xw d ad ba ta imgs room work price whom bday units worth due under people askings hangs items many_90 slip_90 (upd became_46 x2_46.toNatClampNeg 3) left_44 what_90 which_90 whose_90 place_90 deeds_90 day won_44 lost_46 kept text typed rest bestSet tenths sortWorth sortDays row trace) s H locs := ⟨hC.1, hP, hD, hS⟩
                refine lv_aload_n hx hb dX0_day_103 rfl (lv_at hl 0 rfl) ?_
                refine va_get (ci := 0) (v := .ref (ta 0)) (C := RX0) (T := TX0) (N := 13) hx hb hts in_X0 hown hC.1 hC.2.1 (26) rfl rfl 1 (by decide) (hts _ q305) (fun _ h9 => h9) rfl dX0_day_104 ?_
                refine lv_dup hx hb dX0_day_107 rfl ?_
                refine va_getN (ci := 2) (v := .int lost_46) (C := RX2) (T := TX2) (N := 12) (host := "SleeveSlips") hx hb hts in_X2 hown hC.1 hC.2.1 (10) rfl rfl 10 (by decide) (va_Nw.use rfl (hN.1 44)) (fun _ h9 => h9) rfl dX0_day_108 ?_
                refine lv_aload_n hx hb dX0_day_111 rfl (lv_at hl 0 rfl) ?_
                refine va_get (ci := 0) (v := .ref (ba 0)) (C := RX0) (T := TX0) (N := 13) hx hb hts in_X0 hown hC.1 hC.2.1 (26) rfl rfl 0 (by decide) (hts _ q302) (fun _ h9 => h9) rfl dX0_day_112 ?_
                refine va_getN (ci := 1) (v := .ref (ba 7)) (C := RX1) (T := TX1) (N := 13) (host := "SleeveSlips") hx hb hts in_X1 hown hC.1 hC.2.1 (0) rfl rfl 6 (by decide) (va_Nw.use rfl (hN.1 15)) (fun _ h9 => h9) rfl dX0_day_115 ?_
                refine lv_iload_n hx hb dX0_day_118 rfl (lv_at hl 2 rfl) ?_
                obtain ⟨hi_119, hf⟩ := ck_some hf
                refine va_iald hx hb hC.1 hC.2.1 (7) 0 rfl rfl hi_119 dX0_day_119 ?_
                refine lv_iadd hx hb dX0_day_120 ?_
                refine va_putN (ci := 2) (v := .int (lost_46 + (worth x2_46.toNatClampNeg))) (ty := .int) (C := RX2) (T := TX2) (N := 12) (host := "SleeveSlips") hx hb hts in_X2 tyX2 tyX2_ok nmX2 hown hC.1 hC.2.1 hC.2.2.1 hC.2.2.2 (10) rfl rfl 10 (by decide) (va_Nw.use rfl (hN.1 44)) (fun _ h9 => h9) rfl (tyX2_ok 10 (by decide)) rfl rfl (Nat.le_of_ble_eq_true rfl) dX0_day_121 (fun H locs hP hD hS => ?_)
                have hC : HC D gcl (gty d) A (xw d ad ba ta imgs room work price whom bday units worth due under people askings hangs items many_90 slip_90 (upd became_46 x2_46.toNatClampNeg 3) left_44 what_90 which_90 whose_90 place_90 deeds_90 day won_44 (lost_46 + (worth x2_46.toNatClampNeg)) kept text typed rest bestSet tenths sortWorth sortDays row trace) s H locs := ⟨hC.1, hP, hD, hS⟩
                obtain ⟨e_1, e_2, e_3, e_4, e_5, e_6, e_7, e_8, e_9⟩ := so_9 (Option.some.inj hf)
                subst e_1
                subst e_2
                subst e_3
                subst e_4
                subst e_5
                subst e_6
                subst e_7
                subst e_8
                subst e_9
                exact J_124 H locs ls hC (lv_sub hl [0, 1, 2] rfl)
      exact L_46 _ _ _ _ _ _ _ _ _ _ _ hL H locs ls hC (lv_sub hl [1, 2, 0] rfl)
    have L_19 : ∀ (n_19 : Nat) (x1_19 : Int32) (x2_19 : Int32) (many_19 : Nat → Int32) (slip_19 : Nat → Nat → Int32) (became_19 : Nat → Int32) (left_19 : Nat → Int32) (won_19 : Int32), x_day_L19 work worth under people askings n_19 x1_19 x2_19 many_19 slip_19 became_19 left_19 won_19 = some (x1_44, many_44, slip_44, became_44, left_44, won_44) → ∀ (H : Heap) (locs : List Loc) (ls : Array Slot), HC D gcl (gty d) A (xw d ad ba ta imgs room work price whom bday units worth due under people askings hangs items many_19 slip_19 became_19 left_19 what which whose place deeds day won_19 lost kept text typed rest bestSet tenths sortWorth sortDays row trace) s H locs → lv_has ls 3 [(0, .ref (ad 0)), (1, .int x1_19), (2, .int x2_19)] → W p l e R s m args below meth c H locs cells slots Q (F0 m 19 ls []) := by
      intro n_19
      induction n_19 with
      | zero => intro _ _ _ _ _ _ _ hf; cases hf
      | succ n_19 ih =>
        intro x1_19 x2_19 many_19 slip_19 became_19 left_19 won_19 hf H locs ls hC hl
        rw [x_day_L19_s] at hf
        refine lv_iload_n hx hb dX0_day_19 rfl (lv_at hl 2 rfl) ?_
        refine lv_aload_n hx hb dX0_day_20 rfl (lv_at hl 0 rfl) ?_
        refine va_get (ci := 0) (v := .ref (ba 0)) (C := RX0) (T := TX0) (N := 13) hx hb hts in_X0 hown hC.1 hC.2.1 (26) rfl rfl 0 (by decide) (hts _ q302) (fun _ h9 => h9) rfl dX0_day_21 ?_
        refine va_getN (ci := 1) (v := .int people) (C := RX1) (T := TX1) (N := 13) (host := "SleeveSlips") hx hb hts in_X1 hown hC.1 hC.2.1 (0) rfl rfl 9 (by decide) (va_Nw.use rfl (hN.1 20)) (fun _ h9 => h9) rfl dX0_day_24 ?_
        refine lv_icmp_ge (tgt := 44) hx hb dX0_day_27 (by decide) (fun c_27 => ?_) (fun c_27 => ?_)
        · have hf := if_t hf c_27
          obtain ⟨e_1, e_2, e_3, e_4, e_5, e_6⟩ := so_6 (Option.some.inj hf)
          subst e_1
          subst e_2
          subst e_3
          subst e_4
          subst e_5
          subst e_6
          exact X_19 H locs ls hC (lv_sub hl [0, 1] rfl)
        · have hf := if_f hf c_27
          refine lv_iload_n hx hb dX0_day_30 rfl (lv_at hl 1 rfl) ?_
          refine lv_aload_n hx hb dX0_day_31 rfl (lv_at hl 0 rfl) ?_
          refine lv_iload_n hx hb dX0_day_32 rfl (lv_at hl 2 rfl) ?_
          obtain ⟨r_33, many_33, slip_33, became_33, left_33, won_33, hcall, hf⟩ := bnd6_some hf
          refine hc_i (va_runV (C := RX0) (As := [.int x2_19]) (rest := [.int x1_19]) ⟨hx, hb, hml, hown, hts⟩ (c_x_works hcall) (cwV 1 hts (lw_V q634 q636 qs12 q48 q637) rfl rfl rfl (by decide +kernel) ⟨(Nat.le_trans (Nat.le_of_ble_eq_true rfl) hRf), (Nat.le_trans (Nat.le_of_ble_eq_true rfl) hRl)⟩) (pre_V (q0 := 26) (ci := 0) NX.calling (fun U _ hW => NX.warm hW hN) hC rfl rfl) rfl rfl hl.1 rfl (lv_room (Nat.le_of_ble_eq_true rfl)) dX0_day_33 ⟨hRc, hRs⟩) hA hC (fun H locs hC => ?_)
          have hC : HC D gcl (gty d) A (xw d ad ba ta imgs room work price whom bday units worth due under people askings hangs items many_33 slip_33 became_33 left_33 what which whose place deeds day won_33 lost kept text typed rest bestSet tenths sortWorth sortDays row trace) s H locs := hC
          refine lv_iadd hx hb dX0_day_36 ?_
          refine lv_istore_n (lv' := [(1, .int (x1_19 + r_33)), (0, .ref (ad 0)), (2, .int x2_19)]) hx hb dX0_day_37 rfl hl (by decide) rfl (fun ls hl => ?_)
          refine lv_iinc (v := x2_19 + 1) (lv' := [(2, .int (x2_19 + 1)), (1, .int (x1_19 + r_33)), (0, .ref (ad 0))]) hx hb dX0_day_38 hl (k := 2) rfl rfl (by decide) rfl (fun ls hl => ?_)
          refine lv_goto (tgt := 19) hx hb dX0_day_41 (by decide) ?_
          exact ih _ _ _ _ _ _ _ hf H locs ls hC (lv_sub hl [2, 1, 0] rfl)
    exact L_19 _ _ _ _ _ _ _ _ hL H locs ls hC (lv_sub hl [2, 1, 0] rfl)
  · have hf := if_f hf c_9
    refine lv_bipush (v := (-2)) hx hb dX0_day_12 (by decide) ?_
    obtain ⟨e_1, e_2, e_3, e_4, e_5, e_6, e_7, e_8, e_9, e_10, e_11, e_12, e_13⟩ := so_13 (Option.some.inj hf)
    subst e_1
    subst e_2
    subst e_3
    subst e_4
    subst e_5
    subst e_6
    subst e_7
    subst e_8
    subst e_9
    subst e_10
    subst e_11
    subst e_12
    subst e_13
    exact K H locs ls _ rfl hC dX0_day_14
set_option maxRecDepth 100000 in
theorem c_x_day {l : Launch} {sz : Nat} {D : va_G} {d : Nat → ClassId} {ad : Nat → Nat} {ba : Nat → Nat} {ta : Nat → Nat} {imgs : va_W} {room : Nat → Int32} {work : Nat → Int32} {price : Nat → Int32} {whom : Nat → Int32} {bday : Nat → Int32} {units : Nat → Int32} {worth : Nat → Int32} {due : Nat → Int32} {under : Nat → Int32} {people : Int32} {askings : Int32} {hangs : Int32} {items : Int32} {many : Nat → Int32} {slip : Nat → Nat → Int32} {became : Nat → Int32} {left : Nat → Int32} {what : Nat → Int32} {which : Nat → Int32} {whose : Nat → Int32} {place : Nat → Int32} {deeds : Int32} {day : Int32} {won : Int32} {lost : Int32} {kept : Int32} {text : Nat → Int32} {typed : Int32} {rest : Nat → Int32} {bestSet : Int32} {tenths : Nat → Int32} {sortWorth : Nat → Int32} {sortDays : Nat → Int32} {row : Nat → Int32} {trace : Int64} {r : Int32} {many_r : Nat → Int32} {slip_r : Nat → Nat → Int32} {became_r : Nat → Int32} {left_r : Nat → Int32} {what_r : Nat → Int32} {which_r : Nat → Int32} {whose_r : Nat → Int32} {place_r : Nat → Int32} {deeds_r : Int32} {day_r : Int32} {won_r : Int32} {lost_r : Int32} (hf : x_day work bday worth due under people askings many slip became left what which whose place deeds day won lost = some (r, many_r, slip_r, became_r, left_r, what_r, which_r, whose_r, place_r, deeds_r, day_r, won_r, lost_r)) : MI l yX0_day (ws_ yX0_day cX0_day 3 (some .int)) { frames := 3, cells := 0, slots := 0, locals := 107 } D gcl (gty d) NX (xw d ad ba ta imgs room work price whom bday units worth due under people askings hangs items many slip became left what which whose place deeds day won lost kept text typed rest bestSet tenths sortWorth sortDays row trace) (xw d ad ba ta imgs room work price whom bday units worth due under people askings hangs items many_r slip_r became_r left_r what_r which_r whose_r place_r deeds_r day_r won_r lost_r kept text typed rest bestSet tenths sortWorth sortDays row trace) sz [.ref (ad 0)] r :=
  MI.of (by decide) [.ref (ad 0)] [(0, .ref (ad 0))] (Nat.le_of_ble_eq_true rfl) rfl (fun p e s m below meth c ls Q hx hb hml hown hts hN hA hC hl K => w_x_day hx hb hml hown hts hN hA (Nat.le_refl _) (Nat.le_refl _) (Nat.le_refl _) (Nat.le_refl _) hf hC hl K)

def x_now_L17 (many : Nat → Int32) : Nat → Int32 → Int32 → Option (Int32)
  | 0, _, _ => none
  | n_17 + 1, x2_17, x5_17 =>
  if 4 ≤ x5_17 then (some x2_17) else
  ck x5_17 4 <| x_now_L17 many n_17 (x2_17 + (many x5_17.toNatClampNeg)) (x5_17 + 1) 
theorem x_now_L17_s (many : Nat → Int32) (n_17 : Nat) (x2_17 : Int32) (x5_17 : Int32) : x_now_L17 many (n_17 + 1) x2_17 x5_17 = (
  if 4 ≤ x5_17 then (some x2_17) else
  ck x5_17 4 <| x_now_L17 many n_17 (x2_17 + (many x5_17.toNatClampNeg)) (x5_17 + 1) ) := rfl
def x_now (many : Nat → Int32) (deeds : Int32) (day : Int32) (won : Int32) (lost : Int32) (x1 : Int32) : Option (Int32) :=
  bnd (x_now_L17 many g_fuel 0 0 ) (fun x2_44 =>
  if x1 = 0 then (some day) else
  if x1 = 1 then (some won) else
  if x1 = 2 then (some lost) else
  if x1 = 3 then (some x2_44) else
  if x1 = 4 then (some deeds) else
  some (-1))
set_option maxHeartbeats 4000000 in
set_option maxRecDepth 100000 in
theorem w_x_now {p : Program} {l : Launch} {e : Env} {R : Room} {s : State} {m : MethodId} {args : Array Value} {below : List Frame} {meth : Method} {c : Code} {H : Heap} {locs : List Loc} {cells slots : Nat} {Q : State → Prop} {A : Nat → Prop} {ls : Array Slot} {D : va_G} {d : Nat → ClassId} {ad : Nat → Nat} {ba : Nat → Nat} {ta : Nat → Nat} {imgs : va_W} {room : Nat → Int32} {work : Nat → Int32} {price : Nat → Int32} {whom : Nat → Int32} {bday : Nat → Int32} {units : Nat → Int32} {worth : Nat → Int32} {due : Nat → Int32} {under : Nat → Int32} {people : Int32} {askings : Int32} {hangs : Int32} {items : Int32} {many : Nat → Int32} {slip : Nat → Nat → Int32} {became : Nat → Int32} {left : Nat → Int32} {what : Nat → Int32} {which : Nat → Int32} {whose : Nat → Int32} {place : Nat → Int32} {deeds : Int32} {day : Int32} {won : Int32} {lost : Int32} {kept : Int32} {text : Nat → Int32} {typed : Int32} {rest : Nat → Int32} {bestSet : Int32} {tenths : Nat → Int32} {sortWorth : Nat → Int32} {sortDays : Nat → Int32} {row : Nat → Int32} {trace : Int64} {x1 : Int32} {r : Int32} (hx : p.tables.exec = Jvm.exec) (hb : c.code = cX0_now) (hml : c.maxLocals = 7) (hown : s.vm.findClass RX0 = some m.cls) (hts : ∀ w ∈ lw_all, w.before args s = true) (hN : NX s) (hA : ∀ q, s.heap.size ≤ q → A q) (hRf : 0 ≤ R.frames) (hRl : 0 ≤ R.locals) (hRc : cells ≤ R.cells) (hRs : slots ≤ R.slots) (hf : x_now many deeds day won lost x1 = some r) (hC : HC D gcl (gty d) A (xw d ad ba ta imgs room work price whom bday units worth due under people askings hangs items many slip became left what which whose place deeds day won lost kept text typed rest bestSet tenths sortWorth sortDays row trace) s H locs) (hl : lv_has ls 7 [(0, .ref (ad 0)), (1, .int x1)]) (K : ∀ (H : Heap) (locs : List Loc) (ls : Array Slot) (pc : Nat), narrow .int (.int r) = .int r → HC D gcl (gty d) A (xw d ad ba ta imgs room work price whom bday units worth due under people askings hangs items many slip became left what which whose place deeds day won lost kept text typed rest bestSet tenths sortWorth sortDays row trace) s H locs → decode cX0_now pc = .ok (.ireturn, 1) → W p l e R s m args below meth c H locs cells slots Q (F0 m pc ls [.int r])) : W p l e R s m args below meth c H locs cells slots Q (F0 m 0 ls []) := by
  unfold x_now at hf
  refine lv_iconst (v := 0) hx hb dX0_now_0 (by decide) ?_
  refine lv_istore_n (lv' := [(2, .int 0), (0, .ref (ad 0)), (1, .int x1)]) hx hb dX0_now_1 rfl hl (by decide) rfl (fun ls hl => ?_)
  refine lv_aload_n hx hb dX0_now_2 rfl (lv_at hl 1 rfl) ?_
  refine va_get (ci := 0) (v := .ref (ta 0)) (C := RX0) (T := TX0) (N := 13) hx hb hts in_X0 hown hC.1 hC.2.1 (26) rfl rfl 1 (by decide) (hts _ q305) (fun _ h9 => h9) rfl dX0_now_3 ?_
  refine va_getN (ci := 2) (v := .ref (ta 1)) (C := RX2) (T := TX2) (N := 12) (host := "SleeveSlips") hx hb hts in_X2 hown hC.1 hC.2.1 (10) rfl rfl 0 (by decide) (va_Nw.use rfl (hN.1 33)) (fun _ h9 => h9) rfl dX0_now_6 ?_
  refine lv_astore_n (lv' := [(3, .ref (ta 1)), (2, .int 0), (0, .ref (ad 0)), (1, .int x1)]) hx hb dX0_now_9 rfl hl (by decide) rfl (fun ls hl => ?_)
  refine lv_aload_n hx hb dX0_now_10 rfl (lv_at hl 0 rfl) ?_
  refine va_alen (v := 4) hx hb hC.1 hC.2.1 11 4 rfl rfl rfl dX0_now_11 ?_
  refine lv_istore (lv' := [(4, .int 4), (3, .ref (ta 1)), (2, .int 0), (0, .ref (ad 0)), (1, .int x1)]) hx hb dX0_now_12 hl (by decide) rfl (fun ls hl => ?_)
  refine lv_iconst (v := 0) hx hb dX0_now_14 (by decide) ?_
  refine lv_istore (lv' := [(5, .int 0), (4, .int 4), (3, .ref (ta 1)), (2, .int 0), (0, .ref (ad 0)), (1, .int x1)]) hx hb dX0_now_15 hl (by decide) rfl (fun ls hl => ?_)
  obtain ⟨x2_44, hL, hf⟩ := bnd_some hf
  have X_17 : ∀ (H : Heap) (locs : List Loc) (ls : Array Slot), HC D gcl (gty d) A (xw d ad ba ta imgs room work price whom bday units worth due under people askings hangs items many slip became left what which whose place deeds day won lost kept text typed rest bestSet tenths sortWorth sortDays row trace) s H locs → lv_has ls 7 [(0, .ref (ad 0)), (1, .int x1), (2, .int x2_44)] → W p l e R s m args below meth c H locs cells slots Q (F0 m 44 ls []) := by
    intro H locs ls hC hl
    refine lv_iload_n hx hb dX0_now_44 rfl (lv_at hl 1 rfl) ?_
    by_cases c_45_0 : x1 = 0
    · have hf := if_t hf c_45_0
      refine lv_tableIn (tgt := 80) hx hb dX0_now_45 (by rw [c_45_0]; decide) (by rw [c_45_0]; decide) (by rw [c_45_0]; rfl) (by decide) ?_
      refine lv_aload_n hx hb dX0_now_80 rfl (lv_at hl 0 rfl) ?_
      refine va_get (ci := 0) (v := .ref (ta 0)) (C := RX0) (T := TX0) (N := 13) hx hb hts in_X0 hown hC.1 hC.2.1 (26) rfl rfl 1 (by decide) (hts _ q305) (fun _ h9 => h9) rfl dX0_now_81 ?_
      refine va_getN (ci := 2) (v := .int day) (C := RX2) (T := TX2) (N := 12) (host := "SleeveSlips") hx hb hts in_X2 hown hC.1 hC.2.1 (10) rfl rfl 8 (by decide) (va_Nw.use rfl (hN.1 42)) (fun _ h9 => h9) rfl dX0_now_84 ?_
      have e_1 := (Option.some.inj hf)
      subst e_1
      exact K H locs ls _ rfl hC dX0_now_87
    · have hf := if_f hf c_45_0
      by_cases c_45_1 : x1 = 1
      · have hf := if_t hf c_45_1
        refine lv_tableIn (tgt := 88) hx hb dX0_now_45 (by rw [c_45_1]; decide) (by rw [c_45_1]; decide) (by rw [c_45_1]; rfl) (by decide) ?_
        refine lv_aload_n hx hb dX0_now_88 rfl (lv_at hl 0 rfl) ?_
        refine va_get (ci := 0) (v := .ref (ta 0)) (C := RX0) (T := TX0) (N := 13) hx hb hts in_X0 hown hC.1 hC.2.1 (26) rfl rfl 1 (by decide) (hts _ q305) (fun _ h9 => h9) rfl dX0_now_89 ?_
        refine va_getN (ci := 2) (v := .int won) (C := RX2) (T := TX2) (N := 12) (host := "SleeveSlips") hx hb hts in_X2 hown hC.1 hC.2.1 (10) rfl rfl 9 (by decide) (va_Nw.use rfl (hN.1 43)) (fun _ h9 => h9) rfl dX0_now_92 ?_
        have e_1 := (Option.some.inj hf)
        subst e_1
        exact K H locs ls _ rfl hC dX0_now_95
      · have hf := if_f hf c_45_1
        by_cases c_45_2 : x1 = 2
        · have hf := if_t hf c_45_2
          refine lv_tableIn (tgt := 96) hx hb dX0_now_45 (by rw [c_45_2]; decide) (by rw [c_45_2]; decide) (by rw [c_45_2]; rfl) (by decide) ?_
          refine lv_aload_n hx hb dX0_now_96 rfl (lv_at hl 0 rfl) ?_
          refine va_get (ci := 0) (v := .ref (ta 0)) (C := RX0) (T := TX0) (N := 13) hx hb hts in_X0 hown hC.1 hC.2.1 (26) rfl rfl 1 (by decide) (hts _ q305) (fun _ h9 => h9) rfl dX0_now_97 ?_
          refine va_getN (ci := 2) (v := .int lost) (C := RX2) (T := TX2) (N := 12) (host := "SleeveSlips") hx hb hts in_X2 hown hC.1 hC.2.1 (10) rfl rfl 10 (by decide) (va_Nw.use rfl (hN.1 44)) (fun _ h9 => h9) rfl dX0_now_100 ?_
          have e_1 := (Option.some.inj hf)
          subst e_1
          exact K H locs ls _ rfl hC dX0_now_103
        · have hf := if_f hf c_45_2
          by_cases c_45_3 : x1 = 3
          · have hf := if_t hf c_45_3
            refine lv_tableIn (tgt := 104) hx hb dX0_now_45 (by rw [c_45_3]; decide) (by rw [c_45_3]; decide) (by rw [c_45_3]; rfl) (by decide) ?_
            refine lv_iload_n hx hb dX0_now_104 rfl (lv_at hl 2 rfl) ?_
            have e_1 := (Option.some.inj hf)
            subst e_1
            exact K H locs ls _ rfl hC dX0_now_105
          · have hf := if_f hf c_45_3
            by_cases c_45_4 : x1 = 4
            · have hf := if_t hf c_45_4
              refine lv_tableIn (tgt := 106) hx hb dX0_now_45 (by rw [c_45_4]; decide) (by rw [c_45_4]; decide) (by rw [c_45_4]; rfl) (by decide) ?_
              refine lv_aload_n hx hb dX0_now_106 rfl (lv_at hl 0 rfl) ?_
              refine va_get (ci := 0) (v := .ref (ta 0)) (C := RX0) (T := TX0) (N := 13) hx hb hts in_X0 hown hC.1 hC.2.1 (26) rfl rfl 1 (by decide) (hts _ q305) (fun _ h9 => h9) rfl dX0_now_107 ?_
              refine va_getN (ci := 2) (v := .int deeds) (C := RX2) (T := TX2) (N := 12) (host := "SleeveSlips") hx hb hts in_X2 hown hC.1 hC.2.1 (10) rfl rfl 7 (by decide) (va_Nw.use rfl (hN.1 40)) (fun _ h9 => h9) rfl dX0_now_110 ?_
              have e_1 := (Option.some.inj hf)
              subst e_1
              exact K H locs ls _ rfl hC dX0_now_113
            · have hf := if_f hf c_45_4
              refine lv_tableOut (tgt := 114) hx hb dX0_now_45 (by have n0 := lv_neT c_45_0 (show (0 : Int32).toInt = 0 by decide); have n1 := lv_neT c_45_1 (show (1 : Int32).toInt = 1 by decide); have n2 := lv_neT c_45_2 (show (2 : Int32).toInt = 2 by decide); have n3 := lv_neT c_45_3 (show (3 : Int32).toInt = 3 by decide); have n4 := lv_neT c_45_4 (show (4 : Int32).toInt = 4 by decide); first | omega | (rcases Int.lt_or_le (x1).toInt 0 with q | q <;> omega)) (by decide) ?_
              refine lv_iconst (v := (-1)) hx hb dX0_now_114 (by decide) ?_
              have e_1 := (Option.some.inj hf)
              subst e_1
              exact K H locs ls _ rfl hC dX0_now_115
  have L_17 : ∀ (n_17 : Nat) (x2_17 : Int32) (x5_17 : Int32), x_now_L17 many n_17 x2_17 x5_17 = some x2_44 → ∀ (H : Heap) (locs : List Loc) (ls : Array Slot), HC D gcl (gty d) A (xw d ad ba ta imgs room work price whom bday units worth due under people askings hangs items many slip became left what which whose place deeds day won lost kept text typed rest bestSet tenths sortWorth sortDays row trace) s H locs → lv_has ls 7 [(0, .ref (ad 0)), (1, .int x1), (2, .int x2_17), (3, .ref (ta 1)), (4, .int 4), (5, .int x5_17)] → W p l e R s m args below meth c H locs cells slots Q (F0 m 17 ls []) := by
    intro n_17
    induction n_17 with
    | zero => intro _ _ hf; cases hf
    | succ n_17 ih =>
      intro x2_17 x5_17 hf H locs ls hC hl
      rw [x_now_L17_s] at hf
      refine lv_iload hx hb dX0_now_17 (lv_at hl 5 rfl) ?_
      refine lv_iload hx hb dX0_now_19 (lv_at hl 4 rfl) ?_
      refine lv_icmp_ge (tgt := 44) hx hb dX0_now_21 (by decide) (fun c_21 => ?_) (fun c_21 => ?_)
      · have hf := if_t hf c_21
        have e_1 := (Option.some.inj hf)
        subst e_1
        exact X_17 H locs ls hC (lv_sub hl [0, 1, 2] rfl)
      · have hf := if_f hf c_21
        refine lv_aload_n hx hb dX0_now_24 rfl (lv_at hl 3 rfl) ?_
        refine lv_iload hx hb dX0_now_25 (lv_at hl 5 rfl) ?_
        obtain ⟨hi_27, hf⟩ := ck_some hf
        refine va_aldq hx hb hC.1 hC.2.1 11 4 rfl rfl hi_27 dX0_now_27 ?_
        refine lv_astore (lv' := [(6, .ref (ta (2 + x5_17.toNatClampNeg))), (0, .ref (ad 0)), (1, .int x1), (2, .int x2_17), (3, .ref (ta 1)), (4, .int 4), (5, .int x5_17)]) hx hb dX0_now_28 hl (by decide) rfl (fun ls hl => ?_)
        refine lv_iload_n hx hb dX0_now_30 rfl (lv_at hl 3 rfl) ?_
        refine lv_aload hx hb dX0_now_31 (lv_at hl 0 rfl) ?_
        refine va_getN (ci := 3) (v := .int (many x5_17.toNatClampNeg)) (C := RX3) (T := TX3) (N := 2) (host := "SleeveSlips") hx hb hts in_X3 hown hC.1 hC.2.1 (12 + x5_17.toNatClampNeg) (xw_sl (vp_lt hi_27)) rfl 1 (by decide) (va_Nw.use rfl (hN.1 31)) (fun _ h9 => h9) rfl dX0_now_33 ?_
        refine lv_iadd hx hb dX0_now_36 ?_
        refine lv_istore_n (lv' := [(2, .int (x2_17 + (many x5_17.toNatClampNeg))), (6, .ref (ta (2 + x5_17.toNatClampNeg))), (0, .ref (ad 0)), (1, .int x1), (3, .ref (ta 1)), (4, .int 4), (5, .int x5_17)]) hx hb dX0_now_37 rfl hl (by decide) rfl (fun ls hl => ?_)
        refine lv_iinc (v := x5_17 + 1) (lv' := [(5, .int (x5_17 + 1)), (2, .int (x2_17 + (many x5_17.toNatClampNeg))), (6, .ref (ta (2 + x5_17.toNatClampNeg))), (0, .ref (ad 0)), (1, .int x1), (3, .ref (ta 1)), (4, .int 4)]) hx hb dX0_now_38 hl (k := 6) rfl rfl (by decide) rfl (fun ls hl => ?_)
        refine lv_goto (tgt := 17) hx hb dX0_now_41 (by decide) ?_
        exact ih _ _ hf H locs ls hC (lv_sub hl [3, 4, 1, 5, 6, 0] rfl)
  exact L_17 _ _ _ hL H locs ls hC (lv_sub hl [4, 5, 3, 2, 1, 0] rfl)
set_option maxRecDepth 100000 in
theorem c_x_now {l : Launch} {sz : Nat} {D : va_G} {d : Nat → ClassId} {ad : Nat → Nat} {ba : Nat → Nat} {ta : Nat → Nat} {imgs : va_W} {room : Nat → Int32} {work : Nat → Int32} {price : Nat → Int32} {whom : Nat → Int32} {bday : Nat → Int32} {units : Nat → Int32} {worth : Nat → Int32} {due : Nat → Int32} {under : Nat → Int32} {people : Int32} {askings : Int32} {hangs : Int32} {items : Int32} {many : Nat → Int32} {slip : Nat → Nat → Int32} {became : Nat → Int32} {left : Nat → Int32} {what : Nat → Int32} {which : Nat → Int32} {whose : Nat → Int32} {place : Nat → Int32} {deeds : Int32} {day : Int32} {won : Int32} {lost : Int32} {kept : Int32} {text : Nat → Int32} {typed : Int32} {rest : Nat → Int32} {bestSet : Int32} {tenths : Nat → Int32} {sortWorth : Nat → Int32} {sortDays : Nat → Int32} {row : Nat → Int32} {trace : Int64} {x1 : Int32} {r : Int32} (hf : x_now many deeds day won lost x1 = some r) : MI l yX0_now (ws_ yX0_now cX0_now 7 (some .int)) { frames := 0, cells := 0, slots := 0, locals := 0 } D gcl (gty d) NX (xw d ad ba ta imgs room work price whom bday units worth due under people askings hangs items many slip became left what which whose place deeds day won lost kept text typed rest bestSet tenths sortWorth sortDays row trace) (xw d ad ba ta imgs room work price whom bday units worth due under people askings hangs items many slip became left what which whose place deeds day won lost kept text typed rest bestSet tenths sortWorth sortDays row trace) sz [.ref (ad 0), .int x1] r :=
  MI.of (by decide) [.ref (ad 0), .int x1] [(0, .ref (ad 0)), (1, .int x1)] (Nat.le_of_ble_eq_true rfl) rfl (fun p e s m below meth c ls Q hx hb hml hown hts hN hA hC hl K => w_x_now hx hb hml hown hts hN hA (Nat.le_refl _) (Nat.le_refl _) (Nat.le_refl _) (Nat.le_refl _) hf hC hl K)

def x_allTenths (tenths : Nat → Int32) : Option (Int32) :=
  some (((tenths (0 : Int32).toNatClampNeg) + (tenths (1 : Int32).toNatClampNeg)) + (tenths (2 : Int32).toNatClampNeg))
set_option maxHeartbeats 4000000 in
set_option maxRecDepth 100000 in
theorem w_x_allTenths {p : Program} {l : Launch} {e : Env} {R : Room} {s : State} {m : MethodId} {args : Array Value} {below : List Frame} {meth : Method} {c : Code} {H : Heap} {locs : List Loc} {cells slots : Nat} {Q : State → Prop} {A : Nat → Prop} {ls : Array Slot} {D : va_G} {d : Nat → ClassId} {ad : Nat → Nat} {ba : Nat → Nat} {ta : Nat → Nat} {imgs : va_W} {room : Nat → Int32} {work : Nat → Int32} {price : Nat → Int32} {whom : Nat → Int32} {bday : Nat → Int32} {units : Nat → Int32} {worth : Nat → Int32} {due : Nat → Int32} {under : Nat → Int32} {people : Int32} {askings : Int32} {hangs : Int32} {items : Int32} {many : Nat → Int32} {slip : Nat → Nat → Int32} {became : Nat → Int32} {left : Nat → Int32} {what : Nat → Int32} {which : Nat → Int32} {whose : Nat → Int32} {place : Nat → Int32} {deeds : Int32} {day : Int32} {won : Int32} {lost : Int32} {kept : Int32} {text : Nat → Int32} {typed : Int32} {rest : Nat → Int32} {bestSet : Int32} {tenths : Nat → Int32} {sortWorth : Nat → Int32} {sortDays : Nat → Int32} {row : Nat → Int32} {trace : Int64} {r : Int32} (hx : p.tables.exec = Jvm.exec) (hb : c.code = cX0_allTenths) (hml : c.maxLocals = 1) (hown : s.vm.findClass RX0 = some m.cls) (hts : ∀ w ∈ lw_all, w.before args s = true) (hN : NX s) (hA : ∀ q, s.heap.size ≤ q → A q) (hRf : 0 ≤ R.frames) (hRl : 0 ≤ R.locals) (hRc : cells ≤ R.cells) (hRs : slots ≤ R.slots) (hf : x_allTenths tenths = some r) (hC : HC D gcl (gty d) A (xw d ad ba ta imgs room work price whom bday units worth due under people askings hangs items many slip became left what which whose place deeds day won lost kept text typed rest bestSet tenths sortWorth sortDays row trace) s H locs) (hl : lv_has ls 1 [(0, .ref (ad 0))]) (K : ∀ (H : Heap) (locs : List Loc) (ls : Array Slot) (pc : Nat), narrow .int (.int r) = .int r → HC D gcl (gty d) A (xw d ad ba ta imgs room work price whom bday units worth due under people askings hangs items many slip became left what which whose place deeds day won lost kept text typed rest bestSet tenths sortWorth sortDays row trace) s H locs → decode cX0_allTenths pc = .ok (.ireturn, 1) → W p l e R s m args below meth c H locs cells slots Q (F0 m pc ls [.int r])) : W p l e R s m args below meth c H locs cells slots Q (F0 m 0 ls []) := by
  unfold x_allTenths at hf
  refine lv_aload_n hx hb dX0_allTenths_0 rfl (lv_at hl 0 rfl) ?_
  refine va_get (ci := 0) (v := .ref (ad 3)) (C := RX0) (T := TX0) (N := 13) hx hb hts in_X0 hown hC.1 hC.2.1 (26) rfl rfl 7 (by decide) (hts _ q315) (fun _ h9 => h9) rfl dX0_allTenths_1 ?_
  refine lv_iconst (v := 0) hx hb dX0_allTenths_4 (by decide) ?_
  refine va_iald hx hb hC.1 hC.2.1 (29) 0 rfl rfl (vp_in_iff.mpr (by decide)) dX0_allTenths_5 ?_
  refine lv_aload_n hx hb dX0_allTenths_6 rfl (lv_at hl 0 rfl) ?_
  refine va_get (ci := 0) (v := .ref (ad 3)) (C := RX0) (T := TX0) (N := 13) hx hb hts in_X0 hown hC.1 hC.2.1 (26) rfl rfl 7 (by decide) (hts _ q315) (fun _ h9 => h9) rfl dX0_allTenths_7 ?_
  refine lv_iconst (v := 1) hx hb dX0_allTenths_10 (by decide) ?_
  refine va_iald hx hb hC.1 hC.2.1 (29) 0 rfl rfl (vp_in_iff.mpr (by decide)) dX0_allTenths_11 ?_
  refine lv_iadd hx hb dX0_allTenths_12 ?_
  refine lv_aload_n hx hb dX0_allTenths_13 rfl (lv_at hl 0 rfl) ?_
  refine va_get (ci := 0) (v := .ref (ad 3)) (C := RX0) (T := TX0) (N := 13) hx hb hts in_X0 hown hC.1 hC.2.1 (26) rfl rfl 7 (by decide) (hts _ q315) (fun _ h9 => h9) rfl dX0_allTenths_14 ?_
  refine lv_iconst (v := 2) hx hb dX0_allTenths_17 (by decide) ?_
  refine va_iald hx hb hC.1 hC.2.1 (29) 0 rfl rfl (vp_in_iff.mpr (by decide)) dX0_allTenths_18 ?_
  refine lv_iadd hx hb dX0_allTenths_19 ?_
  have e_1 := (Option.some.inj hf)
  subst e_1
  exact K H locs ls _ rfl hC dX0_allTenths_20
set_option maxRecDepth 100000 in
theorem c_x_allTenths {l : Launch} {sz : Nat} {D : va_G} {d : Nat → ClassId} {ad : Nat → Nat} {ba : Nat → Nat} {ta : Nat → Nat} {imgs : va_W} {room : Nat → Int32} {work : Nat → Int32} {price : Nat → Int32} {whom : Nat → Int32} {bday : Nat → Int32} {units : Nat → Int32} {worth : Nat → Int32} {due : Nat → Int32} {under : Nat → Int32} {people : Int32} {askings : Int32} {hangs : Int32} {items : Int32} {many : Nat → Int32} {slip : Nat → Nat → Int32} {became : Nat → Int32} {left : Nat → Int32} {what : Nat → Int32} {which : Nat → Int32} {whose : Nat → Int32} {place : Nat → Int32} {deeds : Int32} {day : Int32} {won : Int32} {lost : Int32} {kept : Int32} {text : Nat → Int32} {typed : Int32} {rest : Nat → Int32} {bestSet : Int32} {tenths : Nat → Int32} {sortWorth : Nat → Int32} {sortDays : Nat → Int32} {row : Nat → Int32} {trace : Int64} {r : Int32} (hf : x_allTenths tenths = some r) : MI l yX0_allTenths (ws_ yX0_allTenths cX0_allTenths 1 (some .int)) { frames := 0, cells := 0, slots := 0, locals := 0 } D gcl (gty d) NX (xw d ad ba ta imgs room work price whom bday units worth due under people askings hangs items many slip became left what which whose place deeds day won lost kept text typed rest bestSet tenths sortWorth sortDays row trace) (xw d ad ba ta imgs room work price whom bday units worth due under people askings hangs items many slip became left what which whose place deeds day won lost kept text typed rest bestSet tenths sortWorth sortDays row trace) sz [.ref (ad 0)] r :=
  MI.of (by decide) [.ref (ad 0)] [(0, .ref (ad 0))] (Nat.le_of_ble_eq_true rfl) rfl (fun p e s m below meth c ls Q hx hb hml hown hts hN hA hC hl K => w_x_allTenths hx hb hml hown hts hN hA (Nat.le_refl _) (Nat.le_refl _) (Nat.le_refl _) (Nat.le_refl _) hf hC hl K)

def x_sort (tenths : Nat → Int32) (sortWorth : Nat → Int32) (sortDays : Nat → Int32) (x1 : Int32) (x2 : Int32) (x3 : Int32) (x4 : Int32) : Option (Int32 × (Nat → Int32) × (Nat → Int32) × (Nat → Int32)) :=
  bnd (x_in x1 0 2) fun r_3 =>
  if r_3 = 0 then (some ((-1), tenths, sortWorth, sortDays)) else
  bnd (x_in x2 0 10) fun r_13 =>
  if r_13 = 0 then (some ((-1), tenths, sortWorth, sortDays)) else
  bnd (x_in x3 1 99) fun r_23 =>
  if r_23 = 0 then (some ((-1), tenths, sortWorth, sortDays)) else
  bnd (x_in x4 1 3) fun r_33 =>
  if r_33 = 0 then (some ((-1), tenths, sortWorth, sortDays)) else
  bnd (x_allTenths tenths) fun r_40 =>
  ck x1 3 <| if ((r_40 - (tenths x1.toNatClampNeg)) + x2) ≤ 10 then (ck x1 3 <| ck x1 3 <| ck x1 3 <| bnd (x_allTenths (upd tenths x1.toNatClampNeg x2)) fun r_82 =>
  some (r_82, upd tenths x1.toNatClampNeg x2, upd sortWorth x1.toNatClampNeg x3, upd sortDays x1.toNatClampNeg x4)) else
  some ((-1), tenths, sortWorth, sortDays)
set_option maxHeartbeats 4000000 in
set_option maxRecDepth 100000 in
theorem w_x_sort {p : Program} {l : Launch} {e : Env} {R : Room} {s : State} {m : MethodId} {args : Array Value} {below : List Frame} {meth : Method} {c : Code} {H : Heap} {locs : List Loc} {cells slots : Nat} {Q : State → Prop} {A : Nat → Prop} {ls : Array Slot} {D : va_G} {d : Nat → ClassId} {ad : Nat → Nat} {ba : Nat → Nat} {ta : Nat → Nat} {imgs : va_W} {room : Nat → Int32} {work : Nat → Int32} {price : Nat → Int32} {whom : Nat → Int32} {bday : Nat → Int32} {units : Nat → Int32} {worth : Nat → Int32} {due : Nat → Int32} {under : Nat → Int32} {people : Int32} {askings : Int32} {hangs : Int32} {items : Int32} {many : Nat → Int32} {slip : Nat → Nat → Int32} {became : Nat → Int32} {left : Nat → Int32} {what : Nat → Int32} {which : Nat → Int32} {whose : Nat → Int32} {place : Nat → Int32} {deeds : Int32} {day : Int32} {won : Int32} {lost : Int32} {kept : Int32} {text : Nat → Int32} {typed : Int32} {rest : Nat → Int32} {bestSet : Int32} {tenths : Nat → Int32} {sortWorth : Nat → Int32} {sortDays : Nat → Int32} {row : Nat → Int32} {trace : Int64} {x1 : Int32} {x2 : Int32} {x3 : Int32} {x4 : Int32} {r : Int32} {tenths_r : Nat → Int32} {sortWorth_r : Nat → Int32} {sortDays_r : Nat → Int32} (hx : p.tables.exec = Jvm.exec) (hb : c.code = cX0_sort) (hml : c.maxLocals = 5) (hown : s.vm.findClass RX0 = some m.cls) (hts : ∀ w ∈ lw_all, w.before args s = true) (hN : NX s) (hA : ∀ q, s.heap.size ≤ q → A q) (hRf : 1 ≤ R.frames) (hRl : 22 ≤ R.locals) (hRc : cells ≤ R.cells) (hRs : slots ≤ R.slots) (hf : x_sort tenths sortWorth sortDays x1 x2 x3 x4 = some (r, tenths_r, sortWorth_r, sortDays_r)) (hC : HC D gcl (gty d) A (xw d ad ba ta imgs room work price whom bday units worth due under people askings hangs items many slip became left what which whose place deeds day won lost kept text typed rest bestSet tenths sortWorth sortDays row trace) s H locs) (hl : lv_has ls 5 [(0, .ref (ad 0)), (1, .int x1), (2, .int x2), (3, .int x3), (4, .int x4)]) (K : ∀ (H : Heap) (locs : List Loc) (ls : Array Slot) (pc : Nat), narrow .int (.int r) = .int r → HC D gcl (gty d) A (xw d ad ba ta imgs room work price whom bday units worth due under people askings hangs items many slip became left what which whose place deeds day won lost kept text typed rest bestSet tenths_r sortWorth_r sortDays_r row trace) s H locs → decode cX0_sort pc = .ok (.ireturn, 1) → W p l e R s m args below meth c H locs cells slots Q (F0 m pc ls [.int r])) : W p l e R s m args below meth c H locs cells slots Q (F0 m 0 ls []) := by
  unfold x_sort at hf
  refine lv_iload_n hx hb dX0_sort_0 rfl (lv_at hl 1 rfl) ?_
  refine lv_iconst (v := 0) hx hb dX0_sort_1 (by decide) ?_
  refine lv_iconst (v := 2) hx hb dX0_sort_2 (by decide) ?_
  obtain ⟨r_3, hcall, hf⟩ := bnd_some hf
  refine hc_i (va_runS (As := [.int x1, .int 0, .int 2]) (rest := []) ⟨hx, hb, hml, hown, hts⟩ (c_x_in hcall) (va_cwS 3 hts (lw_S q358 q359 q48 q360) rfl rfl rfl (by decide +kernel) ⟨(Nat.le_trans (Nat.le_of_ble_eq_true rfl) hRf), (Nat.le_trans (Nat.le_of_ble_eq_true rfl) hRl)⟩) (pre_S (fun _ _ _ _ h => h) (fun _ _ _ => trivial) hC) rfl rfl hl.1 rfl (lv_room (Nat.le_of_ble_eq_true rfl)) dX0_sort_3 ⟨hRc, hRs⟩) hA hC (fun H locs hC => ?_)
  refine lv_if_eq (tgt := 57) hx hb dX0_sort_6 (by decide) (fun c_6 => ?_) (fun c_6 => ?_)
  · have hf := if_t hf c_6
    refine lv_iconst (v := (-1)) hx hb dX0_sort_57 (by decide) ?_
    obtain ⟨e_1, e_2, e_3, e_4⟩ := so_4 (Option.some.inj hf)
    subst e_1
    subst e_2
    subst e_3
    subst e_4
    exact K H locs ls _ rfl hC dX0_sort_58
  · have hf := if_f hf c_6
    refine lv_iload_n hx hb dX0_sort_9 rfl (lv_at hl 2 rfl) ?_
    refine lv_iconst (v := 0) hx hb dX0_sort_10 (by decide) ?_
    refine lv_bipush (v := 10) hx hb dX0_sort_11 (by decide) ?_
    obtain ⟨r_13, hcall, hf⟩ := bnd_some hf
    refine hc_i (va_runS (As := [.int x2, .int 0, .int 10]) (rest := []) ⟨hx, hb, hml, hown, hts⟩ (c_x_in hcall) (va_cwS 3 hts (lw_S q358 q359 q48 q360) rfl rfl rfl (by decide +kernel) ⟨(Nat.le_trans (Nat.le_of_ble_eq_true rfl) hRf), (Nat.le_trans (Nat.le_of_ble_eq_true rfl) hRl)⟩) (pre_S (fun _ _ _ _ h => h) (fun _ _ _ => trivial) hC) rfl rfl hl.1 rfl (lv_room (Nat.le_of_ble_eq_true rfl)) dX0_sort_13 ⟨hRc, hRs⟩) hA hC (fun H locs hC => ?_)
    refine lv_if_eq (tgt := 57) hx hb dX0_sort_16 (by decide) (fun c_16 => ?_) (fun c_16 => ?_)
    · have hf := if_t hf c_16
      refine lv_iconst (v := (-1)) hx hb dX0_sort_57 (by decide) ?_
      obtain ⟨e_1, e_2, e_3, e_4⟩ := so_4 (Option.some.inj hf)
      subst e_1
      subst e_2
      subst e_3
      subst e_4
      exact K H locs ls _ rfl hC dX0_sort_58
    · have hf := if_f hf c_16
      refine lv_iload_n hx hb dX0_sort_19 rfl (lv_at hl 3 rfl) ?_
      refine lv_iconst (v := 1) hx hb dX0_sort_20 (by decide) ?_
      refine lv_bipush (v := 99) hx hb dX0_sort_21 (by decide) ?_
      obtain ⟨r_23, hcall, hf⟩ := bnd_some hf
      refine hc_i (va_runS (As := [.int x3, .int 1, .int 99]) (rest := []) ⟨hx, hb, hml, hown, hts⟩ (c_x_in hcall) (va_cwS 3 hts (lw_S q358 q359 q48 q360) rfl rfl rfl (by decide +kernel) ⟨(Nat.le_trans (Nat.le_of_ble_eq_true rfl) hRf), (Nat.le_trans (Nat.le_of_ble_eq_true rfl) hRl)⟩) (pre_S (fun _ _ _ _ h => h) (fun _ _ _ => trivial) hC) rfl rfl hl.1 rfl (lv_room (Nat.le_of_ble_eq_true rfl)) dX0_sort_23 ⟨hRc, hRs⟩) hA hC (fun H locs hC => ?_)
      refine lv_if_eq (tgt := 57) hx hb dX0_sort_26 (by decide) (fun c_26 => ?_) (fun c_26 => ?_)
      · have hf := if_t hf c_26
        refine lv_iconst (v := (-1)) hx hb dX0_sort_57 (by decide) ?_
        obtain ⟨e_1, e_2, e_3, e_4⟩ := so_4 (Option.some.inj hf)
        subst e_1
        subst e_2
        subst e_3
        subst e_4
        exact K H locs ls _ rfl hC dX0_sort_58
      · have hf := if_f hf c_26
        refine lv_iload hx hb dX0_sort_29 (lv_at hl 4 rfl) ?_
        refine lv_iconst (v := 1) hx hb dX0_sort_31 (by decide) ?_
        refine lv_iconst (v := 3) hx hb dX0_sort_32 (by decide) ?_
        obtain ⟨r_33, hcall, hf⟩ := bnd_some hf
        refine hc_i (va_runS (As := [.int x4, .int 1, .int 3]) (rest := []) ⟨hx, hb, hml, hown, hts⟩ (c_x_in hcall) (va_cwS 3 hts (lw_S q358 q359 q48 q360) rfl rfl rfl (by decide +kernel) ⟨(Nat.le_trans (Nat.le_of_ble_eq_true rfl) hRf), (Nat.le_trans (Nat.le_of_ble_eq_true rfl) hRl)⟩) (pre_S (fun _ _ _ _ h => h) (fun _ _ _ => trivial) hC) rfl rfl hl.1 rfl (lv_room (Nat.le_of_ble_eq_true rfl)) dX0_sort_33 ⟨hRc, hRs⟩) hA hC (fun H locs hC => ?_)
        refine lv_if_eq (tgt := 57) hx hb dX0_sort_36 (by decide) (fun c_36 => ?_) (fun c_36 => ?_)
        · have hf := if_t hf c_36
          refine lv_iconst (v := (-1)) hx hb dX0_sort_57 (by decide) ?_
          obtain ⟨e_1, e_2, e_3, e_4⟩ := so_4 (Option.some.inj hf)
          subst e_1
          subst e_2
          subst e_3
          subst e_4
          exact K H locs ls _ rfl hC dX0_sort_58
        · have hf := if_f hf c_36
          refine lv_aload_n hx hb dX0_sort_39 rfl (lv_at hl 0 rfl) ?_
          obtain ⟨r_40, hcall, hf⟩ := bnd_some hf
          refine hc_i (va_runV (C := RX0) (As := []) (rest := []) ⟨hx, hb, hml, hown, hts⟩ (c_x_allTenths hcall) (cwV 0 hts (lw_V q680 q682 qs18 q48 q683) rfl rfl rfl (by decide +kernel) ⟨(Nat.le_trans (Nat.le_of_ble_eq_true rfl) hRf), (Nat.le_trans (Nat.le_of_ble_eq_true rfl) hRl)⟩) (pre_V (q0 := 26) (ci := 0) NX.calling (fun U _ hW => NX.warm hW hN) hC rfl rfl) rfl rfl hl.1 rfl (lv_room (Nat.le_of_ble_eq_true rfl)) dX0_sort_40 ⟨hRc, hRs⟩) hA hC (fun H locs hC => ?_)
          refine lv_aload_n hx hb dX0_sort_43 rfl (lv_at hl 0 rfl) ?_
          refine va_get (ci := 0) (v := .ref (ad 3)) (C := RX0) (T := TX0) (N := 13) hx hb hts in_X0 hown hC.1 hC.2.1 (26) rfl rfl 7 (by decide) (hts _ q315) (fun _ h9 => h9) rfl dX0_sort_44 ?_
          refine lv_iload_n hx hb dX0_sort_47 rfl (lv_at hl 1 rfl) ?_
          obtain ⟨hi_48, hf⟩ := ck_some hf
          refine va_iald hx hb hC.1 hC.2.1 (29) 0 rfl rfl hi_48 dX0_sort_48 ?_
          refine lv_isub hx hb dX0_sort_49 ?_
          refine lv_iload_n hx hb dX0_sort_50 rfl (lv_at hl 2 rfl) ?_
          refine lv_iadd hx hb dX0_sort_51 ?_
          refine lv_bipush (v := 10) hx hb dX0_sort_52 (by decide) ?_
          refine lv_icmp_le (tgt := 59) hx hb dX0_sort_54 (by decide) (fun c_54 => ?_) (fun c_54 => ?_)
          · have hf := if_t hf c_54
            refine lv_aload_n hx hb dX0_sort_59 rfl (lv_at hl 0 rfl) ?_
            refine va_get (ci := 0) (v := .ref (ad 3)) (C := RX0) (T := TX0) (N := 13) hx hb hts in_X0 hown hC.1 hC.2.1 (26) rfl rfl 7 (by decide) (hts _ q315) (fun _ h9 => h9) rfl dX0_sort_60 ?_
            refine lv_iload_n hx hb dX0_sort_63 rfl (lv_at hl 1 rfl) ?_
            refine lv_iload_n hx hb dX0_sort_64 rfl (lv_at hl 2 rfl) ?_
            obtain ⟨hi_65, hf⟩ := ck_some hf
            refine va_iast hx hb hC.1 hC.2.1 hC.2.2.1 hC.2.2.2 (29) 0 rfl rfl hi_65 dX0_sort_65 (fun H locs hP hD hS => ?_)
            have hC : HC D gcl (gty d) A (xw d ad ba ta imgs room work price whom bday units worth due under people askings hangs items many slip became left what which whose place deeds day won lost kept text typed rest bestSet (upd tenths x1.toNatClampNeg x2) sortWorth sortDays row trace) s H locs := ⟨hC.1, hP, hD, hS⟩
            refine lv_aload_n hx hb dX0_sort_66 rfl (lv_at hl 0 rfl) ?_
            refine va_get (ci := 0) (v := .ref (ad 4)) (C := RX0) (T := TX0) (N := 13) hx hb hts in_X0 hown hC.1 hC.2.1 (26) rfl rfl 8 (by decide) (hts _ q316) (fun _ h9 => h9) rfl dX0_sort_67 ?_
            refine lv_iload_n hx hb dX0_sort_70 rfl (lv_at hl 1 rfl) ?_
            refine lv_iload_n hx hb dX0_sort_71 rfl (lv_at hl 3 rfl) ?_
            obtain ⟨hi_72, hf⟩ := ck_some hf
            refine va_iast hx hb hC.1 hC.2.1 hC.2.2.1 hC.2.2.2 (30) 0 rfl rfl hi_72 dX0_sort_72 (fun H locs hP hD hS => ?_)
            have hC : HC D gcl (gty d) A (xw d ad ba ta imgs room work price whom bday units worth due under people askings hangs items many slip became left what which whose place deeds day won lost kept text typed rest bestSet (upd tenths x1.toNatClampNeg x2) (upd sortWorth x1.toNatClampNeg x3) sortDays row trace) s H locs := ⟨hC.1, hP, hD, hS⟩
            refine lv_aload_n hx hb dX0_sort_73 rfl (lv_at hl 0 rfl) ?_
            refine va_get (ci := 0) (v := .ref (ad 5)) (C := RX0) (T := TX0) (N := 13) hx hb hts in_X0 hown hC.1 hC.2.1 (26) rfl rfl 9 (by decide) (hts _ q317) (fun _ h9 => h9) rfl dX0_sort_74 ?_
            refine lv_iload_n hx hb dX0_sort_77 rfl (lv_at hl 1 rfl) ?_
            refine lv_iload hx hb dX0_sort_78 (lv_at hl 4 rfl) ?_
            obtain ⟨hi_80, hf⟩ := ck_some hf
            refine va_iast hx hb hC.1 hC.2.1 hC.2.2.1 hC.2.2.2 (31) 0 rfl rfl hi_80 dX0_sort_80 (fun H locs hP hD hS => ?_)
            have hC : HC D gcl (gty d) A (xw d ad ba ta imgs room work price whom bday units worth due under people askings hangs items many slip became left what which whose place deeds day won lost kept text typed rest bestSet (upd tenths x1.toNatClampNeg x2) (upd sortWorth x1.toNatClampNeg x3) (upd sortDays x1.toNatClampNeg x4) row trace) s H locs := ⟨hC.1, hP, hD, hS⟩
            refine lv_aload_n hx hb dX0_sort_81 rfl (lv_at hl 0 rfl) ?_
            obtain ⟨r_82, hcall, hf⟩ := bnd_some hf
            refine hc_i (va_runV (C := RX0) (As := []) (rest := []) ⟨hx, hb, hml, hown, hts⟩ (c_x_allTenths hcall) (cwV 0 hts (lw_V q680 q682 qs18 q48 q683) rfl rfl rfl (by decide +kernel) ⟨(Nat.le_trans (Nat.le_of_ble_eq_true rfl) hRf), (Nat.le_trans (Nat.le_of_ble_eq_true rfl) hRl)⟩) (pre_V (q0 := 26) (ci := 0) NX.calling (fun U _ hW => NX.warm hW hN) hC rfl rfl) rfl rfl hl.1 rfl (lv_room (Nat.le_of_ble_eq_true rfl)) dX0_sort_82 ⟨hRc, hRs⟩) hA hC (fun H locs hC => ?_)
            obtain ⟨e_1, e_2, e_3, e_4⟩ := so_4 (Option.some.inj hf)
            subst e_1
            subst e_2
            subst e_3
            subst e_4
            exact K H locs ls _ rfl hC dX0_sort_85
          · have hf := if_f hf c_54
            refine lv_iconst (v := (-1)) hx hb dX0_sort_57 (by decide) ?_
            obtain ⟨e_1, e_2, e_3, e_4⟩ := so_4 (Option.some.inj hf)
            subst e_1
            subst e_2
            subst e_3
            subst e_4
            exact K H locs ls _ rfl hC dX0_sort_58
set_option maxRecDepth 100000 in
theorem c_x_sort {l : Launch} {sz : Nat} {D : va_G} {d : Nat → ClassId} {ad : Nat → Nat} {ba : Nat → Nat} {ta : Nat → Nat} {imgs : va_W} {room : Nat → Int32} {work : Nat → Int32} {price : Nat → Int32} {whom : Nat → Int32} {bday : Nat → Int32} {units : Nat → Int32} {worth : Nat → Int32} {due : Nat → Int32} {under : Nat → Int32} {people : Int32} {askings : Int32} {hangs : Int32} {items : Int32} {many : Nat → Int32} {slip : Nat → Nat → Int32} {became : Nat → Int32} {left : Nat → Int32} {what : Nat → Int32} {which : Nat → Int32} {whose : Nat → Int32} {place : Nat → Int32} {deeds : Int32} {day : Int32} {won : Int32} {lost : Int32} {kept : Int32} {text : Nat → Int32} {typed : Int32} {rest : Nat → Int32} {bestSet : Int32} {tenths : Nat → Int32} {sortWorth : Nat → Int32} {sortDays : Nat → Int32} {row : Nat → Int32} {trace : Int64} {x1 : Int32} {x2 : Int32} {x3 : Int32} {x4 : Int32} {r : Int32} {tenths_r : Nat → Int32} {sortWorth_r : Nat → Int32} {sortDays_r : Nat → Int32} (hf : x_sort tenths sortWorth sortDays x1 x2 x3 x4 = some (r, tenths_r, sortWorth_r, sortDays_r)) : MI l yX0_sort (ws_ yX0_sort cX0_sort 5 (some .int)) { frames := 1, cells := 0, slots := 0, locals := 22 } D gcl (gty d) NX (xw d ad ba ta imgs room work price whom bday units worth due under people askings hangs items many slip became left what which whose place deeds day won lost kept text typed rest bestSet tenths sortWorth sortDays row trace) (xw d ad ba ta imgs room work price whom bday units worth due under people askings hangs items many slip became left what which whose place deeds day won lost kept text typed rest bestSet tenths_r sortWorth_r sortDays_r row trace) sz [.ref (ad 0), .int x1, .int x2, .int x3, .int x4] r :=
  MI.of (by decide) [.ref (ad 0), .int x1, .int x2, .int x3, .int x4] [(0, .ref (ad 0)), (1, .int x1), (2, .int x2), (3, .int x3), (4, .int x4)] (Nat.le_of_ble_eq_true rfl) rfl (fun p e s m below meth c ls Q hx hb hml hown hts hN hA hC hl K => w_x_sort hx hb hml hown hts hN hA (Nat.le_refl _) (Nat.le_refl _) (Nat.le_refl _) (Nat.le_refl _) hf hC hl K)

def x_count (people : Int32) (askings : Int32) (hangs : Int32) (typed : Int32) (tenths : Nat → Int32) (x1 : Int32) : Option (Int32) :=
  if x1 = 0 then (some people) else
  if x1 = 1 then (some askings) else
  if x1 = 2 then (some hangs) else
  if x1 = 3 then (bnd (x_allTenths tenths) fun r_61 =>
  some r_61) else
  if x1 = 4 then (some typed) else
  some (-1)
set_option maxHeartbeats 4000000 in
set_option maxRecDepth 100000 in
theorem w_x_count {p : Program} {l : Launch} {e : Env} {R : Room} {s : State} {m : MethodId} {args : Array Value} {below : List Frame} {meth : Method} {c : Code} {H : Heap} {locs : List Loc} {cells slots : Nat} {Q : State → Prop} {A : Nat → Prop} {ls : Array Slot} {D : va_G} {d : Nat → ClassId} {ad : Nat → Nat} {ba : Nat → Nat} {ta : Nat → Nat} {imgs : va_W} {room : Nat → Int32} {work : Nat → Int32} {price : Nat → Int32} {whom : Nat → Int32} {bday : Nat → Int32} {units : Nat → Int32} {worth : Nat → Int32} {due : Nat → Int32} {under : Nat → Int32} {people : Int32} {askings : Int32} {hangs : Int32} {items : Int32} {many : Nat → Int32} {slip : Nat → Nat → Int32} {became : Nat → Int32} {left : Nat → Int32} {what : Nat → Int32} {which : Nat → Int32} {whose : Nat → Int32} {place : Nat → Int32} {deeds : Int32} {day : Int32} {won : Int32} {lost : Int32} {kept : Int32} {text : Nat → Int32} {typed : Int32} {rest : Nat → Int32} {bestSet : Int32} {tenths : Nat → Int32} {sortWorth : Nat → Int32} {sortDays : Nat → Int32} {row : Nat → Int32} {trace : Int64} {x1 : Int32} {r : Int32} (hx : p.tables.exec = Jvm.exec) (hb : c.code = cX0_count) (hml : c.maxLocals = 2) (hown : s.vm.findClass RX0 = some m.cls) (hts : ∀ w ∈ lw_all, w.before args s = true) (hN : NX s) (hA : ∀ q, s.heap.size ≤ q → A q) (hRf : 1 ≤ R.frames) (hRl : 20 ≤ R.locals) (hRc : cells ≤ R.cells) (hRs : slots ≤ R.slots) (hf : x_count people askings hangs typed tenths x1 = some r) (hC : HC D gcl (gty d) A (xw d ad ba ta imgs room work price whom bday units worth due under people askings hangs items many slip became left what which whose place deeds day won lost kept text typed rest bestSet tenths sortWorth sortDays row trace) s H locs) (hl : lv_has ls 2 [(0, .ref (ad 0)), (1, .int x1)]) (K : ∀ (H : Heap) (locs : List Loc) (ls : Array Slot) (pc : Nat), narrow .int (.int r) = .int r → HC D gcl (gty d) A (xw d ad ba ta imgs room work price whom bday units worth due under people askings hangs items many slip became left what which whose place deeds day won lost kept text typed rest bestSet tenths sortWorth sortDays row trace) s H locs → decode cX0_count pc = .ok (.ireturn, 1) → W p l e R s m args below meth c H locs cells slots Q (F0 m pc ls [.int r])) : W p l e R s m args below meth c H locs cells slots Q (F0 m 0 ls []) := by
  unfold x_count at hf
  refine lv_iload_n hx hb dX0_count_0 rfl (lv_at hl 1 rfl) ?_
  by_cases c_1_0 : x1 = 0
  · have hf := if_t hf c_1_0
    refine lv_tableIn (tgt := 36) hx hb dX0_count_1 (by rw [c_1_0]; decide) (by rw [c_1_0]; decide) (by rw [c_1_0]; rfl) (by decide) ?_
    refine lv_aload_n hx hb dX0_count_36 rfl (lv_at hl 0 rfl) ?_
    refine va_get (ci := 0) (v := .ref (ba 0)) (C := RX0) (T := TX0) (N := 13) hx hb hts in_X0 hown hC.1 hC.2.1 (26) rfl rfl 0 (by decide) (hts _ q302) (fun _ h9 => h9) rfl dX0_count_37 ?_
    refine va_getN (ci := 1) (v := .int people) (C := RX1) (T := TX1) (N := 13) (host := "SleeveSlips") hx hb hts in_X1 hown hC.1 hC.2.1 (0) rfl rfl 9 (by decide) (va_Nw.use rfl (hN.1 20)) (fun _ h9 => h9) rfl dX0_count_40 ?_
    have e_1 := (Option.some.inj hf)
    subst e_1
    exact K H locs ls _ rfl hC dX0_count_43
  · have hf := if_f hf c_1_0
    by_cases c_1_1 : x1 = 1
    · have hf := if_t hf c_1_1
      refine lv_tableIn (tgt := 44) hx hb dX0_count_1 (by rw [c_1_1]; decide) (by rw [c_1_1]; decide) (by rw [c_1_1]; rfl) (by decide) ?_
      refine lv_aload_n hx hb dX0_count_44 rfl (lv_at hl 0 rfl) ?_
      refine va_get (ci := 0) (v := .ref (ba 0)) (C := RX0) (T := TX0) (N := 13) hx hb hts in_X0 hown hC.1 hC.2.1 (26) rfl rfl 0 (by decide) (hts _ q302) (fun _ h9 => h9) rfl dX0_count_45 ?_
      refine va_getN (ci := 1) (v := .int askings) (C := RX1) (T := TX1) (N := 13) (host := "SleeveSlips") hx hb hts in_X1 hown hC.1 hC.2.1 (0) rfl rfl 10 (by decide) (va_Nw.use rfl (hN.1 22)) (fun _ h9 => h9) rfl dX0_count_48 ?_
      have e_1 := (Option.some.inj hf)
      subst e_1
      exact K H locs ls _ rfl hC dX0_count_51
    · have hf := if_f hf c_1_1
      by_cases c_1_2 : x1 = 2
      · have hf := if_t hf c_1_2
        refine lv_tableIn (tgt := 52) hx hb dX0_count_1 (by rw [c_1_2]; decide) (by rw [c_1_2]; decide) (by rw [c_1_2]; rfl) (by decide) ?_
        refine lv_aload_n hx hb dX0_count_52 rfl (lv_at hl 0 rfl) ?_
        refine va_get (ci := 0) (v := .ref (ba 0)) (C := RX0) (T := TX0) (N := 13) hx hb hts in_X0 hown hC.1 hC.2.1 (26) rfl rfl 0 (by decide) (hts _ q302) (fun _ h9 => h9) rfl dX0_count_53 ?_
        refine va_getN (ci := 1) (v := .int hangs) (C := RX1) (T := TX1) (N := 13) (host := "SleeveSlips") hx hb hts in_X1 hown hC.1 hC.2.1 (0) rfl rfl 11 (by decide) (va_Nw.use rfl (hN.1 25)) (fun _ h9 => h9) rfl dX0_count_56 ?_
        have e_1 := (Option.some.inj hf)
        subst e_1
        exact K H locs ls _ rfl hC dX0_count_59
      · have hf := if_f hf c_1_2
        by_cases c_1_3 : x1 = 3
        · have hf := if_t hf c_1_3
          refine lv_tableIn (tgt := 60) hx hb dX0_count_1 (by rw [c_1_3]; decide) (by rw [c_1_3]; decide) (by rw [c_1_3]; rfl) (by decide) ?_
          refine lv_aload_n hx hb dX0_count_60 rfl (lv_at hl 0 rfl) ?_
          obtain ⟨r_61, hcall, hf⟩ := bnd_some hf
          refine hc_i (va_runV (C := RX0) (As := []) (rest := []) ⟨hx, hb, hml, hown, hts⟩ (c_x_allTenths hcall) (cwV 0 hts (lw_V q680 q682 qs18 q48 q683) rfl rfl rfl (by decide +kernel) ⟨(Nat.le_trans (Nat.le_of_ble_eq_true rfl) hRf), (Nat.le_trans (Nat.le_of_ble_eq_true rfl) hRl)⟩) (pre_V (q0 := 26) (ci := 0) NX.calling (fun U _ hW => NX.warm hW hN) hC rfl rfl) rfl rfl hl.1 rfl (lv_room (Nat.le_of_ble_eq_true rfl)) dX0_count_61 ⟨hRc, hRs⟩) hA hC (fun H locs hC => ?_)
          have e_1 := (Option.some.inj hf)
          subst e_1
          exact K H locs ls _ rfl hC dX0_count_64
        · have hf := if_f hf c_1_3
          by_cases c_1_4 : x1 = 4
          · have hf := if_t hf c_1_4
            refine lv_tableIn (tgt := 65) hx hb dX0_count_1 (by rw [c_1_4]; decide) (by rw [c_1_4]; decide) (by rw [c_1_4]; rfl) (by decide) ?_
            refine lv_aload_n hx hb dX0_count_65 rfl (lv_at hl 0 rfl) ?_
            refine va_get (ci := 0) (v := .int typed) (C := RX0) (T := TX0) (N := 13) hx hb hts in_X0 hown hC.1 hC.2.1 (26) rfl rfl 4 (by decide) (hts _ q312) (fun _ h9 => h9) rfl dX0_count_66 ?_
            have e_1 := (Option.some.inj hf)
            subst e_1
            exact K H locs ls _ rfl hC dX0_count_69
          · have hf := if_f hf c_1_4
            refine lv_tableOut (tgt := 70) hx hb dX0_count_1 (by have n0 := lv_neT c_1_0 (show (0 : Int32).toInt = 0 by decide); have n1 := lv_neT c_1_1 (show (1 : Int32).toInt = 1 by decide); have n2 := lv_neT c_1_2 (show (2 : Int32).toInt = 2 by decide); have n3 := lv_neT c_1_3 (show (3 : Int32).toInt = 3 by decide); have n4 := lv_neT c_1_4 (show (4 : Int32).toInt = 4 by decide); first | omega | (rcases Int.lt_or_le (x1).toInt 0 with q | q <;> omega)) (by decide) ?_
            refine lv_iconst (v := (-1)) hx hb dX0_count_70 (by decide) ?_
            have e_1 := (Option.some.inj hf)
            subst e_1
            exact K H locs ls _ rfl hC dX0_count_71
set_option maxRecDepth 100000 in
theorem c_x_count {l : Launch} {sz : Nat} {D : va_G} {d : Nat → ClassId} {ad : Nat → Nat} {ba : Nat → Nat} {ta : Nat → Nat} {imgs : va_W} {room : Nat → Int32} {work : Nat → Int32} {price : Nat → Int32} {whom : Nat → Int32} {bday : Nat → Int32} {units : Nat → Int32} {worth : Nat → Int32} {due : Nat → Int32} {under : Nat → Int32} {people : Int32} {askings : Int32} {hangs : Int32} {items : Int32} {many : Nat → Int32} {slip : Nat → Nat → Int32} {became : Nat → Int32} {left : Nat → Int32} {what : Nat → Int32} {which : Nat → Int32} {whose : Nat → Int32} {place : Nat → Int32} {deeds : Int32} {day : Int32} {won : Int32} {lost : Int32} {kept : Int32} {text : Nat → Int32} {typed : Int32} {rest : Nat → Int32} {bestSet : Int32} {tenths : Nat → Int32} {sortWorth : Nat → Int32} {sortDays : Nat → Int32} {row : Nat → Int32} {trace : Int64} {x1 : Int32} {r : Int32} (hf : x_count people askings hangs typed tenths x1 = some r) : MI l yX0_count (ws_ yX0_count cX0_count 2 (some .int)) { frames := 1, cells := 0, slots := 0, locals := 20 } D gcl (gty d) NX (xw d ad ba ta imgs room work price whom bday units worth due under people askings hangs items many slip became left what which whose place deeds day won lost kept text typed rest bestSet tenths sortWorth sortDays row trace) (xw d ad ba ta imgs room work price whom bday units worth due under people askings hangs items many slip became left what which whose place deeds day won lost kept text typed rest bestSet tenths sortWorth sortDays row trace) sz [.ref (ad 0), .int x1] r :=
  MI.of (by decide) [.ref (ad 0), .int x1] [(0, .ref (ad 0)), (1, .int x1)] (Nat.le_of_ble_eq_true rfl) rfl (fun p e s m below meth c ls Q hx hb hml hown hts hN hA hC hl K => w_x_count hx hb hml hown hts hN hA (Nat.le_refl _) (Nat.le_refl _) (Nat.le_refl _) (Nat.le_refl _) hf hC hl K)

def x_trace (trace : Int64) : Option (Int64) :=
  some trace
set_option maxHeartbeats 4000000 in
set_option maxRecDepth 100000 in
theorem w_x_trace {p : Program} {l : Launch} {e : Env} {R : Room} {s : State} {m : MethodId} {args : Array Value} {below : List Frame} {meth : Method} {c : Code} {H : Heap} {locs : List Loc} {cells slots : Nat} {Q : State → Prop} {A : Nat → Prop} {ls : Array Slot} {D : va_G} {d : Nat → ClassId} {ad : Nat → Nat} {ba : Nat → Nat} {ta : Nat → Nat} {imgs : va_W} {room : Nat → Int32} {work : Nat → Int32} {price : Nat → Int32} {whom : Nat → Int32} {bday : Nat → Int32} {units : Nat → Int32} {worth : Nat → Int32} {due : Nat → Int32} {under : Nat → Int32} {people : Int32} {askings : Int32} {hangs : Int32} {items : Int32} {many : Nat → Int32} {slip : Nat → Nat → Int32} {became : Nat → Int32} {left : Nat → Int32} {what : Nat → Int32} {which : Nat → Int32} {whose : Nat → Int32} {place : Nat → Int32} {deeds : Int32} {day : Int32} {won : Int32} {lost : Int32} {kept : Int32} {text : Nat → Int32} {typed : Int32} {rest : Nat → Int32} {bestSet : Int32} {tenths : Nat → Int32} {sortWorth : Nat → Int32} {sortDays : Nat → Int32} {row : Nat → Int32} {trace : Int64} {r : Int64} (hx : p.tables.exec = Jvm.exec) (hb : c.code = cX0_trace) (hml : c.maxLocals = 1) (hown : s.vm.findClass RX0 = some m.cls) (hts : ∀ w ∈ lw_all, w.before args s = true) (hN : NX s) (hA : ∀ q, s.heap.size ≤ q → A q) (hRf : 0 ≤ R.frames) (hRl : 0 ≤ R.locals) (hRc : cells ≤ R.cells) (hRs : slots ≤ R.slots) (hf : x_trace trace = some r) (hC : HC D gcl (gty d) A (xw d ad ba ta imgs room work price whom bday units worth due under people askings hangs items many slip became left what which whose place deeds day won lost kept text typed rest bestSet tenths sortWorth sortDays row trace) s H locs) (hl : lv_has ls 1 [(0, .ref (ad 0))]) (K : ∀ (H : Heap) (locs : List Loc) (ls : Array Slot) (pc : Nat), True → HC D gcl (gty d) A (xw d ad ba ta imgs room work price whom bday units worth due under people askings hangs items many slip became left what which whose place deeds day won lost kept text typed rest bestSet tenths sortWorth sortDays row trace) s H locs → decode cX0_trace pc = .ok (.lreturn, 1) → W p l e R s m args below meth c H locs cells slots Q (F0 m pc ls [.long r])) : W p l e R s m args below meth c H locs cells slots Q (F0 m 0 ls []) := by
  unfold x_trace at hf
  refine lv_aload_n hx hb dX0_trace_0 rfl (lv_at hl 0 rfl) ?_
  refine va_get (ci := 0) (v := .long trace) (C := RX0) (T := TX0) (N := 13) hx hb hts in_X0 hown hC.1 hC.2.1 (26) rfl rfl 11 (by decide) (hts _ q325) (fun _ h9 => h9) rfl dX0_trace_1 ?_
  have e_1 := (Option.some.inj hf)
  subst e_1
  exact K H locs ls _ trivial hC dX0_trace_4
set_option maxRecDepth 100000 in
theorem c_x_trace {l : Launch} {sz : Nat} {D : va_G} {d : Nat → ClassId} {ad : Nat → Nat} {ba : Nat → Nat} {ta : Nat → Nat} {imgs : va_W} {room : Nat → Int32} {work : Nat → Int32} {price : Nat → Int32} {whom : Nat → Int32} {bday : Nat → Int32} {units : Nat → Int32} {worth : Nat → Int32} {due : Nat → Int32} {under : Nat → Int32} {people : Int32} {askings : Int32} {hangs : Int32} {items : Int32} {many : Nat → Int32} {slip : Nat → Nat → Int32} {became : Nat → Int32} {left : Nat → Int32} {what : Nat → Int32} {which : Nat → Int32} {whose : Nat → Int32} {place : Nat → Int32} {deeds : Int32} {day : Int32} {won : Int32} {lost : Int32} {kept : Int32} {text : Nat → Int32} {typed : Int32} {rest : Nat → Int32} {bestSet : Int32} {tenths : Nat → Int32} {sortWorth : Nat → Int32} {sortDays : Nat → Int32} {row : Nat → Int32} {trace : Int64} {r : Int64} (hf : x_trace trace = some r) : ML l yX0_trace (ws_ yX0_trace cX0_trace 1 (some .long)) { frames := 0, cells := 0, slots := 0, locals := 0 } D gcl (gty d) NX (xw d ad ba ta imgs room work price whom bday units worth due under people askings hangs items many slip became left what which whose place deeds day won lost kept text typed rest bestSet tenths sortWorth sortDays row trace) (xw d ad ba ta imgs room work price whom bday units worth due under people askings hangs items many slip became left what which whose place deeds day won lost kept text typed rest bestSet tenths sortWorth sortDays row trace) sz [.ref (ad 0)] r :=
  ML.of (by decide) [.ref (ad 0)] [(0, .ref (ad 0))] (Nat.le_of_ble_eq_true rfl) rfl (fun p e s m below meth c ls Q hx hb hml hown hts hN hA hC hl K => w_x_trace hx hb hml hown hts hN hA (Nat.le_refl _) (Nat.le_refl _) (Nat.le_refl _) (Nat.le_refl _) hf hC hl K)

def x_leftOn_L4 (x1 : Int32) (many : Nat → Int32) (slip : Nat → Nat → Int32) (left : Nat → Int32) : Nat → Int32 → Int32 → Option (Int32)
  | 0, _, _ => none
  | n_4 + 1, x2_4, x3_4 =>
  ck x1 4 <| if (many x1.toNatClampNeg) ≤ x3_4 then (some x2_4) else
  ck x1 4 <| ck x3_4 5 <| ck (slip x1.toNatClampNeg x3_4.toNatClampNeg) 8 <| x_leftOn_L4 x1 many slip left n_4 (x2_4 + (left (slip x1.toNatClampNeg x3_4.toNatClampNeg).toNatClampNeg)) (x3_4 + 1) 
theorem x_leftOn_L4_s (x1 : Int32) (many : Nat → Int32) (slip : Nat → Nat → Int32) (left : Nat → Int32) (n_4 : Nat) (x2_4 : Int32) (x3_4 : Int32) : x_leftOn_L4 x1 many slip left (n_4 + 1) x2_4 x3_4 = (
  ck x1 4 <| if (many x1.toNatClampNeg) ≤ x3_4 then (some x2_4) else
  ck x1 4 <| ck x3_4 5 <| ck (slip x1.toNatClampNeg x3_4.toNatClampNeg) 8 <| x_leftOn_L4 x1 many slip left n_4 (x2_4 + (left (slip x1.toNatClampNeg x3_4.toNatClampNeg).toNatClampNeg)) (x3_4 + 1) ) := rfl
def x_leftOn (many : Nat → Int32) (slip : Nat → Nat → Int32) (left : Nat → Int32) (x1 : Int32) : Option (Int32) :=
  bnd (x_leftOn_L4 x1 many slip left g_fuel 0 0 ) (fun x2_51 =>
  some x2_51)
set_option maxHeartbeats 4000000 in
set_option maxRecDepth 100000 in
theorem w_x_leftOn {p : Program} {l : Launch} {e : Env} {R : Room} {s : State} {m : MethodId} {args : Array Value} {below : List Frame} {meth : Method} {c : Code} {H : Heap} {locs : List Loc} {cells slots : Nat} {Q : State → Prop} {A : Nat → Prop} {ls : Array Slot} {D : va_G} {d : Nat → ClassId} {ad : Nat → Nat} {ba : Nat → Nat} {ta : Nat → Nat} {imgs : va_W} {room : Nat → Int32} {work : Nat → Int32} {price : Nat → Int32} {whom : Nat → Int32} {bday : Nat → Int32} {units : Nat → Int32} {worth : Nat → Int32} {due : Nat → Int32} {under : Nat → Int32} {people : Int32} {askings : Int32} {hangs : Int32} {items : Int32} {many : Nat → Int32} {slip : Nat → Nat → Int32} {became : Nat → Int32} {left : Nat → Int32} {what : Nat → Int32} {which : Nat → Int32} {whose : Nat → Int32} {place : Nat → Int32} {deeds : Int32} {day : Int32} {won : Int32} {lost : Int32} {kept : Int32} {text : Nat → Int32} {typed : Int32} {rest : Nat → Int32} {bestSet : Int32} {tenths : Nat → Int32} {sortWorth : Nat → Int32} {sortDays : Nat → Int32} {row : Nat → Int32} {trace : Int64} {x1 : Int32} {r : Int32} (hx : p.tables.exec = Jvm.exec) (hb : c.code = cX0_leftOn) (hml : c.maxLocals = 4) (hown : s.vm.findClass RX0 = some m.cls) (hts : ∀ w ∈ lw_all, w.before args s = true) (hN : NX s) (hA : ∀ q, s.heap.size ≤ q → A q) (hRf : 0 ≤ R.frames) (hRl : 0 ≤ R.locals) (hRc : cells ≤ R.cells) (hRs : slots ≤ R.slots) (hf : x_leftOn many slip left x1 = some r) (hC : HC D gcl (gty d) A (xw d ad ba ta imgs room work price whom bday units worth due under people askings hangs items many slip became left what which whose place deeds day won lost kept text typed rest bestSet tenths sortWorth sortDays row trace) s H locs) (hl : lv_has ls 4 [(0, .ref (ad 0)), (1, .int x1)]) (K : ∀ (H : Heap) (locs : List Loc) (ls : Array Slot) (pc : Nat), narrow .int (.int r) = .int r → HC D gcl (gty d) A (xw d ad ba ta imgs room work price whom bday units worth due under people askings hangs items many slip became left what which whose place deeds day won lost kept text typed rest bestSet tenths sortWorth sortDays row trace) s H locs → decode cX0_leftOn pc = .ok (.ireturn, 1) → W p l e R s m args below meth c H locs cells slots Q (F0 m pc ls [.int r])) : W p l e R s m args below meth c H locs cells slots Q (F0 m 0 ls []) := by
  unfold x_leftOn at hf
  refine lv_iconst (v := 0) hx hb dX0_leftOn_0 (by decide) ?_
  refine lv_istore_n (lv' := [(2, .int 0), (0, .ref (ad 0)), (1, .int x1)]) hx hb dX0_leftOn_1 rfl hl (by decide) rfl (fun ls hl => ?_)
  refine lv_iconst (v := 0) hx hb dX0_leftOn_2 (by decide) ?_
  refine lv_istore_n (lv' := [(3, .int 0), (2, .int 0), (0, .ref (ad 0)), (1, .int x1)]) hx hb dX0_leftOn_3 rfl hl (by decide) rfl (fun ls hl => ?_)
  obtain ⟨x2_51, hL, hf⟩ := bnd_some hf
  have X_4 : ∀ (H : Heap) (locs : List Loc) (ls : Array Slot), HC D gcl (gty d) A (xw d ad ba ta imgs room work price whom bday units worth due under people askings hangs items many slip became left what which whose place deeds day won lost kept text typed rest bestSet tenths sortWorth sortDays row trace) s H locs → lv_has ls 4 [(2, .int x2_51)] → W p l e R s m args below meth c H locs cells slots Q (F0 m 51 ls []) := by
    intro H locs ls hC hl
    refine lv_iload_n hx hb dX0_leftOn_51 rfl (lv_at hl 0 rfl) ?_
    have e_1 := (Option.some.inj hf)
    subst e_1
    exact K H locs ls _ rfl hC dX0_leftOn_52
  have L_4 : ∀ (n_4 : Nat) (x2_4 : Int32) (x3_4 : Int32), x_leftOn_L4 x1 many slip left n_4 x2_4 x3_4 = some x2_51 → ∀ (H : Heap) (locs : List Loc) (ls : Array Slot), HC D gcl (gty d) A (xw d ad ba ta imgs room work price whom bday units worth due under people askings hangs items many slip became left what which whose place deeds day won lost kept text typed rest bestSet tenths sortWorth sortDays row trace) s H locs → lv_has ls 4 [(0, .ref (ad 0)), (1, .int x1), (2, .int x2_4), (3, .int x3_4)] → W p l e R s m args below meth c H locs cells slots Q (F0 m 4 ls []) := by
    intro n_4
    induction n_4 with
    | zero => intro _ _ hf; cases hf
    | succ n_4 ih =>
      intro x2_4 x3_4 hf H locs ls hC hl
      rw [x_leftOn_L4_s] at hf
      refine lv_iload_n hx hb dX0_leftOn_4 rfl (lv_at hl 3 rfl) ?_
      refine lv_aload_n hx hb dX0_leftOn_5 rfl (lv_at hl 0 rfl) ?_
      refine va_get (ci := 0) (v := .ref (ta 0)) (C := RX0) (T := TX0) (N := 13) hx hb hts in_X0 hown hC.1 hC.2.1 (26) rfl rfl 1 (by decide) (hts _ q305) (fun _ h9 => h9) rfl dX0_leftOn_6 ?_
      refine va_getN (ci := 2) (v := .ref (ta 1)) (C := RX2) (T := TX2) (N := 12) (host := "SleeveSlips") hx hb hts in_X2 hown hC.1 hC.2.1 (10) rfl rfl 0 (by decide) (va_Nw.use rfl (hN.1 33)) (fun _ h9 => h9) rfl dX0_leftOn_9 ?_
      refine lv_iload_n hx hb dX0_leftOn_12 rfl (lv_at hl 1 rfl) ?_
      obtain ⟨hi_13, hf⟩ := ck_some hf
      refine va_aldq hx hb hC.1 hC.2.1 11 4 rfl rfl hi_13 dX0_leftOn_13 ?_
      refine va_getN (ci := 3) (v := .int (many x1.toNatClampNeg)) (C := RX3) (T := TX3) (N := 2) (host := "SleeveSlips") hx hb hts in_X3 hown hC.1 hC.2.1 (12 + x1.toNatClampNeg) (xw_sl (vp_lt hi_13)) rfl 1 (by decide) (va_Nw.use rfl (hN.1 31)) (fun _ h9 => h9) rfl dX0_leftOn_14 ?_
      refine lv_icmp_ge (tgt := 51) hx hb dX0_leftOn_17 (by decide) (fun c_17 => ?_) (fun c_17 => ?_)
      · have hf := if_t hf c_17
        have e_1 := (Option.some.inj hf)
        subst e_1
        exact X_4 H locs ls hC (lv_sub hl [2] rfl)
      · have hf := if_f hf c_17
        refine lv_iload_n hx hb dX0_leftOn_20 rfl (lv_at hl 2 rfl) ?_
        refine lv_aload_n hx hb dX0_leftOn_21 rfl (lv_at hl 0 rfl) ?_
        refine va_get (ci := 0) (v := .ref (ta 0)) (C := RX0) (T := TX0) (N := 13) hx hb hts in_X0 hown hC.1 hC.2.1 (26) rfl rfl 1 (by decide) (hts _ q305) (fun _ h9 => h9) rfl dX0_leftOn_22 ?_
        refine va_getN (ci := 2) (v := .ref (ta 11)) (C := RX2) (T := TX2) (N := 12) (host := "SleeveSlips") hx hb hts in_X2 hown hC.1 hC.2.1 (10) rfl rfl 2 (by decide) (va_Nw.use rfl (hN.1 35)) (fun _ h9 => h9) rfl dX0_leftOn_25 ?_
        refine lv_aload_n hx hb dX0_leftOn_28 rfl (lv_at hl 0 rfl) ?_
        refine va_get (ci := 0) (v := .ref (ta 0)) (C := RX0) (T := TX0) (N := 13) hx hb hts in_X0 hown hC.1 hC.2.1 (26) rfl rfl 1 (by decide) (hts _ q305) (fun _ h9 => h9) rfl dX0_leftOn_29 ?_
        refine va_getN (ci := 2) (v := .ref (ta 1)) (C := RX2) (T := TX2) (N := 12) (host := "SleeveSlips") hx hb hts in_X2 hown hC.1 hC.2.1 (10) rfl rfl 0 (by decide) (va_Nw.use rfl (hN.1 33)) (fun _ h9 => h9) rfl dX0_leftOn_32 ?_
        refine lv_iload_n hx hb dX0_leftOn_35 rfl (lv_at hl 1 rfl) ?_
        obtain ⟨hi_36, hf⟩ := ck_some hf
        refine va_aldq hx hb hC.1 hC.2.1 11 4 rfl rfl hi_36 dX0_leftOn_36 ?_
        refine va_getN (ci := 3) (v := .ref (ta (6 + x1.toNatClampNeg))) (C := RX3) (T := TX3) (N := 2) (host := "SleeveSlips") hx hb hts in_X3 hown hC.1 hC.2.1 (12 + x1.toNatClampNeg) (xw_sl (vp_lt hi_36)) rfl 0 (by decide) (va_Nw.use rfl (hN.1 28)) (fun _ h9 => h9) rfl dX0_leftOn_37 ?_
        refine lv_iload_n hx hb dX0_leftOn_40 rfl (lv_at hl 3 rfl) ?_
        obtain ⟨hi_41, hf⟩ := ck_some hf
        refine va_iald hx hb hC.1 hC.2.1 (16 + x1.toNatClampNeg) 0 (xw_sp (vp_lt hi_36)) rfl hi_41 dX0_leftOn_41 ?_
        obtain ⟨hi_42, hf⟩ := ck_some hf
        refine va_iald hx hb hC.1 hC.2.1 (21) 0 rfl rfl hi_42 dX0_leftOn_42 ?_
        refine lv_iadd hx hb dX0_leftOn_43 ?_
        refine lv_istore_n (lv' := [(2, .int (x2_4 + (left (slip x1.toNatClampNeg x3_4.toNatClampNeg).toNatClampNeg))), (0, .ref (ad 0)), (1, .int x1), (3, .int x3_4)]) hx hb dX0_leftOn_44 rfl hl (by decide) rfl (fun ls hl => ?_)
        refine lv_iinc (v := x3_4 + 1) (lv' := [(3, .int (x3_4 + 1)), (2, .int (x2_4 + (left (slip x1.toNatClampNeg x3_4.toNatClampNeg).toNatClampNeg))), (0, .ref (ad 0)), (1, .int x1)]) hx hb dX0_leftOn_45 hl (k := 3) rfl rfl (by decide) rfl (fun ls hl => ?_)
        refine lv_goto (tgt := 4) hx hb dX0_leftOn_48 (by decide) ?_
        exact ih _ _ hf H locs ls hC (lv_sub hl [2, 3, 1, 0] rfl)
  exact L_4 _ _ _ hL H locs ls hC (lv_sub hl [2, 3, 1, 0] rfl)
set_option maxRecDepth 100000 in
theorem c_x_leftOn {l : Launch} {sz : Nat} {D : va_G} {d : Nat → ClassId} {ad : Nat → Nat} {ba : Nat → Nat} {ta : Nat → Nat} {imgs : va_W} {room : Nat → Int32} {work : Nat → Int32} {price : Nat → Int32} {whom : Nat → Int32} {bday : Nat → Int32} {units : Nat → Int32} {worth : Nat → Int32} {due : Nat → Int32} {under : Nat → Int32} {people : Int32} {askings : Int32} {hangs : Int32} {items : Int32} {many : Nat → Int32} {slip : Nat → Nat → Int32} {became : Nat → Int32} {left : Nat → Int32} {what : Nat → Int32} {which : Nat → Int32} {whose : Nat → Int32} {place : Nat → Int32} {deeds : Int32} {day : Int32} {won : Int32} {lost : Int32} {kept : Int32} {text : Nat → Int32} {typed : Int32} {rest : Nat → Int32} {bestSet : Int32} {tenths : Nat → Int32} {sortWorth : Nat → Int32} {sortDays : Nat → Int32} {row : Nat → Int32} {trace : Int64} {x1 : Int32} {r : Int32} (hf : x_leftOn many slip left x1 = some r) : MI l yX0_leftOn (ws_ yX0_leftOn cX0_leftOn 4 (some .int)) { frames := 0, cells := 0, slots := 0, locals := 0 } D gcl (gty d) NX (xw d ad ba ta imgs room work price whom bday units worth due under people askings hangs items many slip became left what which whose place deeds day won lost kept text typed rest bestSet tenths sortWorth sortDays row trace) (xw d ad ba ta imgs room work price whom bday units worth due under people askings hangs items many slip became left what which whose place deeds day won lost kept text typed rest bestSet tenths sortWorth sortDays row trace) sz [.ref (ad 0), .int x1] r :=
  MI.of (by decide) [.ref (ad 0), .int x1] [(0, .ref (ad 0)), (1, .int x1)] (Nat.le_of_ble_eq_true rfl) rfl (fun p e s m below meth c ls Q hx hb hml hown hts hN hA hC hl K => w_x_leftOn hx hb hml hown hts hN hA (Nat.le_refl _) (Nat.le_refl _) (Nat.le_refl _) (Nat.le_refl _) hf hC hl K)

def x_great_L59 (x2 : Int32) (x7_49 : Int32) (room : Nat → Int32) (work : Nat → Int32) (price : Nat → Int32) (people : Int32) (many : Nat → Int32) (slip : Nat → Nat → Int32) (left : Nat → Int32) (day : Int32) : Nat → Int32 → Int32 → Int32 → Int32 → Option (Int32 × Int32 × Int32)
  | 0, _, _, _, _ => none
  | n_59 + 1, x4_59, x5_59, x6_59, x8_59 =>
  if people ≤ x8_59 then (some (x4_59, x5_59, x6_59)) else
  bnd (x_hasRoom room many x8_59) fun r_74 =>
  bnd (if r_74 = 0 then (some (0)) else
  ck x8_59 4 <| if (price x8_59.toNatClampNeg) = x7_49 then (ck x8_59 4 <| bnd (x_leftOn many slip left x8_59) fun r_121 =>
  some (if 0 < ((work x8_59.toNatClampNeg) * ((x2 - day) + 1)) - r_121 then ((work x8_59.toNatClampNeg) * ((x2 - day) + 1)) - r_121 else 0)) else
  some (0)) (fun (t_132 : Int32) =>
  if (if x4_59 < t_132 then x4_59 else t_132) ≤ 0 then (x_great_L59 x2 x7_49 room work price people many slip left day n_59 (x4_59 - (if x4_59 < t_132 then x4_59 else t_132)) (x5_59 + ((if x4_59 < t_132 then x4_59 else t_132) * x7_49)) (x6_59 ||| 0) (x8_59 + 1) ) else
  x_great_L59 x2 x7_49 room work price people many slip left day n_59 (x4_59 - (if x4_59 < t_132 then x4_59 else t_132)) (x5_59 + ((if x4_59 < t_132 then x4_59 else t_132) * x7_49)) (x6_59 ||| (1 <<< (x8_59 &&& 31))) (x8_59 + 1) )
theorem x_great_L59_s (x2 : Int32) (x7_49 : Int32) (room : Nat → Int32) (work : Nat → Int32) (price : Nat → Int32) (people : Int32) (many : Nat → Int32) (slip : Nat → Nat → Int32) (left : Nat → Int32) (day : Int32) (n_59 : Nat) (x4_59 : Int32) (x5_59 : Int32) (x6_59 : Int32) (x8_59 : Int32) : x_great_L59 x2 x7_49 room work price people many slip left day (n_59 + 1) x4_59 x5_59 x6_59 x8_59 = (
  if people ≤ x8_59 then (some (x4_59, x5_59, x6_59)) else
  bnd (x_hasRoom room many x8_59) fun r_74 =>
  bnd (if r_74 = 0 then (some (0)) else
  ck x8_59 4 <| if (price x8_59.toNatClampNeg) = x7_49 then (ck x8_59 4 <| bnd (x_leftOn many slip left x8_59) fun r_121 =>
  some (if 0 < ((work x8_59.toNatClampNeg) * ((x2 - day) + 1)) - r_121 then ((work x8_59.toNatClampNeg) * ((x2 - day) + 1)) - r_121 else 0)) else
  some (0)) (fun (t_132 : Int32) =>
  if (if x4_59 < t_132 then x4_59 else t_132) ≤ 0 then (x_great_L59 x2 x7_49 room work price people many slip left day n_59 (x4_59 - (if x4_59 < t_132 then x4_59 else t_132)) (x5_59 + ((if x4_59 < t_132 then x4_59 else t_132) * x7_49)) (x6_59 ||| 0) (x8_59 + 1) ) else
  x_great_L59 x2 x7_49 room work price people many slip left day n_59 (x4_59 - (if x4_59 < t_132 then x4_59 else t_132)) (x5_59 + ((if x4_59 < t_132 then x4_59 else t_132) * x7_49)) (x6_59 ||| (1 <<< (x8_59 &&& 31))) (x8_59 + 1) )) := rfl
def x_great_L49 (x2 : Int32) (room : Nat → Int32) (work : Nat → Int32) (price : Nat → Int32) (people : Int32) (many : Nat → Int32) (slip : Nat → Nat → Int32) (left : Nat → Int32) (day : Int32) : Nat → Int32 → Int32 → Int32 → Int32 → Option (Int32 × Int32 × Int32)
  | 0, _, _, _, _ => none
  | n_49 + 1, x4_49, x5_49, x6_49, x7_49 =>
  if 9 < x7_49 then (some (x4_49, x5_49, x6_49)) else
  bnd3 (x_great_L59 x2 x7_49 room work price people many slip left day g_fuel x4_49 x5_49 x6_49 0 ) (fun x4_184 x5_184 x6_184 =>
  x_great_L49 x2 room work price people many slip left day n_49 x4_184 x5_184 x6_184 (x7_49 + 1) )
theorem x_great_L49_s (x2 : Int32) (room : Nat → Int32) (work : Nat → Int32) (price : Nat → Int32) (people : Int32) (many : Nat → Int32) (slip : Nat → Nat → Int32) (left : Nat → Int32) (day : Int32) (n_49 : Nat) (x4_49 : Int32) (x5_49 : Int32) (x6_49 : Int32) (x7_49 : Int32) : x_great_L49 x2 room work price people many slip left day (n_49 + 1) x4_49 x5_49 x6_49 x7_49 = (
  if 9 < x7_49 then (some (x4_49, x5_49, x6_49)) else
  bnd3 (x_great_L59 x2 x7_49 room work price people many slip left day g_fuel x4_49 x5_49 x6_49 0 ) (fun x4_184 x5_184 x6_184 =>
  x_great_L49 x2 room work price people many slip left day n_49 x4_184 x5_184 x6_184 (x7_49 + 1) )) := rfl
def x_great (room : Nat → Int32) (work : Nat → Int32) (price : Nat → Int32) (people : Int32) (many : Nat → Int32) (slip : Nat → Nat → Int32) (left : Nat → Int32) (day : Int32) (x1 : Int32) (x2 : Int32) (x3 : Int32) : Option (Int32) :=
  bnd (x_in x1 1 99) fun r_4 =>
  if r_4 = 0 then (some (-1)) else
  bnd (x_in x2 day 9) fun r_20 =>
  if r_20 = 0 then (some (-1)) else
  bnd (x_in x3 0 1) fun r_29 =>
  if r_29 = 0 then (some (-1)) else
  bnd3 (x_great_L49 x2 room work price people many slip left day g_fuel x1 0 0 0 ) (fun x4_190 x5_190 x6_190 =>
  if x4_190 ≤ 0 then (if x3 = 0 then (some x5_190) else
  some x6_190) else
  some (-9))
set_option maxHeartbeats 4000000 in
set_option maxRecDepth 100000 in
theorem w_x_great {p : Program} {l : Launch} {e : Env} {R : Room} {s : State} {m : MethodId} {args : Array Value} {below : List Frame} {meth : Method} {c : Code} {H : Heap} {locs : List Loc} {cells slots : Nat} {Q : State → Prop} {A : Nat → Prop} {ls : Array Slot} {D : va_G} {d : Nat → ClassId} {ad : Nat → Nat} {ba : Nat → Nat} {ta : Nat → Nat} {imgs : va_W} {room : Nat → Int32} {work : Nat → Int32} {price : Nat → Int32} {whom : Nat → Int32} {bday : Nat → Int32} {units : Nat → Int32} {worth : Nat → Int32} {due : Nat → Int32} {under : Nat → Int32} {people : Int32} {askings : Int32} {hangs : Int32} {items : Int32} {many : Nat → Int32} {slip : Nat → Nat → Int32} {became : Nat → Int32} {left : Nat → Int32} {what : Nat → Int32} {which : Nat → Int32} {whose : Nat → Int32} {place : Nat → Int32} {deeds : Int32} {day : Int32} {won : Int32} {lost : Int32} {kept : Int32} {text : Nat → Int32} {typed : Int32} {rest : Nat → Int32} {bestSet : Int32} {tenths : Nat → Int32} {sortWorth : Nat → Int32} {sortDays : Nat → Int32} {row : Nat → Int32} {trace : Int64} {x1 : Int32} {x2 : Int32} {x3 : Int32} {r : Int32} (hx : p.tables.exec = Jvm.exec) (hb : c.code = cX0_great) (hml : c.maxLocals = 11) (hown : s.vm.findClass RX0 = some m.cls) (hts : ∀ w ∈ lw_all, w.before args s = true) (hN : NX s) (hA : ∀ q, s.heap.size ≤ q → A q) (hRf : 1 ≤ R.frames) (hRl : 23 ≤ R.locals) (hRc : cells ≤ R.cells) (hRs : slots ≤ R.slots) (hf : x_great room work price people many slip left day x1 x2 x3 = some r) (hC : HC D gcl (gty d) A (xw d ad ba ta imgs room work price whom bday units worth due under people askings hangs items many slip became left what which whose place deeds day won lost kept text typed rest bestSet tenths sortWorth sortDays row trace) s H locs) (hl : lv_has ls 11 [(0, .ref (ad 0)), (1, .int x1), (2, .int x2), (3, .int x3)]) (K : ∀ (H : Heap) (locs : List Loc) (ls : Array Slot) (pc : Nat), narrow .int (.int r) = .int r → HC D gcl (gty d) A (xw d ad ba ta imgs room work price whom bday units worth due under people askings hangs items many slip became left what which whose place deeds day won lost kept text typed rest bestSet tenths sortWorth sortDays row trace) s H locs → decode cX0_great pc = .ok (.ireturn, 1) → W p l e R s m args below meth c H locs cells slots Q (F0 m pc ls [.int r])) : W p l e R s m args below meth c H locs cells slots Q (F0 m 0 ls []) := by
  unfold x_great at hf
  refine lv_iload_n hx hb dX0_great_0 rfl (lv_at hl 1 rfl) ?_
  refine lv_iconst (v := 1) hx hb dX0_great_1 (by decide) ?_
  refine lv_bipush (v := 99) hx hb dX0_great_2 (by decide) ?_
  obtain ⟨r_4, hcall, hf⟩ := bnd_some hf
  refine hc_i (va_runS (As := [.int x1, .int 1, .int 99]) (rest := []) ⟨hx, hb, hml, hown, hts⟩ (c_x_in hcall) (va_cwS 3 hts (lw_S q358 q359 q48 q360) rfl rfl rfl (by decide +kernel) ⟨(Nat.le_trans (Nat.le_of_ble_eq_true rfl) hRf), (Nat.le_trans (Nat.le_of_ble_eq_true rfl) hRl)⟩) (pre_S (fun _ _ _ _ h => h) (fun _ _ _ => trivial) hC) rfl rfl hl.1 rfl (lv_room (Nat.le_of_ble_eq_true rfl)) dX0_great_4 ⟨hRc, hRs⟩) hA hC (fun H locs hC => ?_)
  refine lv_if_eq (tgt := 35) hx hb dX0_great_7 (by decide) (fun c_7 => ?_) (fun c_7 => ?_)
  · have hf := if_t hf c_7
    refine lv_iconst (v := (-1)) hx hb dX0_great_35 (by decide) ?_
    have e_1 := (Option.some.inj hf)
    subst e_1
    exact K H locs ls _ rfl hC dX0_great_36
  · have hf := if_f hf c_7
    refine lv_iload_n hx hb dX0_great_10 rfl (lv_at hl 2 rfl) ?_
    refine lv_aload_n hx hb dX0_great_11 rfl (lv_at hl 0 rfl) ?_
    refine va_get (ci := 0) (v := .ref (ta 0)) (C := RX0) (T := TX0) (N := 13) hx hb hts in_X0 hown hC.1 hC.2.1 (26) rfl rfl 1 (by decide) (hts _ q305) (fun _ h9 => h9) rfl dX0_great_12 ?_
    refine va_getN (ci := 2) (v := .int day) (C := RX2) (T := TX2) (N := 12) (host := "SleeveSlips") hx hb hts in_X2 hown hC.1 hC.2.1 (10) rfl rfl 8 (by decide) (va_Nw.use rfl (hN.1 42)) (fun _ h9 => h9) rfl dX0_great_15 ?_
    refine lv_bipush (v := 9) hx hb dX0_great_18 (by decide) ?_
    obtain ⟨r_20, hcall, hf⟩ := bnd_some hf
    refine hc_i (va_runS (As := [.int x2, .int day, .int 9]) (rest := []) ⟨hx, hb, hml, hown, hts⟩ (c_x_in hcall) (va_cwS 3 hts (lw_S q358 q359 q48 q360) rfl rfl rfl (by decide +kernel) ⟨(Nat.le_trans (Nat.le_of_ble_eq_true rfl) hRf), (Nat.le_trans (Nat.le_of_ble_eq_true rfl) hRl)⟩) (pre_S (fun _ _ _ _ h => h) (fun _ _ _ => trivial) hC) rfl rfl hl.1 rfl (lv_room (Nat.le_of_ble_eq_true rfl)) dX0_great_20 ⟨hRc, hRs⟩) hA hC (fun H locs hC => ?_)
    refine lv_if_eq (tgt := 35) hx hb dX0_great_23 (by decide) (fun c_23 => ?_) (fun c_23 => ?_)
    · have hf := if_t hf c_23
      refine lv_iconst (v := (-1)) hx hb dX0_great_35 (by decide) ?_
      have e_1 := (Option.some.inj hf)
      subst e_1
      exact K H locs ls _ rfl hC dX0_great_36
    · have hf := if_f hf c_23
      refine lv_iload_n hx hb dX0_great_26 rfl (lv_at hl 3 rfl) ?_
      refine lv_iconst (v := 0) hx hb dX0_great_27 (by decide) ?_
      refine lv_iconst (v := 1) hx hb dX0_great_28 (by decide) ?_
      obtain ⟨r_29, hcall, hf⟩ := bnd_some hf
      refine hc_i (va_runS (As := [.int x3, .int 0, .int 1]) (rest := []) ⟨hx, hb, hml, hown, hts⟩ (c_x_in hcall) (va_cwS 3 hts (lw_S q358 q359 q48 q360) rfl rfl rfl (by decide +kernel) ⟨(Nat.le_trans (Nat.le_of_ble_eq_true rfl) hRf), (Nat.le_trans (Nat.le_of_ble_eq_true rfl) hRl)⟩) (pre_S (fun _ _ _ _ h => h) (fun _ _ _ => trivial) hC) rfl rfl hl.1 rfl (lv_room (Nat.le_of_ble_eq_true rfl)) dX0_great_29 ⟨hRc, hRs⟩) hA hC (fun H locs hC => ?_)
      refine lv_if_ne (tgt := 37) hx hb dX0_great_32 (by decide) (fun c_32 => ?_) (fun c_32 => ?_)
      · have hf := if_f hf c_32
        refine lv_iload_n hx hb dX0_great_37 rfl (lv_at hl 1 rfl) ?_
        refine lv_istore (lv' := [(4, .int x1), (0, .ref (ad 0)), (1, .int x1), (2, .int x2), (3, .int x3)]) hx hb dX0_great_38 hl (by decide) rfl (fun ls hl => ?_)
        refine lv_iconst (v := 0) hx hb dX0_great_40 (by decide) ?_
        refine lv_istore (lv' := [(5, .int 0), (4, .int x1), (0, .ref (ad 0)), (1, .int x1), (2, .int x2), (3, .int x3)]) hx hb dX0_great_41 hl (by decide) rfl (fun ls hl => ?_)
        refine lv_iconst (v := 0) hx hb dX0_great_43 (by decide) ?_
        refine lv_istore (lv' := [(6, .int 0), (5, .int 0), (4, .int x1), (0, .ref (ad 0)), (1, .int x1), (2, .int x2), (3, .int x3)]) hx hb dX0_great_44 hl (by decide) rfl (fun ls hl => ?_)
        refine lv_iconst (v := 0) hx hb dX0_great_46 (by decide) ?_
        refine lv_istore (lv' := [(7, .int 0), (6, .int 0), (5, .int 0), (4, .int x1), (0, .ref (ad 0)), (1, .int x1), (2, .int x2), (3, .int x3)]) hx hb dX0_great_47 hl (by decide) rfl (fun ls hl => ?_)
        obtain ⟨x4_190, x5_190, x6_190, hL, hf⟩ := bnd3_some hf
        have X_49 : ∀ (H : Heap) (locs : List Loc) (ls : Array Slot), HC D gcl (gty d) A (xw d ad ba ta imgs room work price whom bday units worth due under people askings hangs items many slip became left what which whose place deeds day won lost kept text typed rest bestSet tenths sortWorth sortDays row trace) s H locs → lv_has ls 11 [(3, .int x3), (4, .int x4_190), (5, .int x5_190), (6, .int x6_190)] → W p l e R s m args below meth c H locs cells slots Q (F0 m 190 ls []) := by
          intro H locs ls hC hl
          refine lv_iload hx hb dX0_great_190 (lv_at hl 1 rfl) ?_
          refine lv_if_le (tgt := 200) hx hb dX0_great_192 (by decide) (fun c_192 => ?_) (fun c_192 => ?_)
          · have hf := if_t hf c_192
            refine lv_iload_n hx hb dX0_great_200 rfl (lv_at hl 0 rfl) ?_
            refine lv_if_ne (tgt := 209) hx hb dX0_great_201 (by decide) (fun c_201 => ?_) (fun c_201 => ?_)
            · have hf := if_f hf c_201
              refine lv_iload hx hb dX0_great_209 (lv_at hl 3 rfl) ?_
              have e_1 := (Option.some.inj hf)
              subst e_1
              exact K H locs ls _ rfl hC dX0_great_211
            · have hf := if_t hf c_201
              refine lv_iload hx hb dX0_great_204 (lv_at hl 2 rfl) ?_
              refine lv_goto (tgt := 211) hx hb dX0_great_206 (by decide) ?_
              have e_1 := (Option.some.inj hf)
              subst e_1
              exact K H locs ls _ rfl hC dX0_great_211
          · have hf := if_f hf c_192
            refine lv_bipush (v := (-9)) hx hb dX0_great_195 (by decide) ?_
            refine lv_goto (tgt := 211) hx hb dX0_great_197 (by decide) ?_
            have e_1 := (Option.some.inj hf)
            subst e_1
            exact K H locs ls _ rfl hC dX0_great_211
        have L_49 : ∀ (n_49 : Nat) (x4_49 : Int32) (x5_49 : Int32) (x6_49 : Int32) (x7_49 : Int32), x_great_L49 x2 room work price people many slip left day n_49 x4_49 x5_49 x6_49 x7_49 = some (x4_190, x5_190, x6_190) → ∀ (H : Heap) (locs : List Loc) (ls : Array Slot), HC D gcl (gty d) A (xw d ad ba ta imgs room work price whom bday units worth due under people askings hangs items many slip became left what which whose place deeds day won lost kept text typed rest bestSet tenths sortWorth sortDays row trace) s H locs → lv_has ls 11 [(0, .ref (ad 0)), (2, .int x2), (3, .int x3), (4, .int x4_49), (5, .int x5_49), (6, .int x6_49), (7, .int x7_49)] → W p l e R s m args below meth c H locs cells slots Q (F0 m 49 ls []) := by
          intro n_49
          induction n_49 with
          | zero => intro _ _ _ _ hf; cases hf
          | succ n_49 ih =>
            intro x4_49 x5_49 x6_49 x7_49 hf H locs ls hC hl
            rw [x_great_L49_s] at hf
            refine lv_iload hx hb dX0_great_49 (lv_at hl 6 rfl) ?_
            refine lv_bipush (v := 9) hx hb dX0_great_51 (by decide) ?_
            refine lv_icmp_gt (tgt := 190) hx hb dX0_great_53 (by decide) (fun c_53 => ?_) (fun c_53 => ?_)
            · have hf := if_t hf c_53
              obtain ⟨e_1, e_2, e_3⟩ := so_3 (Option.some.inj hf)
              subst e_1
              subst e_2
              subst e_3
              exact X_49 H locs ls hC (lv_sub hl [2, 3, 4, 5] rfl)
            · have hf := if_f hf c_53
              refine lv_iconst (v := 0) hx hb dX0_great_56 (by decide) ?_
              refine lv_istore (lv' := [(8, .int 0), (0, .ref (ad 0)), (2, .int x2), (3, .int x3), (4, .int x4_49), (5, .int x5_49), (6, .int x6_49), (7, .int x7_49)]) hx hb dX0_great_57 hl (by decide) rfl (fun ls hl => ?_)
              obtain ⟨x4_184, x5_184, x6_184, hL, hf⟩ := bnd3_some hf
              have X_59 : ∀ (H : Heap) (locs : List Loc) (ls : Array Slot), HC D gcl (gty d) A (xw d ad ba ta imgs room work price whom bday units worth due under people askings hangs items many slip became left what which whose place deeds day won lost kept text typed rest bestSet tenths sortWorth sortDays row trace) s H locs → lv_has ls 11 [(0, .ref (ad 0)), (2, .int x2), (3, .int x3), (4, .int x4_184), (5, .int x5_184), (6, .int x6_184), (7, .int x7_49)] → W p l e R s m args below meth c H locs cells slots Q (F0 m 184 ls []) := by
                intro H locs ls hC hl
                refine lv_iinc (v := x7_49 + 1) (lv' := [(7, .int (x7_49 + 1)), (0, .ref (ad 0)), (2, .int x2), (3, .int x3), (4, .int x4_184), (5, .int x5_184), (6, .int x6_184)]) hx hb dX0_great_184 hl (k := 6) rfl rfl (by decide) rfl (fun ls hl => ?_)
                refine lv_goto (tgt := 49) hx hb dX0_great_187 (by decide) ?_
                exact ih _ _ _ _ hf H locs ls hC (lv_sub hl [1, 2, 3, 4, 5, 6, 0] rfl)
              have L_59 : ∀ (n_59 : Nat) (x4_59 : Int32) (x5_59 : Int32) (x6_59 : Int32) (x8_59 : Int32), x_great_L59 x2 x7_49 room work price people many slip left day n_59 x4_59 x5_59 x6_59 x8_59 = some (x4_184, x5_184, x6_184) → ∀ (H : Heap) (locs : List Loc) (ls : Array Slot), HC D gcl (gty d) A (xw d ad ba ta imgs room work price whom bday units worth due under people askings hangs items many slip became left what which whose place deeds day won lost kept text typed rest bestSet tenths sortWorth sortDays row trace) s H locs → lv_has ls 11 [(0, .ref (ad 0)), (2, .int x2), (3, .int x3), (4, .int x4_59), (5, .int x5_59), (6, .int x6_59), (7, .int x7_49), (8, .int x8_59)] → W p l e R s m args below meth c H locs cells slots Q (F0 m 59 ls []) := by
                intro n_59
                induction n_59 with
                | zero => intro _ _ _ _ hf; cases hf
                | succ n_59 ih =>
                  intro x4_59 x5_59 x6_59 x8_59 hf H locs ls hC hl
                  rw [x_great_L59_s] at hf
                  refine lv_iload hx hb dX0_great_59 (lv_at hl 7 rfl) ?_
                  refine lv_aload_n hx hb dX0_great_61 rfl (lv_at hl 0 rfl) ?_
                  refine va_get (ci := 0) (v := .ref (ba 0)) (C := RX0) (T := TX0) (N := 13) hx hb hts in_X0 hown hC.1 hC.2.1 (26) rfl rfl 0 (by decide) (hts _ q302) (fun _ h9 => h9) rfl dX0_great_62 ?_
                  refine va_getN (ci := 1) (v := .int people) (C := RX1) (T := TX1) (N := 13) (host := "SleeveSlips") hx hb hts in_X1 hown hC.1 hC.2.1 (0) rfl rfl 9 (by decide) (va_Nw.use rfl (hN.1 20)) (fun _ h9 => h9) rfl dX0_great_65 ?_
                  refine lv_icmp_ge (tgt := 184) hx hb dX0_great_68 (by decide) (fun c_68 => ?_) (fun c_68 => ?_)
                  · have hf := if_t hf c_68
                    obtain ⟨e_1, e_2, e_3⟩ := so_3 (Option.some.inj hf)
                    subst e_1
                    subst e_2
                    subst e_3
                    exact X_59 H locs ls hC (lv_sub hl [0, 1, 2, 3, 4, 5, 6] rfl)
                  · have hf := if_f hf c_68
                    refine lv_aload_n hx hb dX0_great_71 rfl (lv_at hl 0 rfl) ?_
                    refine lv_iload hx hb dX0_great_72 (lv_at hl 7 rfl) ?_
                    obtain ⟨r_74, hcall, hf⟩ := bnd_some hf
                    refine hc_i (va_runV (C := RX0) (As := [.int x8_59]) (rest := []) ⟨hx, hb, hml, hown, hts⟩ (c_x_hasRoom hcall) (cwV 1 hts (lw_V q583 q585 qs10 q48 q586) rfl rfl rfl (by decide +kernel) ⟨(Nat.le_trans (Nat.le_of_ble_eq_true rfl) hRf), (Nat.le_trans (Nat.le_of_ble_eq_true rfl) hRl)⟩) (pre_V (q0 := 26) (ci := 0) NX.calling (fun U _ hW => NX.warm hW hN) hC rfl rfl) rfl rfl hl.1 rfl (lv_room (Nat.le_of_ble_eq_true rfl)) dX0_great_74 ⟨hRc, hRs⟩) hA hC (fun H locs hC => ?_)
                    obtain ⟨t_132, hj, hf⟩ := bnd_some hf
                    have J_132 : ∀ (H : Heap) (locs : List Loc) (ls : Array Slot), HC D gcl (gty d) A (xw d ad ba ta imgs room work price whom bday units worth due under people askings hangs items many slip became left what which whose place deeds day won lost kept text typed rest bestSet tenths sortWorth sortDays row trace) s H locs → lv_has ls 11 [(0, .ref (ad 0)), (2, .int x2), (3, .int x3), (4, .int x4_59), (5, .int x5_59), (6, .int x6_59), (7, .int x7_49), (8, .int x8_59)] → W p l e R s m args below meth c H locs cells slots Q (F0 m 132 ls [.int t_132]) := by
                      intro H locs ls hC hl
                      refine lv_istore (lv' := [(9, .int t_132), (0, .ref (ad 0)), (2, .int x2), (3, .int x3), (4, .int x4_59), (5, .int x5_59), (6, .int x6_59), (7, .int x7_49), (8, .int x8_59)]) hx hb dX0_great_132 hl (by decide) rfl (fun ls hl => ?_)
                      refine lv_iload hx hb dX0_great_134 (lv_at hl 0 rfl) ?_
                      refine lv_iload hx hb dX0_great_136 (lv_at hl 4 rfl) ?_
                      refine va_mmin hx hb (by rw [hml]; exact hl.1.symm) hown (hts _ q738) (hts _ q465) (hts _ q65) (hts _ q466) (Nat.le_trans (Nat.le_of_ble_eq_true rfl) hRf) (Nat.le_trans (Nat.le_of_ble_eq_true rfl) hRl) hRc hRs dX0_great_138 ?_
                      refine lv_istore (lv' := [(10, .int (if x4_59 < t_132 then x4_59 else t_132)), (9, .int t_132), (0, .ref (ad 0)), (2, .int x2), (3, .int x3), (4, .int x4_59), (5, .int x5_59), (6, .int x6_59), (7, .int x7_49), (8, .int x8_59)]) hx hb dX0_great_141 hl (by decide) rfl (fun ls hl => ?_)
                      refine lv_iload hx hb dX0_great_143 (lv_at hl 5 rfl) ?_
                      refine lv_iload hx hb dX0_great_145 (lv_at hl 0 rfl) ?_
                      refine lv_isub hx hb dX0_great_147 ?_
                      refine lv_istore (lv' := [(4, .int (x4_59 - (if x4_59 < t_132 then x4_59 else t_132))), (10, .int (if x4_59 < t_132 then x4_59 else t_132)), (9, .int t_132), (0, .ref (ad 0)), (2, .int x2), (3, .int x3), (5, .int x5_59), (6, .int x6_59), (7, .int x7_49), (8, .int x8_59)]) hx hb dX0_great_148 hl (by decide) rfl (fun ls hl => ?_)
                      refine lv_iload hx hb dX0_great_150 (lv_at hl 6 rfl) ?_
                      refine lv_iload hx hb dX0_great_152 (lv_at hl 1 rfl) ?_
                      refine lv_iload hx hb dX0_great_154 (lv_at hl 8 rfl) ?_
                      refine lv_imul hx hb dX0_great_156 ?_
                      refine lv_iadd hx hb dX0_great_157 ?_
                      refine lv_istore (lv' := [(5, .int (x5_59 + ((if x4_59 < t_132 then x4_59 else t_132) * x7_49))), (4, .int (x4_59 - (if x4_59 < t_132 then x4_59 else t_132))), (10, .int (if x4_59 < t_132 then x4_59 else t_132)), (9, .int t_132), (0, .ref (ad 0)), (2, .int x2), (3, .int x3), (6, .int x6_59), (7, .int x7_49), (8, .int x8_59)]) hx hb dX0_great_158 hl (by decide) rfl (fun ls hl => ?_)
                      refine lv_iload hx hb dX0_great_160 (lv_at hl 7 rfl) ?_
                      refine lv_iload hx hb dX0_great_162 (lv_at hl 2 rfl) ?_
                      refine lv_if_le (tgt := 174) hx hb dX0_great_164 (by decide) (fun c_164 => ?_) (fun c_164 => ?_)
                      · have hf := if_t hf c_164
                        refine lv_iconst (v := 0) hx hb dX0_great_174 (by decide) ?_
                        refine lv_ior hx hb dX0_great_175 ?_
                        refine lv_istore (lv' := [(6, .int (x6_59 ||| 0)), (5, .int (x5_59 + ((if x4_59 < t_132 then x4_59 else t_132) * x7_49))), (4, .int (x4_59 - (if x4_59 < t_132 then x4_59 else t_132))), (10, .int (if x4_59 < t_132 then x4_59 else t_132)), (9, .int t_132), (0, .ref (ad 0)), (2, .int x2), (3, .int x3), (7, .int x7_49), (8, .int x8_59)]) hx hb dX0_great_176 hl (by decide) rfl (fun ls hl => ?_)
                        refine lv_iinc (v := x8_59 + 1) (lv' := [(8, .int (x8_59 + 1)), (6, .int (x6_59 ||| 0)), (5, .int (x5_59 + ((if x4_59 < t_132 then x4_59 else t_132) * x7_49))), (4, .int (x4_59 - (if x4_59 < t_132 then x4_59 else t_132))), (10, .int (if x4_59 < t_132 then x4_59 else t_132)), (9, .int t_132), (0, .ref (ad 0)), (2, .int x2), (3, .int x3), (7, .int x7_49)]) hx hb dX0_great_178 hl (k := 9) rfl rfl (by decide) rfl (fun ls hl => ?_)
                        refine lv_goto (tgt := 59) hx hb dX0_great_181 (by decide) ?_
                        exact ih _ _ _ _ hf H locs ls hC (lv_sub hl [6, 7, 8, 3, 2, 1, 9, 0] rfl)
                      · have hf := if_f hf c_164
                        refine lv_iconst (v := 1) hx hb dX0_great_167 (by decide) ?_
                        refine lv_iload hx hb dX0_great_168 (lv_at hl 9 rfl) ?_
                        refine lv_ishl hx hb dX0_great_170 ?_
                        refine lv_goto (tgt := 175) hx hb dX0_great_171 (by decide) ?_
                        refine lv_ior hx hb dX0_great_175 ?_
                        refine lv_istore (lv' := [(6, .int (x6_59 ||| (1 <<< (x8_59 &&& 31)))), (5, .int (x5_59 + ((if x4_59 < t_132 then x4_59 else t_132) * x7_49))), (4, .int (x4_59 - (if x4_59 < t_132 then x4_59 else t_132))), (10, .int (if x4_59 < t_132 then x4_59 else t_132)), (9, .int t_132), (0, .ref (ad 0)), (2, .int x2), (3, .int x3), (7, .int x7_49), (8, .int x8_59)]) hx hb dX0_great_176 hl (by decide) rfl (fun ls hl => ?_)
                        refine lv_iinc (v := x8_59 + 1) (lv' := [(8, .int (x8_59 + 1)), (6, .int (x6_59 ||| (1 <<< (x8_59 &&& 31)))), (5, .int (x5_59 + ((if x4_59 < t_132 then x4_59 else t_132) * x7_49))), (4, .int (x4_59 - (if x4_59 < t_132 then x4_59 else t_132))), (10, .int (if x4_59 < t_132 then x4_59 else t_132)), (9, .int t_132), (0, .ref (ad 0)), (2, .int x2), (3, .int x3), (7, .int x7_49)]) hx hb dX0_great_178 hl (k := 9) rfl rfl (by decide) rfl (fun ls hl => ?_)
                        refine lv_goto (tgt := 59) hx hb dX0_great_181 (by decide) ?_
                        exact ih _ _ _ _ hf H locs ls hC (lv_sub hl [6, 7, 8, 3, 2, 1, 9, 0] rfl)
                    have hf := hj
                    refine lv_if_eq (tgt := 131) hx hb dX0_great_77 (by decide) (fun c_77 => ?_) (fun c_77 => ?_)
                    · have hf := if_t hf c_77
                      refine lv_iconst (v := 0) hx hb dX0_great_131 (by decide) ?_
                      have e_1 := (Option.some.inj hf)
                      subst e_1
                      exact J_132 H locs ls hC (lv_sub hl [0, 1, 2, 3, 4, 5, 6, 7] rfl)
                    · have hf := if_f hf c_77
                      refine lv_aload_n hx hb dX0_great_80 rfl (lv_at hl 0 rfl) ?_
                      refine va_get (ci := 0) (v := .ref (ba 0)) (C := RX0) (T := TX0) (N := 13) hx hb hts in_X0 hown hC.1 hC.2.1 (26) rfl rfl 0 (by decide) (hts _ q302) (fun _ h9 => h9) rfl dX0_great_81 ?_
                      refine va_getN (ci := 1) (v := .ref (ba 3)) (C := RX1) (T := TX1) (N := 13) (host := "SleeveSlips") hx hb hts in_X1 hown hC.1 hC.2.1 (0) rfl rfl 2 (by decide) (va_Nw.use rfl (hN.1 7)) (fun _ h9 => h9) rfl dX0_great_84 ?_
                      refine lv_iload hx hb dX0_great_87 (lv_at hl 7 rfl) ?_
                      obtain ⟨hi_89, hf⟩ := ck_some hf
                      refine va_iald hx hb hC.1 hC.2.1 (3) 0 rfl rfl hi_89 dX0_great_89 ?_
                      refine lv_iload hx hb dX0_great_90 (lv_at hl 6 rfl) ?_
                      refine lv_icmp_ne (tgt := 131) hx hb dX0_great_92 (by decide) (fun c_92 => ?_) (fun c_92 => ?_)
                      · have hf := if_f hf c_92
                        refine lv_iconst (v := 0) hx hb dX0_great_131 (by decide) ?_
                        have e_1 := (Option.some.inj hf)
                        subst e_1
                        exact J_132 H locs ls hC (lv_sub hl [0, 1, 2, 3, 4, 5, 6, 7] rfl)
                      · have hf := if_t hf c_92
                        refine lv_iconst (v := 0) hx hb dX0_great_95 (by decide) ?_
                        refine lv_aload_n hx hb dX0_great_96 rfl (lv_at hl 0 rfl) ?_
                        refine va_get (ci := 0) (v := .ref (ba 0)) (C := RX0) (T := TX0) (N := 13) hx hb hts in_X0 hown hC.1 hC.2.1 (26) rfl rfl 0 (by decide) (hts _ q302) (fun _ h9 => h9) rfl dX0_great_97 ?_
                        refine va_getN (ci := 1) (v := .ref (ba 2)) (C := RX1) (T := TX1) (N := 13) (host := "SleeveSlips") hx hb hts in_X1 hown hC.1 hC.2.1 (0) rfl rfl 1 (by decide) (va_Nw.use rfl (hN.1 5)) (fun _ h9 => h9) rfl dX0_great_100 ?_
                        refine lv_iload hx hb dX0_great_103 (lv_at hl 7 rfl) ?_
                        obtain ⟨hi_105, hf⟩ := ck_some hf
                        refine va_iald hx hb hC.1 hC.2.1 (2) 0 rfl rfl hi_105 dX0_great_105 ?_
                        refine lv_iload_n hx hb dX0_great_106 rfl (lv_at hl 1 rfl) ?_
                        refine lv_aload_n hx hb dX0_great_107 rfl (lv_at hl 0 rfl) ?_
                        refine va_get (ci := 0) (v := .ref (ta 0)) (C := RX0) (T := TX0) (N := 13) hx hb hts in_X0 hown hC.1 hC.2.1 (26) rfl rfl 1 (by decide) (hts _ q305) (fun _ h9 => h9) rfl dX0_great_108 ?_
                        refine va_getN (ci := 2) (v := .int day) (C := RX2) (T := TX2) (N := 12) (host := "SleeveSlips") hx hb hts in_X2 hown hC.1 hC.2.1 (10) rfl rfl 8 (by decide) (va_Nw.use rfl (hN.1 42)) (fun _ h9 => h9) rfl dX0_great_111 ?_
                        refine lv_isub hx hb dX0_great_114 ?_
                        refine lv_iconst (v := 1) hx hb dX0_great_115 (by decide) ?_
                        refine lv_iadd hx hb dX0_great_116 ?_
                        refine lv_imul hx hb dX0_great_117 ?_
                        refine lv_aload_n hx hb dX0_great_118 rfl (lv_at hl 0 rfl) ?_
                        refine lv_iload hx hb dX0_great_119 (lv_at hl 7 rfl) ?_
                        obtain ⟨r_121, hcall, hf⟩ := bnd_some hf
                        refine hc_i (va_runV (C := RX0) (As := [.int x8_59]) (rest := [.int ((work x8_59.toNatClampNeg) * ((x2 - day) + 1)), .int 0]) ⟨hx, hb, hml, hown, hts⟩ (c_x_leftOn hcall) (cwV 1 hts (lw_V q731 q733 qs22 q48 q734) rfl rfl rfl (by decide +kernel) ⟨(Nat.le_trans (Nat.le_of_ble_eq_true rfl) hRf), (Nat.le_trans (Nat.le_of_ble_eq_true rfl) hRl)⟩) (pre_V (q0 := 26) (ci := 0) NX.calling (fun U _ hW => NX.warm hW hN) hC rfl rfl) rfl rfl hl.1 rfl (lv_room (Nat.le_of_ble_eq_true rfl)) dX0_great_121 ⟨hRc, hRs⟩) hA hC (fun H locs hC => ?_)
                        refine lv_isub hx hb dX0_great_124 ?_
                        refine va_mmax hx hb (by rw [hml]; exact hl.1.symm) hown (hts _ q735) (hts _ q736) (hts _ q65) (hts _ q737) (Nat.le_trans (Nat.le_of_ble_eq_true rfl) hRf) (Nat.le_trans (Nat.le_of_ble_eq_true rfl) hRl) hRc hRs dX0_great_125 ?_
                        refine lv_goto (tgt := 132) hx hb dX0_great_128 (by decide) ?_
                        have e_1 := (Option.some.inj hf)
                        subst e_1
                        exact J_132 H locs ls hC (lv_sub hl [0, 1, 2, 3, 4, 5, 6, 7] rfl)
              exact L_59 _ _ _ _ _ hL H locs ls hC (lv_sub hl [1, 2, 3, 4, 5, 6, 7, 0] rfl)
        exact L_49 _ _ _ _ _ hL H locs ls hC (lv_sub hl [4, 6, 7, 3, 2, 1, 0] rfl)
      · have hf := if_t hf c_32
        refine lv_iconst (v := (-1)) hx hb dX0_great_35 (by decide) ?_
        have e_1 := (Option.some.inj hf)
        subst e_1
        exact K H locs ls _ rfl hC dX0_great_36
set_option maxRecDepth 100000 in
theorem c_x_great {l : Launch} {sz : Nat} {D : va_G} {d : Nat → ClassId} {ad : Nat → Nat} {ba : Nat → Nat} {ta : Nat → Nat} {imgs : va_W} {room : Nat → Int32} {work : Nat → Int32} {price : Nat → Int32} {whom : Nat → Int32} {bday : Nat → Int32} {units : Nat → Int32} {worth : Nat → Int32} {due : Nat → Int32} {under : Nat → Int32} {people : Int32} {askings : Int32} {hangs : Int32} {items : Int32} {many : Nat → Int32} {slip : Nat → Nat → Int32} {became : Nat → Int32} {left : Nat → Int32} {what : Nat → Int32} {which : Nat → Int32} {whose : Nat → Int32} {place : Nat → Int32} {deeds : Int32} {day : Int32} {won : Int32} {lost : Int32} {kept : Int32} {text : Nat → Int32} {typed : Int32} {rest : Nat → Int32} {bestSet : Int32} {tenths : Nat → Int32} {sortWorth : Nat → Int32} {sortDays : Nat → Int32} {row : Nat → Int32} {trace : Int64} {x1 : Int32} {x2 : Int32} {x3 : Int32} {r : Int32} (hf : x_great room work price people many slip left day x1 x2 x3 = some r) : MI l yX0_great (ws_ yX0_great cX0_great 11 (some .int)) { frames := 1, cells := 0, slots := 0, locals := 23 } D gcl (gty d) NX (xw d ad ba ta imgs room work price whom bday units worth due under people askings hangs items many slip became left what which whose place deeds day won lost kept text typed rest bestSet tenths sortWorth sortDays row trace) (xw d ad ba ta imgs room work price whom bday units worth due under people askings hangs items many slip became left what which whose place deeds day won lost kept text typed rest bestSet tenths sortWorth sortDays row trace) sz [.ref (ad 0), .int x1, .int x2, .int x3] r :=
  MI.of (by decide) [.ref (ad 0), .int x1, .int x2, .int x3] [(0, .ref (ad 0)), (1, .int x1), (2, .int x2), (3, .int x3)] (Nat.le_of_ble_eq_true rfl) rfl (fun p e s m below meth c ls Q hx hb hml hown hts hN hA hC hl K => w_x_great hx hb hml hown hts hN hA (Nat.le_refl _) (Nat.le_refl _) (Nat.le_refl _) (Nat.le_refl _) hf hC hl K)
