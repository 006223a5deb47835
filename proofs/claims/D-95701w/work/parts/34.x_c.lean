set_option maxRecDepth 100000

def x_nextDue_L5 (x1 : Int32) (due : Nat → Int32) (askings : Int32) : Nat → Int32 → Int32 → Option (Int32)
  | 0, _, _ => none
  | n_5 + 1, x2_5, x3_5 =>
  if askings ≤ x3_5 then (some x2_5) else
  ltv (if ((x1 >>> (x3_5 &&& 31)) &&& 1) = 1 then (1) else
  0) (fun (t_30 : Int32) =>
  if t_30 = 0 then (x_nextDue_L5 x1 due askings n_5 x2_5 (x3_5 + 1) ) else
  if x2_5 = (-9) then (x_nextDue_L5 x1 due askings n_5 x3_5 (x3_5 + 1) ) else
  ck x3_5 8 <| ck x2_5 8 <| if (due x2_5.toNatClampNeg) ≤ (due x3_5.toNatClampNeg) then (x_nextDue_L5 x1 due askings n_5 x2_5 (x3_5 + 1) ) else
  x_nextDue_L5 x1 due askings n_5 x3_5 (x3_5 + 1) )
theorem x_nextDue_L5_s (x1 : Int32) (due : Nat → Int32) (askings : Int32) (n_5 : Nat) (x2_5 : Int32) (x3_5 : Int32) : x_nextDue_L5 x1 due askings (n_5 + 1) x2_5 x3_5 = (
  if askings ≤ x3_5 then (some x2_5) else
  ltv (if ((x1 >>> (x3_5 &&& 31)) &&& 1) = 1 then (1) else
  0) (fun (t_30 : Int32) =>
  if t_30 = 0 then (x_nextDue_L5 x1 due askings n_5 x2_5 (x3_5 + 1) ) else
  if x2_5 = (-9) then (x_nextDue_L5 x1 due askings n_5 x3_5 (x3_5 + 1) ) else
  ck x3_5 8 <| ck x2_5 8 <| if (due x2_5.toNatClampNeg) ≤ (due x3_5.toNatClampNeg) then (x_nextDue_L5 x1 due askings n_5 x2_5 (x3_5 + 1) ) else
  x_nextDue_L5 x1 due askings n_5 x3_5 (x3_5 + 1) )) := rfl
def x_nextDue (due : Nat → Int32) (askings : Int32) (x1 : Int32) : Option (Int32) :=
  bnd (x_nextDue_L5 x1 due askings g_fuel (-9) 0 ) (fun x2_76 =>
  some x2_76)
set_option maxHeartbeats 4000000 in
set_option maxRecDepth 100000 in
theorem w_x_nextDue {p : Program} {l : Launch} {e : Env} {R : Room} {s : State} {m : MethodId} {args : Array Value} {below : List Frame} {meth : Method} {c : Code} {H : Heap} {locs : List Loc} {cells slots : Nat} {Q : State → Prop} {A : Nat → Prop} {ls : Array Slot} {D : va_G} {d : Nat → ClassId} {ad : Nat → Nat} {ba : Nat → Nat} {ta : Nat → Nat} {imgs : va_W} {room : Nat → Int32} {work : Nat → Int32} {price : Nat → Int32} {whom : Nat → Int32} {bday : Nat → Int32} {units : Nat → Int32} {worth : Nat → Int32} {due : Nat → Int32} {under : Nat → Int32} {people : Int32} {askings : Int32} {hangs : Int32} {items : Int32} {many : Nat → Int32} {slip : Nat → Nat → Int32} {became : Nat → Int32} {left : Nat → Int32} {what : Nat → Int32} {which : Nat → Int32} {whose : Nat → Int32} {place : Nat → Int32} {deeds : Int32} {day : Int32} {won : Int32} {lost : Int32} {kept : Int32} {text : Nat → Int32} {typed : Int32} {rest : Nat → Int32} {bestSet : Int32} {tenths : Nat → Int32} {sortWorth : Nat → Int32} {sortDays : Nat → Int32} {row : Nat → Int32} {trace : Int64} {x1 : Int32} {r : Int32} (hx : p.tables.exec = Jvm.exec) (hb : c.code = cX0_nextDue) (hml : c.maxLocals = 5) (hown : s.vm.findClass RX0 = some m.cls) (hts : ∀ w ∈ lw_all, w.before args s = true) (hN : NX s) (hA : ∀ q, s.heap.size ≤ q → A q) (hRf : 0 ≤ R.frames) (hRl : 0 ≤ R.locals) (hRc : cells ≤ R.cells) (hRs : slots ≤ R.slots) (hf : x_nextDue due askings x1 = some r) (hC : HC D gcl (gty d) A (xw d ad ba ta imgs room work price whom bday units worth due under people askings hangs items many slip became left what which whose place deeds day won lost kept text typed rest bestSet tenths sortWorth sortDays row trace) s H locs) (hl : lv_has ls 5 [(0, .ref (ad 0)), (1, .int x1)]) (K : ∀ (H : Heap) (locs : List Loc) (ls : Array Slot) (pc : Nat), narrow .int (.int r) = .int r → HC D gcl (gty d) A (xw d ad ba ta imgs room work price whom bday units worth due under people askings hangs items many slip became left what which whose place deeds day won lost kept text typed rest bestSet tenths sortWorth sortDays row trace) s H locs → decode cX0_nextDue pc = .ok (.ireturn, 1) → W p l e R s m args below meth c H locs cells slots Q (F0 m pc ls [.int r])) : W p l e R s m args below meth c H locs cells slots Q (F0 m 0 ls []) := by
  unfold x_nextDue at hf
  refine lv_bipush (v := (-9)) hx hb dX0_nextDue_0 (by decide) ?_
  refine lv_istore_n (lv' := [(2, .int (-9)), (0, .ref (ad 0)), (1, .int x1)]) hx hb dX0_nextDue_2 rfl hl (by decide) rfl (fun ls hl => ?_)
  refine lv_iconst (v := 0) hx hb dX0_nextDue_3 (by decide) ?_
  refine lv_istore_n (lv' := [(3, .int 0), (2, .int (-9)), (0, .ref (ad 0)), (1, .int x1)]) hx hb dX0_nextDue_4 rfl hl (by decide) rfl (fun ls hl => ?_)
  obtain ⟨x2_76, hL, hf⟩ := bnd_some hf
  have X_5 : ∀ (H : Heap) (locs : List Loc) (ls : Array Slot), HC D gcl (gty d) A (xw d ad ba ta imgs room work price whom bday units worth due under people askings hangs items many slip became left what which whose place deeds day won lost kept text typed rest bestSet tenths sortWorth sortDays row trace) s H locs → lv_has ls 5 [(2, .int x2_76)] → W p l e R s m args below meth c H locs cells slots Q (F0 m 76 ls []) := by
    intro H locs ls hC hl
    refine lv_iload_n hx hb dX0_nextDue_76 rfl (lv_at hl 0 rfl) ?_
    have e_1 := (Option.some.inj hf)
    subst e_1
    exact K H locs ls _ rfl hC dX0_nextDue_77
  have L_5 : ∀ (n_5 : Nat) (x2_5 : Int32) (x3_5 : Int32), x_nextDue_L5 x1 due askings n_5 x2_5 x3_5 = some x2_76 → ∀ (H : Heap) (locs : List Loc) (ls : Array Slot), HC D gcl (gty d) A (xw d ad ba ta imgs room work price whom bday units worth due under people askings hangs items many slip became left what which whose place deeds day won lost kept text typed rest bestSet tenths sortWorth sortDays row trace) s H locs → lv_has ls 5 [(0, .ref (ad 0)), (1, .int x1), (2, .int x2_5), (3, .int x3_5)] → W p l e R s m args below meth c H locs cells slots Q (F0 m 5 ls []) := by
    intro n_5
    induction n_5 with
    | zero => intro _ _ hf; cases hf
    | succ n_5 ih =>
      intro x2_5 x3_5 hf H locs ls hC hl
      rw [x_nextDue_L5_s] at hf
      refine lv_iload_n hx hb dX0_nextDue_5 rfl (lv_at hl 3 rfl) ?_
      refine lv_aload_n hx hb dX0_nextDue_6 rfl (lv_at hl 0 rfl) ?_
      refine va_get (ci := 0) (v := .ref (ba 0)) (C := RX0) (T := TX0) (N := 13) hx hb hts in_X0 hown hC.1 hC.2.1 (26) rfl rfl 0 (by decide) (hts _ q302) (fun _ h9 => h9) rfl dX0_nextDue_7 ?_
      refine va_getN (ci := 1) (v := .int askings) (C := RX1) (T := TX1) (N := 13) (host := "SleeveSlips") hx hb hts in_X1 hown hC.1 hC.2.1 (0) rfl rfl 10 (by decide) (va_Nw.use rfl (hN.1 22)) (fun _ h9 => h9) rfl dX0_nextDue_10 ?_
      refine lv_icmp_ge (tgt := 76) hx hb dX0_nextDue_13 (by decide) (fun c_13 => ?_) (fun c_13 => ?_)
      · have hf := if_t hf c_13
        have e_1 := (Option.some.inj hf)
        subst e_1
        exact X_5 H locs ls hC (lv_sub hl [2] rfl)
      · have hf := if_f hf c_13
        refine lv_iload_n hx hb dX0_nextDue_16 rfl (lv_at hl 1 rfl) ?_
        refine lv_iload_n hx hb dX0_nextDue_17 rfl (lv_at hl 3 rfl) ?_
        refine lv_ishr hx hb dX0_nextDue_18 ?_
        refine lv_iconst (v := 1) hx hb dX0_nextDue_19 (by decide) ?_
        refine lv_iand hx hb dX0_nextDue_20 ?_
        refine lv_iconst (v := 1) hx hb dX0_nextDue_21 (by decide) ?_
        obtain ⟨t_30, hj, hf⟩ := ltv_some hf
        refine wj (g1 := F0 m 30 ls [.int t_30]) ?_ (fun J_30 => ?_)
        · refine lv_istore (lv' := [(4, .int t_30), (0, .ref (ad 0)), (1, .int x1), (2, .int x2_5), (3, .int x3_5)]) hx hb dX0_nextDue_30 hl (by decide) rfl (fun ls hl => ?_)
          refine lv_iload hx hb dX0_nextDue_32 (lv_at hl 0 rfl) ?_
          refine lv_if_eq (tgt := 68) hx hb dX0_nextDue_34 (by decide) (fun c_34 => ?_) (fun c_34 => ?_)
          · have hf := if_t hf c_34
            refine lv_iload_n hx hb dX0_nextDue_68 rfl (lv_at hl 3 rfl) ?_
            refine lv_istore_n (lv' := [(2, .int x2_5), (4, .int t_30), (0, .ref (ad 0)), (1, .int x1), (3, .int x3_5)]) hx hb dX0_nextDue_69 rfl hl (by decide) rfl (fun ls hl => ?_)
            refine lv_iinc (v := x3_5 + 1) (lv' := [(3, .int (x3_5 + 1)), (2, .int x2_5), (4, .int t_30), (0, .ref (ad 0)), (1, .int x1)]) hx hb dX0_nextDue_70 hl (k := 4) rfl rfl (by decide) rfl (fun ls hl => ?_)
            refine lv_goto (tgt := 5) hx hb dX0_nextDue_73 (by decide) ?_
            exact ih _ _ hf H locs ls hC (lv_sub hl [3, 4, 1, 0] rfl)
          · have hf := if_f hf c_34
            refine lv_iload_n hx hb dX0_nextDue_37 rfl (lv_at hl 3 rfl) ?_
            refine lv_bipush (v := (-9)) hx hb dX0_nextDue_38 (by decide) ?_
            refine lv_icmp_eq (tgt := 64) hx hb dX0_nextDue_40 (by decide) (fun c_40 => ?_) (fun c_40 => ?_)
            · have hf := if_t hf c_40
              refine lv_iload_n hx hb dX0_nextDue_64 rfl (lv_at hl 4 rfl) ?_
              refine lv_goto (tgt := 69) hx hb dX0_nextDue_65 (by decide) ?_
              refine lv_istore_n (lv' := [(2, .int x3_5), (4, .int t_30), (0, .ref (ad 0)), (1, .int x1), (3, .int x3_5)]) hx hb dX0_nextDue_69 rfl hl (by decide) rfl (fun ls hl => ?_)
              refine lv_iinc (v := x3_5 + 1) (lv' := [(3, .int (x3_5 + 1)), (2, .int x3_5), (4, .int t_30), (0, .ref (ad 0)), (1, .int x1)]) hx hb dX0_nextDue_70 hl (k := 4) rfl rfl (by decide) rfl (fun ls hl => ?_)
              refine lv_goto (tgt := 5) hx hb dX0_nextDue_73 (by decide) ?_
              exact ih _ _ hf H locs ls hC (lv_sub hl [3, 4, 1, 0] rfl)
            · have hf := if_f hf c_40
              refine lv_aload_n hx hb dX0_nextDue_43 rfl (lv_at hl 1 rfl) ?_
              refine va_get (ci := 0) (v := .ref (ba 0)) (C := RX0) (T := TX0) (N := 13) hx hb hts in_X0 hown hC.1 hC.2.1 (26) rfl rfl 0 (by decide) (hts _ q302) (fun _ h9 => h9) rfl dX0_nextDue_44 ?_
              refine va_getN (ci := 1) (v := .ref (ba 8)) (C := RX1) (T := TX1) (N := 13) (host := "SleeveSlips") hx hb hts in_X1 hown hC.1 hC.2.1 (0) rfl rfl 7 (by decide) (va_Nw.use rfl (hN.1 17)) (fun _ h9 => h9) rfl dX0_nextDue_47 ?_
              refine lv_iload_n hx hb dX0_nextDue_50 rfl (lv_at hl 4 rfl) ?_
              obtain ⟨hi_51, hf⟩ := ck_some hf
              refine va_iald hx hb hC.1 hC.2.1 (8) 0 rfl rfl hi_51 dX0_nextDue_51 ?_
              refine lv_aload_n hx hb dX0_nextDue_52 rfl (lv_at hl 1 rfl) ?_
              refine va_get (ci := 0) (v := .ref (ba 0)) (C := RX0) (T := TX0) (N := 13) hx hb hts in_X0 hown hC.1 hC.2.1 (26) rfl rfl 0 (by decide) (hts _ q302) (fun _ h9 => h9) rfl dX0_nextDue_53 ?_
              refine va_getN (ci := 1) (v := .ref (ba 8)) (C := RX1) (T := TX1) (N := 13) (host := "SleeveSlips") hx hb hts in_X1 hown hC.1 hC.2.1 (0) rfl rfl 7 (by decide) (va_Nw.use rfl (hN.1 17)) (fun _ h9 => h9) rfl dX0_nextDue_56 ?_
              refine lv_iload_n hx hb dX0_nextDue_59 rfl (lv_at hl 3 rfl) ?_
              obtain ⟨hi_60, hf⟩ := ck_some hf
              refine va_iald hx hb hC.1 hC.2.1 (8) 0 rfl rfl hi_60 dX0_nextDue_60 ?_
              refine lv_icmp_ge (tgt := 68) hx hb dX0_nextDue_61 (by decide) (fun c_61 => ?_) (fun c_61 => ?_)
              · have hf := if_t hf c_61
                refine lv_iload_n hx hb dX0_nextDue_68 rfl (lv_at hl 3 rfl) ?_
                refine lv_istore_n (lv' := [(2, .int x2_5), (4, .int t_30), (0, .ref (ad 0)), (1, .int x1), (3, .int x3_5)]) hx hb dX0_nextDue_69 rfl hl (by decide) rfl (fun ls hl => ?_)
                refine lv_iinc (v := x3_5 + 1) (lv' := [(3, .int (x3_5 + 1)), (2, .int x2_5), (4, .int t_30), (0, .ref (ad 0)), (1, .int x1)]) hx hb dX0_nextDue_70 hl (k := 4) rfl rfl (by decide) rfl (fun ls hl => ?_)
                refine lv_goto (tgt := 5) hx hb dX0_nextDue_73 (by decide) ?_
                exact ih _ _ hf H locs ls hC (lv_sub hl [3, 4, 1, 0] rfl)
              · have hf := if_f hf c_61
                refine lv_iload_n hx hb dX0_nextDue_64 rfl (lv_at hl 4 rfl) ?_
                refine lv_goto (tgt := 69) hx hb dX0_nextDue_65 (by decide) ?_
                refine lv_istore_n (lv' := [(2, .int x3_5), (4, .int t_30), (0, .ref (ad 0)), (1, .int x1), (3, .int x3_5)]) hx hb dX0_nextDue_69 rfl hl (by decide) rfl (fun ls hl => ?_)
                refine lv_iinc (v := x3_5 + 1) (lv' := [(3, .int (x3_5 + 1)), (2, .int x3_5), (4, .int t_30), (0, .ref (ad 0)), (1, .int x1)]) hx hb dX0_nextDue_70 hl (k := 4) rfl rfl (by decide) rfl (fun ls hl => ?_)
                refine lv_goto (tgt := 5) hx hb dX0_nextDue_73 (by decide) ?_
                exact ih _ _ hf H locs ls hC (lv_sub hl [3, 4, 1, 0] rfl)
        · have hf := hj
          refine lv_icmp_ne (tgt := 29) hx hb dX0_nextDue_22 (by decide) (fun c_22 => ?_) (fun c_22 => ?_)
          · have hf := if_f hf c_22
            refine lv_iconst (v := 0) hx hb dX0_nextDue_29 (by decide) ?_
            have e_1 := hf
            subst e_1
            exact J_30
          · have hf := if_t hf c_22
            refine lv_iconst (v := 1) hx hb dX0_nextDue_25 (by decide) ?_
            refine lv_goto (tgt := 30) hx hb dX0_nextDue_26 (by decide) ?_
            have e_1 := hf
            subst e_1
            exact J_30
  exact L_5 _ _ _ hL H locs ls hC (lv_sub hl [2, 3, 1, 0] rfl)
set_option maxRecDepth 100000 in
theorem c_x_nextDue {l : Launch} {sz : Nat} {D : va_G} {d : Nat → ClassId} {ad : Nat → Nat} {ba : Nat → Nat} {ta : Nat → Nat} {imgs : va_W} {room : Nat → Int32} {work : Nat → Int32} {price : Nat → Int32} {whom : Nat → Int32} {bday : Nat → Int32} {units : Nat → Int32} {worth : Nat → Int32} {due : Nat → Int32} {under : Nat → Int32} {people : Int32} {askings : Int32} {hangs : Int32} {items : Int32} {many : Nat → Int32} {slip : Nat → Nat → Int32} {became : Nat → Int32} {left : Nat → Int32} {what : Nat → Int32} {which : Nat → Int32} {whose : Nat → Int32} {place : Nat → Int32} {deeds : Int32} {day : Int32} {won : Int32} {lost : Int32} {kept : Int32} {text : Nat → Int32} {typed : Int32} {rest : Nat → Int32} {bestSet : Int32} {tenths : Nat → Int32} {sortWorth : Nat → Int32} {sortDays : Nat → Int32} {row : Nat → Int32} {trace : Int64} {x1 : Int32} {r : Int32} (hf : x_nextDue due askings x1 = some r) : MI l yX0_nextDue (ws_ yX0_nextDue cX0_nextDue 5 (some .int)) { frames := 0, cells := 0, slots := 0, locals := 0 } D gcl (gty d) NX (xw d ad ba ta imgs room work price whom bday units worth due under people askings hangs items many slip became left what which whose place deeds day won lost kept text typed rest bestSet tenths sortWorth sortDays row trace) (xw d ad ba ta imgs room work price whom bday units worth due under people askings hangs items many slip became left what which whose place deeds day won lost kept text typed rest bestSet tenths sortWorth sortDays row trace) sz [.ref (ad 0), .int x1] r :=
  MI.of (by decide) [.ref (ad 0), .int x1] [(0, .ref (ad 0)), (1, .int x1)] (Nat.le_of_ble_eq_true rfl) rfl (fun p e s m below meth c ls Q hx hb hml hown hts hN hA hC hl K => w_x_nextDue hx hb hml hown hts hN hA (Nat.le_refl _) (Nat.le_refl _) (Nat.le_refl _) (Nat.le_refl _) hf hC hl K)

def x_canKeep_L22 (x1 : Int32) (x5_12 : Int32) (bday : Nat → Int32) (units : Nat → Int32) (askings : Int32) : Nat → Int32 → Int32 → (Nat → Int32) → Option (Int32 × (Nat → Int32))
  | 0, _, _, _ => none
  | n_22 + 1, x4_22, x6_22, rest_22 =>
  if askings ≤ x6_22 then (some (x4_22, rest_22)) else
  if ((x1 >>> (x6_22 &&& 31)) &&& 1) = 1 then (ck x6_22 8 <| if (bday x6_22.toNatClampNeg) = x5_12 then (ck x6_22 8 <| ck x6_22 8 <| x_canKeep_L22 x1 x5_12 bday units askings n_22 (x4_22 ||| (1 <<< (x6_22 &&& 31))) (x6_22 + 1) (upd rest_22 x6_22.toNatClampNeg (units x6_22.toNatClampNeg))) else
  x_canKeep_L22 x1 x5_12 bday units askings n_22 x4_22 (x6_22 + 1) rest_22) else
  x_canKeep_L22 x1 x5_12 bday units askings n_22 x4_22 (x6_22 + 1) rest_22
theorem x_canKeep_L22_s (x1 : Int32) (x5_12 : Int32) (bday : Nat → Int32) (units : Nat → Int32) (askings : Int32) (n_22 : Nat) (x4_22 : Int32) (x6_22 : Int32) (rest_22 : Nat → Int32) : x_canKeep_L22 x1 x5_12 bday units askings (n_22 + 1) x4_22 x6_22 rest_22 = (
  if askings ≤ x6_22 then (some (x4_22, rest_22)) else
  if ((x1 >>> (x6_22 &&& 31)) &&& 1) = 1 then (ck x6_22 8 <| if (bday x6_22.toNatClampNeg) = x5_12 then (ck x6_22 8 <| ck x6_22 8 <| x_canKeep_L22 x1 x5_12 bday units askings n_22 (x4_22 ||| (1 <<< (x6_22 &&& 31))) (x6_22 + 1) (upd rest_22 x6_22.toNatClampNeg (units x6_22.toNatClampNeg))) else
  x_canKeep_L22 x1 x5_12 bday units askings n_22 x4_22 (x6_22 + 1) rest_22) else
  x_canKeep_L22 x1 x5_12 bday units askings n_22 x4_22 (x6_22 + 1) rest_22) := rfl
def x_canKeep_L105 (x3 : Int32) (due : Nat → Int32) (askings : Int32) : Nat → Int32 → Int32 → (Nat → Int32) → Option (Int32 × (Nat → Int32))
  | 0, _, _, _ => none
  | n_105 + 1, x4_105, x6_105, rest_105 =>
  if x3 ≤ x6_105 then (some (x4_105, rest_105)) else
  if x4_105 = 0 then (some (x4_105, rest_105)) else
  bnd (x_nextDue due askings x4_105) fun r_119 =>
  ck r_119 8 <| ck r_119 8 <| ck r_119 8 <| if ((upd rest_105 r_119.toNatClampNeg ((rest_105 r_119.toNatClampNeg) - 1)) r_119.toNatClampNeg) = 0 then (x_canKeep_L105 x3 due askings n_105 (x4_105 &&& ((1 <<< (r_119 &&& 31)) ^^^ (-1))) (x6_105 + 1) (upd rest_105 r_119.toNatClampNeg ((rest_105 r_119.toNatClampNeg) - 1))) else
  x_canKeep_L105 x3 due askings n_105 (x4_105 &&& (-1)) (x6_105 + 1) (upd rest_105 r_119.toNatClampNeg ((rest_105 r_119.toNatClampNeg) - 1))
theorem x_canKeep_L105_s (x3 : Int32) (due : Nat → Int32) (askings : Int32) (n_105 : Nat) (x4_105 : Int32) (x6_105 : Int32) (rest_105 : Nat → Int32) : x_canKeep_L105 x3 due askings (n_105 + 1) x4_105 x6_105 rest_105 = (
  if x3 ≤ x6_105 then (some (x4_105, rest_105)) else
  if x4_105 = 0 then (some (x4_105, rest_105)) else
  bnd (x_nextDue due askings x4_105) fun r_119 =>
  ck r_119 8 <| ck r_119 8 <| ck r_119 8 <| if ((upd rest_105 r_119.toNatClampNeg ((rest_105 r_119.toNatClampNeg) - 1)) r_119.toNatClampNeg) = 0 then (x_canKeep_L105 x3 due askings n_105 (x4_105 &&& ((1 <<< (r_119 &&& 31)) ^^^ (-1))) (x6_105 + 1) (upd rest_105 r_119.toNatClampNeg ((rest_105 r_119.toNatClampNeg) - 1))) else
  x_canKeep_L105 x3 due askings n_105 (x4_105 &&& (-1)) (x6_105 + 1) (upd rest_105 r_119.toNatClampNeg ((rest_105 r_119.toNatClampNeg) - 1))) := rfl
def x_canKeep_L12 (x1 : Int32) (x2 : Int32) (x3 : Int32) (bday : Nat → Int32) (units : Nat → Int32) (due : Nat → Int32) (askings : Int32) : Nat → Int32 → Int32 → (Nat → Int32) → Option ((Int32 × (Nat → Int32)) ⊕ (Int32 × (Nat → Int32)))
  | 0, _, _, _ => none
  | n_12 + 1, x4_12, x5_12, rest_12 =>
  if 9 < x5_12 then (some (.inr (x4_12, rest_12))) else
  bnd2 (x_canKeep_L22 x1 x5_12 bday units askings g_fuel x4_12 0 rest_12) (fun x4_91 rest_91 =>
  bnd (j_bitCount x4_91) fun r_93 =>
  if r_93 ≤ x2 then (bnd2 (x_canKeep_L105 x3 due askings g_fuel x4_91 0 rest_91) (fun x4_166 rest_166 =>
  bnd (x_nextDue due askings x4_166) fun r_169 =>
  if r_169 = (-9) then (x_canKeep_L12 x1 x2 x3 bday units due askings n_12 x4_166 (x5_12 + 1) rest_166) else
  ck r_169 8 <| if x5_12 < (due r_169.toNatClampNeg) then (x_canKeep_L12 x1 x2 x3 bday units due askings n_12 x4_166 (x5_12 + 1) rest_166) else
  some (.inl (0, rest_166)))) else
  some (.inl (0, rest_91)))
theorem x_canKeep_L12_s (x1 : Int32) (x2 : Int32) (x3 : Int32) (bday : Nat → Int32) (units : Nat → Int32) (due : Nat → Int32) (askings : Int32) (n_12 : Nat) (x4_12 : Int32) (x5_12 : Int32) (rest_12 : Nat → Int32) : x_canKeep_L12 x1 x2 x3 bday units due askings (n_12 + 1) x4_12 x5_12 rest_12 = (
  if 9 < x5_12 then (some (.inr (x4_12, rest_12))) else
  bnd2 (x_canKeep_L22 x1 x5_12 bday units askings g_fuel x4_12 0 rest_12) (fun x4_91 rest_91 =>
  bnd (j_bitCount x4_91) fun r_93 =>
  if r_93 ≤ x2 then (bnd2 (x_canKeep_L105 x3 due askings g_fuel x4_91 0 rest_91) (fun x4_166 rest_166 =>
  bnd (x_nextDue due askings x4_166) fun r_169 =>
  if r_169 = (-9) then (x_canKeep_L12 x1 x2 x3 bday units due askings n_12 x4_166 (x5_12 + 1) rest_166) else
  ck r_169 8 <| if x5_12 < (due r_169.toNatClampNeg) then (x_canKeep_L12 x1 x2 x3 bday units due askings n_12 x4_166 (x5_12 + 1) rest_166) else
  some (.inl (0, rest_166)))) else
  some (.inl (0, rest_91)))) := rfl
def x_canKeep (bday : Nat → Int32) (units : Nat → Int32) (due : Nat → Int32) (askings : Int32) (day : Int32) (rest : Nat → Int32) (x1 : Int32) (x2 : Int32) (x3 : Int32) : Option (Int32 × (Nat → Int32)) :=
  bndS2 (x_canKeep_L12 x1 x2 x3 bday units due askings g_fuel 0 day rest) (fun x4_204 rest_204 =>
  if x4_204 = 0 then (some (1, rest_204)) else
  some (0, rest_204))
set_option maxHeartbeats 4000000 in
set_option maxRecDepth 100000 in
theorem w_x_canKeep {p : Program} {l : Launch} {e : Env} {R : Room} {s : State} {m : MethodId} {args : Array Value} {below : List Frame} {meth : Method} {c : Code} {H : Heap} {locs : List Loc} {cells slots : Nat} {Q : State → Prop} {A : Nat → Prop} {ls : Array Slot} {D : va_G} {d : Nat → ClassId} {ad : Nat → Nat} {ba : Nat → Nat} {ta : Nat → Nat} {imgs : va_W} {room : Nat → Int32} {work : Nat → Int32} {price : Nat → Int32} {whom : Nat → Int32} {bday : Nat → Int32} {units : Nat → Int32} {worth : Nat → Int32} {due : Nat → Int32} {under : Nat → Int32} {people : Int32} {askings : Int32} {hangs : Int32} {items : Int32} {many : Nat → Int32} {slip : Nat → Nat → Int32} {became : Nat → Int32} {left : Nat → Int32} {what : Nat → Int32} {which : Nat → Int32} {whose : Nat → Int32} {place : Nat → Int32} {deeds : Int32} {day : Int32} {won : Int32} {lost : Int32} {kept : Int32} {text : Nat → Int32} {typed : Int32} {rest : Nat → Int32} {bestSet : Int32} {tenths : Nat → Int32} {sortWorth : Nat → Int32} {sortDays : Nat → Int32} {row : Nat → Int32} {trace : Int64} {x1 : Int32} {x2 : Int32} {x3 : Int32} {r : Int32} {rest_r : Nat → Int32} (hx : p.tables.exec = Jvm.exec) (hb : c.code = cX0_canKeep) (hml : c.maxLocals = 8) (hown : s.vm.findClass RX0 = some m.cls) (hts : ∀ w ∈ lw_all, w.before args s = true) (hN : NX s) (hA : ∀ q, s.heap.size ≤ q → A q) (hRf : 1 ≤ R.frames) (hRl : 24 ≤ R.locals) (hRc : cells ≤ R.cells) (hRs : slots ≤ R.slots) (hf : x_canKeep bday units due askings day rest x1 x2 x3 = some (r, rest_r)) (hC : HC D gcl (gty d) A (xw d ad ba ta imgs room work price whom bday units worth due under people askings hangs items many slip became left what which whose place deeds day won lost kept text typed rest bestSet tenths sortWorth sortDays row trace) s H locs) (hl : lv_has ls 8 [(0, .ref (ad 0)), (1, .int x1), (2, .int x2), (3, .int x3)]) (K : ∀ (H : Heap) (locs : List Loc) (ls : Array Slot) (pc : Nat), narrow .boolean (.int r) = .int r → HC D gcl (gty d) A (xw d ad ba ta imgs room work price whom bday units worth due under people askings hangs items many slip became left what which whose place deeds day won lost kept text typed rest_r bestSet tenths sortWorth sortDays row trace) s H locs → decode cX0_canKeep pc = .ok (.ireturn, 1) → W p l e R s m args below meth c H locs cells slots Q (F0 m pc ls [.int r])) : W p l e R s m args below meth c H locs cells slots Q (F0 m 0 ls []) := by
  unfold x_canKeep at hf
  refine lv_iconst (v := 0) hx hb dX0_canKeep_0 (by decide) ?_
  refine lv_istore (lv' := [(4, .int 0), (0, .ref (ad 0)), (1, .int x1), (2, .int x2), (3, .int x3)]) hx hb dX0_canKeep_1 hl (by decide) rfl (fun ls hl => ?_)
  refine lv_aload_n hx hb dX0_canKeep_3 rfl (lv_at hl 1 rfl) ?_
  refine va_get (ci := 0) (v := .ref (ta 0)) (C := RX0) (T := TX0) (N := 13) hx hb hts in_X0 hown hC.1 hC.2.1 (26) rfl rfl 1 (by decide) (hts _ q305) (fun _ h9 => h9) rfl dX0_canKeep_4 ?_
  refine va_getN (ci := 2) (v := .int day) (C := RX2) (T := TX2) (N := 12) (host := "SleeveSlips") hx hb hts in_X2 hown hC.1 hC.2.1 (10) rfl rfl 8 (by decide) (va_Nw.use rfl (hN.1 42)) (fun _ h9 => h9) rfl dX0_canKeep_7 ?_
  refine lv_istore (lv' := [(5, .int day), (4, .int 0), (0, .ref (ad 0)), (1, .int x1), (2, .int x2), (3, .int x3)]) hx hb dX0_canKeep_10 hl (by decide) rfl (fun ls hl => ?_)
  obtain ⟨rho_12, hL, hR_12, hO⟩ := bndS2_some hf
  have X_12 : ∀ x4_204 rest_204, rho_12 = .inr (x4_204, rest_204) → ∀ (H : Heap) (locs : List Loc) (ls : Array Slot), HC D gcl (gty d) A (xw d ad ba ta imgs room work price whom bday units worth due under people askings hangs items many slip became left what which whose place deeds day won lost kept text typed rest_204 bestSet tenths sortWorth sortDays row trace) s H locs → lv_has ls 8 [(4, .int x4_204)] → W p l e R s m args below meth c H locs cells slots Q (F0 m 204 ls []) := by
    intro x4_204 rest_204 er H locs ls hC hl
    have hf := hO _ _ er
    refine lv_iload hx hb dX0_canKeep_204 (lv_at hl 0 rfl) ?_
    refine lv_if_ne (tgt := 213) hx hb dX0_canKeep_206 (by decide) (fun c_206 => ?_) (fun c_206 => ?_)
    · have hf := if_f hf c_206
      refine lv_iconst (v := 0) hx hb dX0_canKeep_213 (by decide) ?_
      obtain ⟨e_1, e_2⟩ := so_2 (Option.some.inj hf)
      subst e_1
      subst e_2
      exact K H locs ls _ rfl hC dX0_canKeep_214
    · have hf := if_t hf c_206
      refine lv_iconst (v := 1) hx hb dX0_canKeep_209 (by decide) ?_
      refine lv_goto (tgt := 214) hx hb dX0_canKeep_210 (by decide) ?_
      obtain ⟨e_1, e_2⟩ := so_2 (Option.some.inj hf)
      subst e_1
      subst e_2
      exact K H locs ls _ rfl hC dX0_canKeep_214
  have XR_12 := hR_12
  have L_12 : ∀ (n_12 : Nat) (x4_12 : Int32) (x5_12 : Int32) (rest_12 : Nat → Int32), x_canKeep_L12 x1 x2 x3 bday units due askings n_12 x4_12 x5_12 rest_12 = some rho_12 → ∀ (H : Heap) (locs : List Loc) (ls : Array Slot), HC D gcl (gty d) A (xw d ad ba ta imgs room work price whom bday units worth due under people askings hangs items many slip became left what which whose place deeds day won lost kept text typed rest_12 bestSet tenths sortWorth sortDays row trace) s H locs → lv_has ls 8 [(0, .ref (ad 0)), (1, .int x1), (2, .int x2), (3, .int x3), (4, .int x4_12), (5, .int x5_12)] → W p l e R s m args below meth c H locs cells slots Q (F0 m 12 ls []) := by
    intro n_12
    induction n_12 with
    | zero => intro _ _ _ hf; cases hf
    | succ n_12 ih =>
      intro x4_12 x5_12 rest_12 hf H locs ls hC hl
      rw [x_canKeep_L12_s] at hf
      refine lv_iload hx hb dX0_canKeep_12 (lv_at hl 5 rfl) ?_
      refine lv_bipush (v := 9) hx hb dX0_canKeep_14 (by decide) ?_
      refine lv_icmp_gt (tgt := 204) hx hb dX0_canKeep_16 (by decide) (fun c_16 => ?_) (fun c_16 => ?_)
      · have hf := if_t hf c_16
        exact X_12 _ _ (Option.some.inj hf).symm H locs ls hC (lv_sub hl [4] rfl)
      · have hf := if_f hf c_16
        refine lv_iconst (v := 0) hx hb dX0_canKeep_19 (by decide) ?_
        refine lv_istore (lv' := [(6, .int 0), (0, .ref (ad 0)), (1, .int x1), (2, .int x2), (3, .int x3), (4, .int x4_12), (5, .int x5_12)]) hx hb dX0_canKeep_20 hl (by decide) rfl (fun ls hl => ?_)
        obtain ⟨x4_91, rest_91, hL, hf⟩ := bnd2_some hf
        have X_22 : ∀ (H : Heap) (locs : List Loc) (ls : Array Slot), HC D gcl (gty d) A (xw d ad ba ta imgs room work price whom bday units worth due under people askings hangs items many slip became left what which whose place deeds day won lost kept text typed rest_91 bestSet tenths sortWorth sortDays row trace) s H locs → lv_has ls 8 [(0, .ref (ad 0)), (1, .int x1), (2, .int x2), (3, .int x3), (4, .int x4_91), (5, .int x5_12)] → W p l e R s m args below meth c H locs cells slots Q (F0 m 91 ls []) := by
          intro H locs ls hC hl
          refine lv_iload hx hb dX0_canKeep_91 (lv_at hl 4 rfl) ?_
          obtain ⟨r_93, hcall, hf⟩ := bnd_some hf
          refine hc_i (va_runS (As := [.int x4_91]) (rest := []) ⟨hx, hb, hml, hown, hts⟩ (c_j_bitCount hcall) (va_cwS 1 hts (lw_S q662 q663 q71 q664) rfl rfl rfl (by decide +kernel) ⟨(Nat.le_trans (Nat.le_of_ble_eq_true rfl) hRf), (Nat.le_trans (Nat.le_of_ble_eq_true rfl) hRl)⟩) (pre_S (fun _ _ _ _ h => h) (fun _ _ _ => trivial) hC) rfl rfl hl.1 rfl (lv_room (Nat.le_of_ble_eq_true rfl)) dX0_canKeep_93 ⟨hRc, hRs⟩) hA hC (fun H locs hC => ?_)
          refine lv_iload_n hx hb dX0_canKeep_96 rfl (lv_at hl 2 rfl) ?_
          refine lv_icmp_le (tgt := 102) hx hb dX0_canKeep_97 (by decide) (fun c_97 => ?_) (fun c_97 => ?_)
          · have hf := if_t hf c_97
            refine lv_iconst (v := 0) hx hb dX0_canKeep_102 (by decide) ?_
            refine lv_istore (lv' := [(6, .int 0), (0, .ref (ad 0)), (1, .int x1), (2, .int x2), (3, .int x3), (4, .int x4_91), (5, .int x5_12)]) hx hb dX0_canKeep_103 hl (by decide) rfl (fun ls hl => ?_)
            obtain ⟨x4_166, rest_166, hL, hf⟩ := bnd2_some hf
            have X_105 : ∀ (H : Heap) (locs : List Loc) (ls : Array Slot), HC D gcl (gty d) A (xw d ad ba ta imgs room work price whom bday units worth due under people askings hangs items many slip became left what which whose place deeds day won lost kept text typed rest_166 bestSet tenths sortWorth sortDays row trace) s H locs → lv_has ls 8 [(0, .ref (ad 0)), (1, .int x1), (2, .int x2), (3, .int x3), (4, .int x4_166), (5, .int x5_12)] → W p l e R s m args below meth c H locs cells slots Q (F0 m 166 ls []) := by
              intro H locs ls hC hl
              refine lv_aload_n hx hb dX0_canKeep_166 rfl (lv_at hl 0 rfl) ?_
              refine lv_iload hx hb dX0_canKeep_167 (lv_at hl 4 rfl) ?_
              obtain ⟨r_169, hcall, hf⟩ := bnd_some hf
              refine hc_i (va_runV (C := RX0) (As := [.int x4_166]) (rest := []) ⟨hx, hb, hml, hown, hts⟩ (c_x_nextDue hcall) (cwV 1 hts (lw_V q668 q670 qs17 q48 q671) rfl rfl rfl (by decide +kernel) ⟨(Nat.le_trans (Nat.le_of_ble_eq_true rfl) hRf), (Nat.le_trans (Nat.le_of_ble_eq_true rfl) hRl)⟩) (pre_V (q0 := 26) (ci := 0) NX.calling (fun U _ hW => NX.warm hW hN) hC rfl rfl) rfl rfl hl.1 rfl (lv_room (Nat.le_of_ble_eq_true rfl)) dX0_canKeep_169 ⟨hRc, hRs⟩) hA hC (fun H locs hC => ?_)
              refine lv_istore (lv' := [(6, .int r_169), (0, .ref (ad 0)), (1, .int x1), (2, .int x2), (3, .int x3), (4, .int x4_166), (5, .int x5_12)]) hx hb dX0_canKeep_172 hl (by decide) rfl (fun ls hl => ?_)
              refine lv_iload hx hb dX0_canKeep_174 (lv_at hl 0 rfl) ?_
              refine lv_bipush (v := (-9)) hx hb dX0_canKeep_176 (by decide) ?_
              refine lv_icmp_eq (tgt := 198) hx hb dX0_canKeep_178 (by decide) (fun c_178 => ?_) (fun c_178 => ?_)
              · have hf := if_t hf c_178
                refine lv_iinc (v := x5_12 + 1) (lv' := [(5, .int (x5_12 + 1)), (6, .int r_169), (0, .ref (ad 0)), (1, .int x1), (2, .int x2), (3, .int x3), (4, .int x4_166)]) hx hb dX0_canKeep_198 hl (k := 6) rfl rfl (by decide) rfl (fun ls hl => ?_)
                refine lv_goto (tgt := 12) hx hb dX0_canKeep_201 (by decide) ?_
                exact ih _ _ _ hf H locs ls hC (lv_sub hl [2, 3, 4, 5, 6, 0] rfl)
              · have hf := if_f hf c_178
                refine lv_aload_n hx hb dX0_canKeep_181 rfl (lv_at hl 1 rfl) ?_
                refine va_get (ci := 0) (v := .ref (ba 0)) (C := RX0) (T := TX0) (N := 13) hx hb hts in_X0 hown hC.1 hC.2.1 (26) rfl rfl 0 (by decide) (hts _ q302) (fun _ h9 => h9) rfl dX0_canKeep_182 ?_
                refine va_getN (ci := 1) (v := .ref (ba 8)) (C := RX1) (T := TX1) (N := 13) (host := "SleeveSlips") hx hb hts in_X1 hown hC.1 hC.2.1 (0) rfl rfl 7 (by decide) (va_Nw.use rfl (hN.1 17)) (fun _ h9 => h9) rfl dX0_canKeep_185 ?_
                refine lv_iload hx hb dX0_canKeep_188 (lv_at hl 0 rfl) ?_
                obtain ⟨hi_190, hf⟩ := ck_some hf
                refine va_iald hx hb hC.1 hC.2.1 (8) 0 rfl rfl hi_190 dX0_canKeep_190 ?_
                refine lv_iload hx hb dX0_canKeep_191 (lv_at hl 6 rfl) ?_
                refine lv_icmp_gt (tgt := 198) hx hb dX0_canKeep_193 (by decide) (fun c_193 => ?_) (fun c_193 => ?_)
                · have hf := if_t hf c_193
                  refine lv_iinc (v := x5_12 + 1) (lv' := [(5, .int (x5_12 + 1)), (6, .int r_169), (0, .ref (ad 0)), (1, .int x1), (2, .int x2), (3, .int x3), (4, .int x4_166)]) hx hb dX0_canKeep_198 hl (k := 6) rfl rfl (by decide) rfl (fun ls hl => ?_)
                  refine lv_goto (tgt := 12) hx hb dX0_canKeep_201 (by decide) ?_
                  exact ih _ _ _ hf H locs ls hC (lv_sub hl [2, 3, 4, 5, 6, 0] rfl)
                · have hf := if_f hf c_193
                  refine lv_iconst (v := 0) hx hb dX0_canKeep_196 (by decide) ?_
                  have hf := XR_12 _ (Option.some.inj hf).symm
                  obtain ⟨e_1, e_2⟩ := so_2 hf
                  subst e_1
                  subst e_2
                  exact K H locs ls _ rfl hC dX0_canKeep_197
            have L_105 : ∀ (n_105 : Nat) (x4_105 : Int32) (x6_105 : Int32) (rest_105 : Nat → Int32), x_canKeep_L105 x3 due askings n_105 x4_105 x6_105 rest_105 = some (x4_166, rest_166) → ∀ (H : Heap) (locs : List Loc) (ls : Array Slot), HC D gcl (gty d) A (xw d ad ba ta imgs room work price whom bday units worth due under people askings hangs items many slip became left what which whose place deeds day won lost kept text typed rest_105 bestSet tenths sortWorth sortDays row trace) s H locs → lv_has ls 8 [(0, .ref (ad 0)), (1, .int x1), (2, .int x2), (3, .int x3), (4, .int x4_105), (5, .int x5_12), (6, .int x6_105)] → W p l e R s m args below meth c H locs cells slots Q (F0 m 105 ls []) := by
              intro n_105
              induction n_105 with
              | zero => intro _ _ _ hf; cases hf
              | succ n_105 ih =>
                intro x4_105 x6_105 rest_105 hf H locs ls hC hl
                rw [x_canKeep_L105_s] at hf
                refine lv_iload hx hb dX0_canKeep_105 (lv_at hl 6 rfl) ?_
                refine lv_iload_n hx hb dX0_canKeep_107 rfl (lv_at hl 3 rfl) ?_
                refine lv_icmp_ge (tgt := 166) hx hb dX0_canKeep_108 (by decide) (fun c_108 => ?_) (fun c_108 => ?_)
                · have hf := if_t hf c_108
                  obtain ⟨e_1, e_2⟩ := so_2 (Option.some.inj hf)
                  subst e_1
                  subst e_2
                  exact X_105 H locs ls hC (lv_sub hl [0, 1, 2, 3, 4, 5] rfl)
                · have hf := if_f hf c_108
                  refine lv_iload hx hb dX0_canKeep_111 (lv_at hl 4 rfl) ?_
                  refine lv_if_eq (tgt := 166) hx hb dX0_canKeep_113 (by decide) (fun c_113 => ?_) (fun c_113 => ?_)
                  · have hf := if_t hf c_113
                    obtain ⟨e_1, e_2⟩ := so_2 (Option.some.inj hf)
                    subst e_1
                    subst e_2
                    exact X_105 H locs ls hC (lv_sub hl [0, 1, 2, 3, 4, 5] rfl)
                  · have hf := if_f hf c_113
                    refine lv_aload_n hx hb dX0_canKeep_116 rfl (lv_at hl 0 rfl) ?_
                    refine lv_iload hx hb dX0_canKeep_117 (lv_at hl 4 rfl) ?_
                    obtain ⟨r_119, hcall, hf⟩ := bnd_some hf
                    refine hc_i (va_runV (C := RX0) (As := [.int x4_105]) (rest := []) ⟨hx, hb, hml, hown, hts⟩ (c_x_nextDue hcall) (cwV 1 hts (lw_V q668 q670 qs17 q48 q671) rfl rfl rfl (by decide +kernel) ⟨(Nat.le_trans (Nat.le_of_ble_eq_true rfl) hRf), (Nat.le_trans (Nat.le_of_ble_eq_true rfl) hRl)⟩) (pre_V (q0 := 26) (ci := 0) NX.calling (fun U _ hW => NX.warm hW hN) hC rfl rfl) rfl rfl hl.1 rfl (lv_room (Nat.le_of_ble_eq_true rfl)) dX0_canKeep_119 ⟨hRc, hRs⟩) hA hC (fun H locs hC => ?_)
                    refine lv_istore (lv' := [(7, .int r_119), (0, .ref (ad 0)), (1, .int x1), (2, .int x2), (3, .int x3), (4, .int x4_105), (5, .int x5_12), (6, .int x6_105)]) hx hb dX0_canKeep_122 hl (by decide) rfl (fun ls hl => ?_)
                    refine lv_aload_n hx hb dX0_canKeep_124 rfl (lv_at hl 1 rfl) ?_
                    refine va_get (ci := 0) (v := .ref (ad 2)) (C := RX0) (T := TX0) (N := 13) hx hb hts in_X0 hown hC.1 hC.2.1 (26) rfl rfl 5 (by decide) (hts _ q313) (fun _ h9 => h9) rfl dX0_canKeep_125 ?_
                    refine lv_iload hx hb dX0_canKeep_128 (lv_at hl 0 rfl) ?_
                    refine lv_dup2_11 hx hb dX0_canKeep_130 rfl rfl ?_
                    obtain ⟨hi_131, hf⟩ := ck_some hf
                    refine va_iald hx hb hC.1 hC.2.1 (28) 0 rfl rfl hi_131 dX0_canKeep_131 ?_
                    refine lv_iconst (v := 1) hx hb dX0_canKeep_132 (by decide) ?_
                    refine lv_isub hx hb dX0_canKeep_133 ?_
                    obtain ⟨hi_134, hf⟩ := ck_some hf
                    refine va_iast hx hb hC.1 hC.2.1 hC.2.2.1 hC.2.2.2 (28) 0 rfl rfl hi_134 dX0_canKeep_134 (fun H locs hP hD hS => ?_)
                    have hC : HC D gcl (gty d) A (xw d ad ba ta imgs room work price whom bday units worth due under people askings hangs items many slip became left what which whose place deeds day won lost kept text typed (upd rest_105 r_119.toNatClampNeg ((rest_105 r_119.toNatClampNeg) - 1)) bestSet tenths sortWorth sortDays row trace) s H locs := ⟨hC.1, hP, hD, hS⟩
                    refine lv_iload hx hb dX0_canKeep_135 (lv_at hl 5 rfl) ?_
                    refine lv_aload_n hx hb dX0_canKeep_137 rfl (lv_at hl 1 rfl) ?_
                    refine va_get (ci := 0) (v := .ref (ad 2)) (C := RX0) (T := TX0) (N := 13) hx hb hts in_X0 hown hC.1 hC.2.1 (26) rfl rfl 5 (by decide) (hts _ q313) (fun _ h9 => h9) rfl dX0_canKeep_138 ?_
                    refine lv_iload hx hb dX0_canKeep_141 (lv_at hl 0 rfl) ?_
                    obtain ⟨hi_143, hf⟩ := ck_some hf
                    refine va_iald hx hb hC.1 hC.2.1 (28) 0 rfl rfl hi_143 dX0_canKeep_143 ?_
                    refine lv_if_ne (tgt := 156) hx hb dX0_canKeep_144 (by decide) (fun c_144 => ?_) (fun c_144 => ?_)
                    · have hf := if_f hf c_144
                      refine lv_iconst (v := (-1)) hx hb dX0_canKeep_156 (by decide) ?_
                      refine lv_iand hx hb dX0_canKeep_157 ?_
                      refine lv_istore (lv' := [(4, .int (x4_105 &&& (-1))), (7, .int r_119), (0, .ref (ad 0)), (1, .int x1), (2, .int x2), (3, .int x3), (5, .int x5_12), (6, .int x6_105)]) hx hb dX0_canKeep_158 hl (by decide) rfl (fun ls hl => ?_)
                      refine lv_iinc (v := x6_105 + 1) (lv' := [(6, .int (x6_105 + 1)), (4, .int (x4_105 &&& (-1))), (7, .int r_119), (0, .ref (ad 0)), (1, .int x1), (2, .int x2), (3, .int x3), (5, .int x5_12)]) hx hb dX0_canKeep_160 hl (k := 7) rfl rfl (by decide) rfl (fun ls hl => ?_)
                      refine lv_goto (tgt := 105) hx hb dX0_canKeep_163 (by decide) ?_
                      exact ih _ _ _ hf H locs ls hC (lv_sub hl [3, 4, 5, 6, 1, 7, 0] rfl)
                    · have hf := if_t hf c_144
                      refine lv_iconst (v := 1) hx hb dX0_canKeep_147 (by decide) ?_
                      refine lv_iload hx hb dX0_canKeep_148 (lv_at hl 0 rfl) ?_
                      refine lv_ishl hx hb dX0_canKeep_150 ?_
                      refine lv_iconst (v := (-1)) hx hb dX0_canKeep_151 (by decide) ?_
                      refine lv_ixor hx hb dX0_canKeep_152 ?_
                      refine lv_goto (tgt := 157) hx hb dX0_canKeep_153 (by decide) ?_
                      refine lv_iand hx hb dX0_canKeep_157 ?_
                      refine lv_istore (lv' := [(4, .int (x4_105 &&& ((1 <<< (r_119 &&& 31)) ^^^ (-1)))), (7, .int r_119), (0, .ref (ad 0)), (1, .int x1), (2, .int x2), (3, .int x3), (5, .int x5_12), (6, .int x6_105)]) hx hb dX0_canKeep_158 hl (by decide) rfl (fun ls hl => ?_)
                      refine lv_iinc (v := x6_105 + 1) (lv' := [(6, .int (x6_105 + 1)), (4, .int (x4_105 &&& ((1 <<< (r_119 &&& 31)) ^^^ (-1)))), (7, .int r_119), (0, .ref (ad 0)), (1, .int x1), (2, .int x2), (3, .int x3), (5, .int x5_12)]) hx hb dX0_canKeep_160 hl (k := 7) rfl rfl (by decide) rfl (fun ls hl => ?_)
                      refine lv_goto (tgt := 105) hx hb dX0_canKeep_163 (by decide) ?_
                      exact ih _ _ _ hf H locs ls hC (lv_sub hl [3, 4, 5, 6, 1, 7, 0] rfl)
            exact L_105 _ _ _ _ hL H locs ls hC (lv_sub hl [1, 2, 3, 4, 5, 6, 0] rfl)
          · have hf := if_f hf c_97
            refine lv_iconst (v := 0) hx hb dX0_canKeep_100 (by decide) ?_
            have hf := XR_12 _ (Option.some.inj hf).symm
            obtain ⟨e_1, e_2⟩ := so_2 hf
            subst e_1
            subst e_2
            exact K H locs ls _ rfl hC dX0_canKeep_101
        have L_22 : ∀ (n_22 : Nat) (x4_22 : Int32) (x6_22 : Int32) (rest_22 : Nat → Int32), x_canKeep_L22 x1 x5_12 bday units askings n_22 x4_22 x6_22 rest_22 = some (x4_91, rest_91) → ∀ (H : Heap) (locs : List Loc) (ls : Array Slot), HC D gcl (gty d) A (xw d ad ba ta imgs room work price whom bday units worth due under people askings hangs items many slip became left what which whose place deeds day won lost kept text typed rest_22 bestSet tenths sortWorth sortDays row trace) s H locs → lv_has ls 8 [(0, .ref (ad 0)), (1, .int x1), (2, .int x2), (3, .int x3), (4, .int x4_22), (5, .int x5_12), (6, .int x6_22)] → W p l e R s m args below meth c H locs cells slots Q (F0 m 22 ls []) := by
          intro n_22
          induction n_22 with
          | zero => intro _ _ _ hf; cases hf
          | succ n_22 ih =>
            intro x4_22 x6_22 rest_22 hf H locs ls hC hl
            rw [x_canKeep_L22_s] at hf
            refine lv_iload hx hb dX0_canKeep_22 (lv_at hl 6 rfl) ?_
            refine lv_aload_n hx hb dX0_canKeep_24 rfl (lv_at hl 0 rfl) ?_
            refine va_get (ci := 0) (v := .ref (ba 0)) (C := RX0) (T := TX0) (N := 13) hx hb hts in_X0 hown hC.1 hC.2.1 (26) rfl rfl 0 (by decide) (hts _ q302) (fun _ h9 => h9) rfl dX0_canKeep_25 ?_
            refine va_getN (ci := 1) (v := .int askings) (C := RX1) (T := TX1) (N := 13) (host := "SleeveSlips") hx hb hts in_X1 hown hC.1 hC.2.1 (0) rfl rfl 10 (by decide) (va_Nw.use rfl (hN.1 22)) (fun _ h9 => h9) rfl dX0_canKeep_28 ?_
            refine lv_icmp_ge (tgt := 91) hx hb dX0_canKeep_31 (by decide) (fun c_31 => ?_) (fun c_31 => ?_)
            · have hf := if_t hf c_31
              obtain ⟨e_1, e_2⟩ := so_2 (Option.some.inj hf)
              subst e_1
              subst e_2
              exact X_22 H locs ls hC (lv_sub hl [0, 1, 2, 3, 4, 5] rfl)
            · have hf := if_f hf c_31
              refine lv_iload_n hx hb dX0_canKeep_34 rfl (lv_at hl 1 rfl) ?_
              refine lv_iload hx hb dX0_canKeep_35 (lv_at hl 6 rfl) ?_
              refine lv_ishr hx hb dX0_canKeep_37 ?_
              refine lv_iconst (v := 1) hx hb dX0_canKeep_38 (by decide) ?_
              refine lv_iand hx hb dX0_canKeep_39 ?_
              refine lv_iconst (v := 1) hx hb dX0_canKeep_40 (by decide) ?_
              refine lv_icmp_ne (tgt := 85) hx hb dX0_canKeep_41 (by decide) (fun c_41 => ?_) (fun c_41 => ?_)
              · have hf := if_f hf c_41
                refine lv_iinc (v := x6_22 + 1) (lv' := [(6, .int (x6_22 + 1)), (0, .ref (ad 0)), (1, .int x1), (2, .int x2), (3, .int x3), (4, .int x4_22), (5, .int x5_12)]) hx hb dX0_canKeep_85 hl (k := 6) rfl rfl (by decide) rfl (fun ls hl => ?_)
                refine lv_goto (tgt := 22) hx hb dX0_canKeep_88 (by decide) ?_
                exact ih _ _ _ hf H locs ls hC (lv_sub hl [1, 2, 3, 4, 5, 6, 0] rfl)
              · have hf := if_t hf c_41
                refine lv_aload_n hx hb dX0_canKeep_44 rfl (lv_at hl 0 rfl) ?_
                refine va_get (ci := 0) (v := .ref (ba 0)) (C := RX0) (T := TX0) (N := 13) hx hb hts in_X0 hown hC.1 hC.2.1 (26) rfl rfl 0 (by decide) (hts _ q302) (fun _ h9 => h9) rfl dX0_canKeep_45 ?_
                refine va_getN (ci := 1) (v := .ref (ba 5)) (C := RX1) (T := TX1) (N := 13) (host := "SleeveSlips") hx hb hts in_X1 hown hC.1 hC.2.1 (0) rfl rfl 4 (by decide) (va_Nw.use rfl (hN.1 11)) (fun _ h9 => h9) rfl dX0_canKeep_48 ?_
                refine lv_iload hx hb dX0_canKeep_51 (lv_at hl 6 rfl) ?_
                obtain ⟨hi_53, hf⟩ := ck_some hf
                refine va_iald hx hb hC.1 hC.2.1 (5) 0 rfl rfl hi_53 dX0_canKeep_53 ?_
                refine lv_iload hx hb dX0_canKeep_54 (lv_at hl 5 rfl) ?_
                refine lv_icmp_ne (tgt := 85) hx hb dX0_canKeep_56 (by decide) (fun c_56 => ?_) (fun c_56 => ?_)
                · have hf := if_f hf c_56
                  refine lv_iinc (v := x6_22 + 1) (lv' := [(6, .int (x6_22 + 1)), (0, .ref (ad 0)), (1, .int x1), (2, .int x2), (3, .int x3), (4, .int x4_22), (5, .int x5_12)]) hx hb dX0_canKeep_85 hl (k := 6) rfl rfl (by decide) rfl (fun ls hl => ?_)
                  refine lv_goto (tgt := 22) hx hb dX0_canKeep_88 (by decide) ?_
                  exact ih _ _ _ hf H locs ls hC (lv_sub hl [1, 2, 3, 4, 5, 6, 0] rfl)
                · have hf := if_t hf c_56
                  refine lv_iload hx hb dX0_canKeep_59 (lv_at hl 4 rfl) ?_
                  refine lv_iconst (v := 1) hx hb dX0_canKeep_61 (by decide) ?_
                  refine lv_iload hx hb dX0_canKeep_62 (lv_at hl 6 rfl) ?_
                  refine lv_ishl hx hb dX0_canKeep_64 ?_
                  refine lv_ior hx hb dX0_canKeep_65 ?_
                  refine lv_istore (lv' := [(4, .int (x4_22 ||| (1 <<< (x6_22 &&& 31)))), (0, .ref (ad 0)), (1, .int x1), (2, .int x2), (3, .int x3), (5, .int x5_12), (6, .int x6_22)]) hx hb dX0_canKeep_66 hl (by decide) rfl (fun ls hl => ?_)
                  refine lv_aload_n hx hb dX0_canKeep_68 rfl (lv_at hl 1 rfl) ?_
                  refine va_get (ci := 0) (v := .ref (ad 2)) (C := RX0) (T := TX0) (N := 13) hx hb hts in_X0 hown hC.1 hC.2.1 (26) rfl rfl 5 (by decide) (hts _ q313) (fun _ h9 => h9) rfl dX0_canKeep_69 ?_
                  refine lv_iload hx hb dX0_canKeep_72 (lv_at hl 6 rfl) ?_
                  refine lv_aload_n hx hb dX0_canKeep_74 rfl (lv_at hl 1 rfl) ?_
                  refine va_get (ci := 0) (v := .ref (ba 0)) (C := RX0) (T := TX0) (N := 13) hx hb hts in_X0 hown hC.1 hC.2.1 (26) rfl rfl 0 (by decide) (hts _ q302) (fun _ h9 => h9) rfl dX0_canKeep_75 ?_
                  refine va_getN (ci := 1) (v := .ref (ba 6)) (C := RX1) (T := TX1) (N := 13) (host := "SleeveSlips") hx hb hts in_X1 hown hC.1 hC.2.1 (0) rfl rfl 5 (by decide) (va_Nw.use rfl (hN.1 13)) (fun _ h9 => h9) rfl dX0_canKeep_78 ?_
                  refine lv_iload hx hb dX0_canKeep_81 (lv_at hl 6 rfl) ?_
                  obtain ⟨hi_83, hf⟩ := ck_some hf
                  refine va_iald hx hb hC.1 hC.2.1 (6) 0 rfl rfl hi_83 dX0_canKeep_83 ?_
                  obtain ⟨hi_84, hf⟩ := ck_some hf
                  refine va_iast hx hb hC.1 hC.2.1 hC.2.2.1 hC.2.2.2 (28) 0 rfl rfl hi_84 dX0_canKeep_84 (fun H locs hP hD hS => ?_)
                  have hC : HC D gcl (gty d) A (xw d ad ba ta imgs room work price whom bday units worth due under people askings hangs items many slip became left what which whose place deeds day won lost kept text typed (upd rest_22 x6_22.toNatClampNeg (units x6_22.toNatClampNeg)) bestSet tenths sortWorth sortDays row trace) s H locs := ⟨hC.1, hP, hD, hS⟩
                  refine lv_iinc (v := x6_22 + 1) (lv' := [(6, .int (x6_22 + 1)), (4, .int (x4_22 ||| (1 <<< (x6_22 &&& 31)))), (0, .ref (ad 0)), (1, .int x1), (2, .int x2), (3, .int x3), (5, .int x5_12)]) hx hb dX0_canKeep_85 hl (k := 6) rfl rfl (by decide) rfl (fun ls hl => ?_)
                  refine lv_goto (tgt := 22) hx hb dX0_canKeep_88 (by decide) ?_
                  exact ih _ _ _ hf H locs ls hC (lv_sub hl [2, 3, 4, 5, 1, 6, 0] rfl)
        exact L_22 _ _ _ _ hL H locs ls hC (lv_sub hl [1, 2, 3, 4, 5, 6, 0] rfl)
  exact L_12 _ _ _ _ hL H locs ls hC (lv_sub hl [2, 3, 4, 5, 1, 0] rfl)
set_option maxRecDepth 100000 in
theorem c_x_canKeep {l : Launch} {sz : Nat} {D : va_G} {d : Nat → ClassId} {ad : Nat → Nat} {ba : Nat → Nat} {ta : Nat → Nat} {imgs : va_W} {room : Nat → Int32} {work : Nat → Int32} {price : Nat → Int32} {whom : Nat → Int32} {bday : Nat → Int32} {units : Nat → Int32} {worth : Nat → Int32} {due : Nat → Int32} {under : Nat → Int32} {people : Int32} {askings : Int32} {hangs : Int32} {items : Int32} {many : Nat → Int32} {slip : Nat → Nat → Int32} {became : Nat → Int32} {left : Nat → Int32} {what : Nat → Int32} {which : Nat → Int32} {whose : Nat → Int32} {place : Nat → Int32} {deeds : Int32} {day : Int32} {won : Int32} {lost : Int32} {kept : Int32} {text : Nat → Int32} {typed : Int32} {rest : Nat → Int32} {bestSet : Int32} {tenths : Nat → Int32} {sortWorth : Nat → Int32} {sortDays : Nat → Int32} {row : Nat → Int32} {trace : Int64} {x1 : Int32} {x2 : Int32} {x3 : Int32} {r : Int32} {rest_r : Nat → Int32} (hf : x_canKeep bday units due askings day rest x1 x2 x3 = some (r, rest_r)) : MI l yX0_canKeep (ws_ yX0_canKeep cX0_canKeep 8 (some .boolean)) { frames := 1, cells := 0, slots := 0, locals := 24 } D gcl (gty d) NX (xw d ad ba ta imgs room work price whom bday units worth due under people askings hangs items many slip became left what which whose place deeds day won lost kept text typed rest bestSet tenths sortWorth sortDays row trace) (xw d ad ba ta imgs room work price whom bday units worth due under people askings hangs items many slip became left what which whose place deeds day won lost kept text typed rest_r bestSet tenths sortWorth sortDays row trace) sz [.ref (ad 0), .int x1, .int x2, .int x3] r :=
  MI.of (by decide) [.ref (ad 0), .int x1, .int x2, .int x3] [(0, .ref (ad 0)), (1, .int x1), (2, .int x2), (3, .int x3)] (Nat.le_of_ble_eq_true rfl) rfl (fun p e s m below meth c ls Q hx hb hml hown hts hN hA hC hl K => w_x_canKeep hx hb hml hown hts hN hA (Nat.le_refl _) (Nat.le_refl _) (Nat.le_refl _) (Nat.le_refl _) hf hC hl K)

def x_bestFor_L6 (x1 : Int32) (whom : Nat → Int32) (bday : Nat → Int32) (askings : Int32) (day : Int32) : Nat → Int32 → Int32 → Option (Int32)
  | 0, _, _ => none
  | n_6 + 1, x4_6, x5_6 =>
  if askings ≤ x5_6 then (some x4_6) else
  ck x5_6 8 <| if (whom x5_6.toNatClampNeg) = x1 then (ck x5_6 8 <| if (bday x5_6.toNatClampNeg) < day then (x_bestFor_L6 x1 whom bday askings day n_6 (x4_6 ||| 0) (x5_6 + 1) ) else
  x_bestFor_L6 x1 whom bday askings day n_6 (x4_6 ||| (1 <<< (x5_6 &&& 31))) (x5_6 + 1) ) else
  x_bestFor_L6 x1 whom bday askings day n_6 (x4_6 ||| 0) (x5_6 + 1) 
theorem x_bestFor_L6_s (x1 : Int32) (whom : Nat → Int32) (bday : Nat → Int32) (askings : Int32) (day : Int32) (n_6 : Nat) (x4_6 : Int32) (x5_6 : Int32) : x_bestFor_L6 x1 whom bday askings day (n_6 + 1) x4_6 x5_6 = (
  if askings ≤ x5_6 then (some x4_6) else
  ck x5_6 8 <| if (whom x5_6.toNatClampNeg) = x1 then (ck x5_6 8 <| if (bday x5_6.toNatClampNeg) < day then (x_bestFor_L6 x1 whom bday askings day n_6 (x4_6 ||| 0) (x5_6 + 1) ) else
  x_bestFor_L6 x1 whom bday askings day n_6 (x4_6 ||| (1 <<< (x5_6 &&& 31))) (x5_6 + 1) ) else
  x_bestFor_L6 x1 whom bday askings day n_6 (x4_6 ||| 0) (x5_6 + 1) ) := rfl
def x_bestFor_L90 (x6_77 : Int32) (worth : Nat → Int32) (askings : Int32) : Nat → Int32 → Int32 → Option (Int32)
  | 0, _, _ => none
  | n_90 + 1, x7_90, x8_90 =>
  if askings ≤ x8_90 then (some x7_90) else
  ck x8_90 8 <| x_bestFor_L90 x6_77 worth askings n_90 (x7_90 + (((x6_77 >>> (x8_90 &&& 31)) &&& 1) * (worth x8_90.toNatClampNeg))) (x8_90 + 1) 
theorem x_bestFor_L90_s (x6_77 : Int32) (worth : Nat → Int32) (askings : Int32) (n_90 : Nat) (x7_90 : Int32) (x8_90 : Int32) : x_bestFor_L90 x6_77 worth askings (n_90 + 1) x7_90 x8_90 = (
  if askings ≤ x8_90 then (some x7_90) else
  ck x8_90 8 <| x_bestFor_L90 x6_77 worth askings n_90 (x7_90 + (((x6_77 >>> (x8_90 &&& 31)) &&& 1) * (worth x8_90.toNatClampNeg))) (x8_90 + 1) ) := rfl
def x_bestFor_L77 (x2 : Int32) (x3 : Int32) (x4_71 : Int32) (bday : Nat → Int32) (units : Nat → Int32) (worth : Nat → Int32) (due : Nat → Int32) (askings : Int32) (day : Int32) : Nat → Int32 → Int32 → (Nat → Int32) → Int32 → Option (Int32 × (Nat → Int32) × Int32)
  | 0, _, _, _, _ => none
  | n_77 + 1, x5_77, x6_77, rest_77, bestSet_77 =>
  if x4_71 < x6_77 then (some (x5_77, rest_77, bestSet_77)) else
  bnd (x_bestFor_L90 x6_77 worth askings g_fuel 0 0 ) (fun x7_131 =>
  if (x6_77 &&& (x4_71 ^^^ (-1))) = 0 then (if x7_131 ≤ x5_77 then (x_bestFor_L77 x2 x3 x4_71 bday units worth due askings day n_77 x5_77 (x6_77 + 1) rest_77 bestSet_77) else
  bnd2 (x_canKeep bday units due askings day rest_77 x6_77 x2 x3) fun r_153 rest_153 =>
  if r_153 = 0 then (x_bestFor_L77 x2 x3 x4_71 bday units worth due askings day n_77 x5_77 (x6_77 + 1) rest_153 bestSet_77) else
  x_bestFor_L77 x2 x3 x4_71 bday units worth due askings day n_77 x7_131 (x6_77 + 1) rest_153 x6_77) else
  x_bestFor_L77 x2 x3 x4_71 bday units worth due askings day n_77 x5_77 (x6_77 + 1) rest_77 bestSet_77)
theorem x_bestFor_L77_s (x2 : Int32) (x3 : Int32) (x4_71 : Int32) (bday : Nat → Int32) (units : Nat → Int32) (worth : Nat → Int32) (due : Nat → Int32) (askings : Int32) (day : Int32) (n_77 : Nat) (x5_77 : Int32) (x6_77 : Int32) (rest_77 : Nat → Int32) (bestSet_77 : Int32) : x_bestFor_L77 x2 x3 x4_71 bday units worth due askings day (n_77 + 1) x5_77 x6_77 rest_77 bestSet_77 = (
  if x4_71 < x6_77 then (some (x5_77, rest_77, bestSet_77)) else
  bnd (x_bestFor_L90 x6_77 worth askings g_fuel 0 0 ) (fun x7_131 =>
  if (x6_77 &&& (x4_71 ^^^ (-1))) = 0 then (if x7_131 ≤ x5_77 then (x_bestFor_L77 x2 x3 x4_71 bday units worth due askings day n_77 x5_77 (x6_77 + 1) rest_77 bestSet_77) else
  bnd2 (x_canKeep bday units due askings day rest_77 x6_77 x2 x3) fun r_153 rest_153 =>
  if r_153 = 0 then (x_bestFor_L77 x2 x3 x4_71 bday units worth due askings day n_77 x5_77 (x6_77 + 1) rest_153 bestSet_77) else
  x_bestFor_L77 x2 x3 x4_71 bday units worth due askings day n_77 x7_131 (x6_77 + 1) rest_153 x6_77) else
  x_bestFor_L77 x2 x3 x4_71 bday units worth due askings day n_77 x5_77 (x6_77 + 1) rest_77 bestSet_77)) := rfl
def x_bestFor (whom : Nat → Int32) (bday : Nat → Int32) (units : Nat → Int32) (worth : Nat → Int32) (due : Nat → Int32) (askings : Int32) (day : Int32) (rest : Nat → Int32) (bestSet : Int32) (x1 : Int32) (x2 : Int32) (x3 : Int32) : Option (Int32 × (Nat → Int32) × Int32) :=
  bnd (x_bestFor_L6 x1 whom bday askings day g_fuel 0 0 ) (fun x4_71 =>
  bnd3 (x_bestFor_L77 x2 x3 x4_71 bday units worth due askings day g_fuel (-1) 0 rest bestSet) (fun x5_175 rest_175 bestSet_175 =>
  some (x5_175, rest_175, bestSet_175)))
set_option maxHeartbeats 4000000 in
set_option maxRecDepth 100000 in
theorem w_x_bestFor {p : Program} {l : Launch} {e : Env} {R : Room} {s : State} {m : MethodId} {args : Array Value} {below : List Frame} {meth : Method} {c : Code} {H : Heap} {locs : List Loc} {cells slots : Nat} {Q : State → Prop} {A : Nat → Prop} {ls : Array Slot} {D : va_G} {d : Nat → ClassId} {ad : Nat → Nat} {ba : Nat → Nat} {ta : Nat → Nat} {imgs : va_W} {room : Nat → Int32} {work : Nat → Int32} {price : Nat → Int32} {whom : Nat → Int32} {bday : Nat → Int32} {units : Nat → Int32} {worth : Nat → Int32} {due : Nat → Int32} {under : Nat → Int32} {people : Int32} {askings : Int32} {hangs : Int32} {items : Int32} {many : Nat → Int32} {slip : Nat → Nat → Int32} {became : Nat → Int32} {left : Nat → Int32} {what : Nat → Int32} {which : Nat → Int32} {whose : Nat → Int32} {place : Nat → Int32} {deeds : Int32} {day : Int32} {won : Int32} {lost : Int32} {kept : Int32} {text : Nat → Int32} {typed : Int32} {rest : Nat → Int32} {bestSet : Int32} {tenths : Nat → Int32} {sortWorth : Nat → Int32} {sortDays : Nat → Int32} {row : Nat → Int32} {trace : Int64} {x1 : Int32} {x2 : Int32} {x3 : Int32} {r : Int32} {rest_r : Nat → Int32} {bestSet_r : Int32} (hx : p.tables.exec = Jvm.exec) (hb : c.code = cX0_bestFor) (hml : c.maxLocals = 9) (hown : s.vm.findClass RX0 = some m.cls) (hts : ∀ w ∈ lw_all, w.before args s = true) (hN : NX s) (hA : ∀ q, s.heap.size ≤ q → A q) (hRf : 2 ≤ R.frames) (hRl : 51 ≤ R.locals) (hRc : cells ≤ R.cells) (hRs : slots ≤ R.slots) (hf : x_bestFor whom bday units worth due askings day rest bestSet x1 x2 x3 = some (r, rest_r, bestSet_r)) (hC : HC D gcl (gty d) A (xw d ad ba ta imgs room work price whom bday units worth due under people askings hangs items many slip became left what which whose place deeds day won lost kept text typed rest bestSet tenths sortWorth sortDays row trace) s H locs) (hl : lv_has ls 9 [(0, .ref (ad 0)), (1, .int x1), (2, .int x2), (3, .int x3)]) (K : ∀ (H : Heap) (locs : List Loc) (ls : Array Slot) (pc : Nat), narrow .int (.int r) = .int r → HC D gcl (gty d) A (xw d ad ba ta imgs room work price whom bday units worth due under people askings hangs items many slip became left what which whose place deeds day won lost kept text typed rest_r bestSet_r tenths sortWorth sortDays row trace) s H locs → decode cX0_bestFor pc = .ok (.ireturn, 1) → W p l e R s m args below meth c H locs cells slots Q (F0 m pc ls [.int r])) : W p l e R s m args below meth c H locs cells slots Q (F0 m 0 ls []) := by
  unfold x_bestFor at hf
  refine lv_iconst (v := 0) hx hb dX0_bestFor_0 (by decide) ?_
  refine lv_istore (lv' := [(4, .int 0), (0, .ref (ad 0)), (1, .int x1), (2, .int x2), (3, .int x3)]) hx hb dX0_bestFor_1 hl (by decide) rfl (fun ls hl => ?_)
  refine lv_iconst (v := 0) hx hb dX0_bestFor_3 (by decide) ?_
  refine lv_istore (lv' := [(5, .int 0), (4, .int 0), (0, .ref (ad 0)), (1, .int x1), (2, .int x2), (3, .int x3)]) hx hb dX0_bestFor_4 hl (by decide) rfl (fun ls hl => ?_)
  obtain ⟨x4_71, hL, hf⟩ := bnd_some hf
  have X_6 : ∀ (H : Heap) (locs : List Loc) (ls : Array Slot), HC D gcl (gty d) A (xw d ad ba ta imgs room work price whom bday units worth due under people askings hangs items many slip became left what which whose place deeds day won lost kept text typed rest bestSet tenths sortWorth sortDays row trace) s H locs → lv_has ls 9 [(0, .ref (ad 0)), (2, .int x2), (3, .int x3), (4, .int x4_71)] → W p l e R s m args below meth c H locs cells slots Q (F0 m 71 ls []) := by
    intro H locs ls hC hl
    refine lv_iconst (v := (-1)) hx hb dX0_bestFor_71 (by decide) ?_
    refine lv_istore (lv' := [(5, .int (-1)), (0, .ref (ad 0)), (2, .int x2), (3, .int x3), (4, .int x4_71)]) hx hb dX0_bestFor_72 hl (by decide) rfl (fun ls hl => ?_)
    refine lv_iconst (v := 0) hx hb dX0_bestFor_74 (by decide) ?_
    refine lv_istore (lv' := [(6, .int 0), (5, .int (-1)), (0, .ref (ad 0)), (2, .int x2), (3, .int x3), (4, .int x4_71)]) hx hb dX0_bestFor_75 hl (by decide) rfl (fun ls hl => ?_)
    obtain ⟨x5_175, rest_175, bestSet_175, hL, hf⟩ := bnd3_some hf
    have X_77 : ∀ (H : Heap) (locs : List Loc) (ls : Array Slot), HC D gcl (gty d) A (xw d ad ba ta imgs room work price whom bday units worth due under people askings hangs items many slip became left what which whose place deeds day won lost kept text typed rest_175 bestSet_175 tenths sortWorth sortDays row trace) s H locs → lv_has ls 9 [(5, .int x5_175)] → W p l e R s m args below meth c H locs cells slots Q (F0 m 175 ls []) := by
      intro H locs ls hC hl
      refine lv_iload hx hb dX0_bestFor_175 (lv_at hl 0 rfl) ?_
      obtain ⟨e_1, e_2, e_3⟩ := so_3 (Option.some.inj hf)
      subst e_1
      subst e_2
      subst e_3
      exact K H locs ls _ rfl hC dX0_bestFor_177
    have L_77 : ∀ (n_77 : Nat) (x5_77 : Int32) (x6_77 : Int32) (rest_77 : Nat → Int32) (bestSet_77 : Int32), x_bestFor_L77 x2 x3 x4_71 bday units worth due askings day n_77 x5_77 x6_77 rest_77 bestSet_77 = some (x5_175, rest_175, bestSet_175) → ∀ (H : Heap) (locs : List Loc) (ls : Array Slot), HC D gcl (gty d) A (xw d ad ba ta imgs room work price whom bday units worth due under people askings hangs items many slip became left what which whose place deeds day won lost kept text typed rest_77 bestSet_77 tenths sortWorth sortDays row trace) s H locs → lv_has ls 9 [(0, .ref (ad 0)), (2, .int x2), (3, .int x3), (4, .int x4_71), (5, .int x5_77), (6, .int x6_77)] → W p l e R s m args below meth c H locs cells slots Q (F0 m 77 ls []) := by
      intro n_77
      induction n_77 with
      | zero => intro _ _ _ _ hf; cases hf
      | succ n_77 ih =>
        intro x5_77 x6_77 rest_77 bestSet_77 hf H locs ls hC hl
        rw [x_bestFor_L77_s] at hf
        refine lv_iload hx hb dX0_bestFor_77 (lv_at hl 5 rfl) ?_
        refine lv_iload hx hb dX0_bestFor_79 (lv_at hl 3 rfl) ?_
        refine lv_icmp_gt (tgt := 175) hx hb dX0_bestFor_81 (by decide) (fun c_81 => ?_) (fun c_81 => ?_)
        · have hf := if_t hf c_81
          obtain ⟨e_1, e_2, e_3⟩ := so_3 (Option.some.inj hf)
          subst e_1
          subst e_2
          subst e_3
          exact X_77 H locs ls hC (lv_sub hl [4] rfl)
        · have hf := if_f hf c_81
          refine lv_iconst (v := 0) hx hb dX0_bestFor_84 (by decide) ?_
          refine lv_istore (lv' := [(7, .int 0), (0, .ref (ad 0)), (2, .int x2), (3, .int x3), (4, .int x4_71), (5, .int x5_77), (6, .int x6_77)]) hx hb dX0_bestFor_85 hl (by decide) rfl (fun ls hl => ?_)
          refine lv_iconst (v := 0) hx hb dX0_bestFor_87 (by decide) ?_
          refine lv_istore (lv' := [(8, .int 0), (7, .int 0), (0, .ref (ad 0)), (2, .int x2), (3, .int x3), (4, .int x4_71), (5, .int x5_77), (6, .int x6_77)]) hx hb dX0_bestFor_88 hl (by decide) rfl (fun ls hl => ?_)
          obtain ⟨x7_131, hL, hf⟩ := bnd_some hf
          have X_90 : ∀ (H : Heap) (locs : List Loc) (ls : Array Slot), HC D gcl (gty d) A (xw d ad ba ta imgs room work price whom bday units worth due under people askings hangs items many slip became left what which whose place deeds day won lost kept text typed rest_77 bestSet_77 tenths sortWorth sortDays row trace) s H locs → lv_has ls 9 [(0, .ref (ad 0)), (2, .int x2), (3, .int x3), (4, .int x4_71), (5, .int x5_77), (6, .int x6_77), (7, .int x7_131)] → W p l e R s m args below meth c H locs cells slots Q (F0 m 131 ls []) := by
            intro H locs ls hC hl
            refine lv_iload hx hb dX0_bestFor_131 (lv_at hl 5 rfl) ?_
            refine lv_iload hx hb dX0_bestFor_133 (lv_at hl 3 rfl) ?_
            refine lv_iconst (v := (-1)) hx hb dX0_bestFor_135 (by decide) ?_
            refine lv_ixor hx hb dX0_bestFor_136 ?_
            refine lv_iand hx hb dX0_bestFor_137 ?_
            refine lv_if_ne (tgt := 169) hx hb dX0_bestFor_138 (by decide) (fun c_138 => ?_) (fun c_138 => ?_)
            · have hf := if_f hf c_138
              refine lv_iinc (v := x6_77 + 1) (lv' := [(6, .int (x6_77 + 1)), (0, .ref (ad 0)), (2, .int x2), (3, .int x3), (4, .int x4_71), (5, .int x5_77), (7, .int x7_131)]) hx hb dX0_bestFor_169 hl (k := 5) rfl rfl (by decide) rfl (fun ls hl => ?_)
              refine lv_goto (tgt := 77) hx hb dX0_bestFor_172 (by decide) ?_
              exact ih _ _ _ _ hf H locs ls hC (lv_sub hl [1, 2, 3, 4, 5, 0] rfl)
            · have hf := if_t hf c_138
              refine lv_iload hx hb dX0_bestFor_141 (lv_at hl 6 rfl) ?_
              refine lv_iload hx hb dX0_bestFor_143 (lv_at hl 4 rfl) ?_
              refine lv_icmp_le (tgt := 169) hx hb dX0_bestFor_145 (by decide) (fun c_145 => ?_) (fun c_145 => ?_)
              · have hf := if_t hf c_145
                refine lv_iinc (v := x6_77 + 1) (lv' := [(6, .int (x6_77 + 1)), (0, .ref (ad 0)), (2, .int x2), (3, .int x3), (4, .int x4_71), (5, .int x5_77), (7, .int x7_131)]) hx hb dX0_bestFor_169 hl (k := 5) rfl rfl (by decide) rfl (fun ls hl => ?_)
                refine lv_goto (tgt := 77) hx hb dX0_bestFor_172 (by decide) ?_
                exact ih _ _ _ _ hf H locs ls hC (lv_sub hl [1, 2, 3, 4, 5, 0] rfl)
              · have hf := if_f hf c_145
                refine lv_aload_n hx hb dX0_bestFor_148 rfl (lv_at hl 0 rfl) ?_
                refine lv_iload hx hb dX0_bestFor_149 (lv_at hl 5 rfl) ?_
                refine lv_iload_n hx hb dX0_bestFor_151 rfl (lv_at hl 1 rfl) ?_
                refine lv_iload_n hx hb dX0_bestFor_152 rfl (lv_at hl 2 rfl) ?_
                obtain ⟨r_153, rest_153, hcall, hf⟩ := bnd2_some hf
                refine hc_i (va_runV (C := RX0) (As := [.int x6_77, .int x2, .int x3]) (rest := []) ⟨hx, hb, hml, hown, hts⟩ (c_x_canKeep hcall) (cwV 3 hts (lw_V q658 q660 qs16 q48 q661) rfl rfl rfl (by decide +kernel) ⟨(Nat.le_trans (Nat.le_of_ble_eq_true rfl) hRf), (Nat.le_trans (Nat.le_of_ble_eq_true rfl) hRl)⟩) (pre_V (q0 := 26) (ci := 0) NX.calling (fun U _ hW => NX.warm hW hN) hC rfl rfl) rfl rfl hl.1 rfl (lv_room (Nat.le_of_ble_eq_true rfl)) dX0_bestFor_153 ⟨hRc, hRs⟩) hA hC (fun H locs hC => ?_)
                have hC : HC D gcl (gty d) A (xw d ad ba ta imgs room work price whom bday units worth due under people askings hangs items many slip became left what which whose place deeds day won lost kept text typed rest_153 bestSet_77 tenths sortWorth sortDays row trace) s H locs := hC
                refine lv_if_eq (tgt := 169) hx hb dX0_bestFor_156 (by decide) (fun c_156 => ?_) (fun c_156 => ?_)
                · have hf := if_t hf c_156
                  refine lv_iinc (v := x6_77 + 1) (lv' := [(6, .int (x6_77 + 1)), (0, .ref (ad 0)), (2, .int x2), (3, .int x3), (4, .int x4_71), (5, .int x5_77), (7, .int x7_131)]) hx hb dX0_bestFor_169 hl (k := 5) rfl rfl (by decide) rfl (fun ls hl => ?_)
                  refine lv_goto (tgt := 77) hx hb dX0_bestFor_172 (by decide) ?_
                  exact ih _ _ _ _ hf H locs ls hC (lv_sub hl [1, 2, 3, 4, 5, 0] rfl)
                · have hf := if_f hf c_156
                  refine lv_iload hx hb dX0_bestFor_159 (lv_at hl 6 rfl) ?_
                  refine lv_istore (lv' := [(5, .int x7_131), (0, .ref (ad 0)), (2, .int x2), (3, .int x3), (4, .int x4_71), (6, .int x6_77), (7, .int x7_131)]) hx hb dX0_bestFor_161 hl (by decide) rfl (fun ls hl => ?_)
                  refine lv_aload_n hx hb dX0_bestFor_163 rfl (lv_at hl 1 rfl) ?_
                  refine lv_iload hx hb dX0_bestFor_164 (lv_at hl 5 rfl) ?_
                  refine va_put (ci := 0) (v := .int x6_77) (ty := .int) (C := RX0) (T := TX0) (N := 13) hx hb hts in_X0 tyX0 tyX0_ok nmX0 hown hC.1 hC.2.1 hC.2.2.1 hC.2.2.2 (26) rfl rfl 6 (by decide) (hts _ q314) (fun _ h9 => h9) rfl (tyX0_ok 6 (by decide)) rfl rfl (Nat.le_of_ble_eq_true rfl) dX0_bestFor_166 (fun H locs hP hD hS => ?_)
                  have hC : HC D gcl (gty d) A (xw d ad ba ta imgs room work price whom bday units worth due under people askings hangs items many slip became left what which whose place deeds day won lost kept text typed rest_153 x6_77 tenths sortWorth sortDays row trace) s H locs := ⟨hC.1, hP, hD, hS⟩
                  refine lv_iinc (v := x6_77 + 1) (lv' := [(6, .int (x6_77 + 1)), (5, .int x7_131), (0, .ref (ad 0)), (2, .int x2), (3, .int x3), (4, .int x4_71), (7, .int x7_131)]) hx hb dX0_bestFor_169 hl (k := 5) rfl rfl (by decide) rfl (fun ls hl => ?_)
                  refine lv_goto (tgt := 77) hx hb dX0_bestFor_172 (by decide) ?_
                  exact ih _ _ _ _ hf H locs ls hC (lv_sub hl [2, 3, 4, 5, 1, 0] rfl)
          have L_90 : ∀ (n_90 : Nat) (x7_90 : Int32) (x8_90 : Int32), x_bestFor_L90 x6_77 worth askings n_90 x7_90 x8_90 = some x7_131 → ∀ (H : Heap) (locs : List Loc) (ls : Array Slot), HC D gcl (gty d) A (xw d ad ba ta imgs room work price whom bday units worth due under people askings hangs items many slip became left what which whose place deeds day won lost kept text typed rest_77 bestSet_77 tenths sortWorth sortDays row trace) s H locs → lv_has ls 9 [(0, .ref (ad 0)), (2, .int x2), (3, .int x3), (4, .int x4_71), (5, .int x5_77), (6, .int x6_77), (7, .int x7_90), (8, .int x8_90)] → W p l e R s m args below meth c H locs cells slots Q (F0 m 90 ls []) := by
            intro n_90
            induction n_90 with
            | zero => intro _ _ hf; cases hf
            | succ n_90 ih =>
              intro x7_90 x8_90 hf H locs ls hC hl
              rw [x_bestFor_L90_s] at hf
              refine lv_iload hx hb dX0_bestFor_90 (lv_at hl 7 rfl) ?_
              refine lv_aload_n hx hb dX0_bestFor_92 rfl (lv_at hl 0 rfl) ?_
              refine va_get (ci := 0) (v := .ref (ba 0)) (C := RX0) (T := TX0) (N := 13) hx hb hts in_X0 hown hC.1 hC.2.1 (26) rfl rfl 0 (by decide) (hts _ q302) (fun _ h9 => h9) rfl dX0_bestFor_93 ?_
              refine va_getN (ci := 1) (v := .int askings) (C := RX1) (T := TX1) (N := 13) (host := "SleeveSlips") hx hb hts in_X1 hown hC.1 hC.2.1 (0) rfl rfl 10 (by decide) (va_Nw.use rfl (hN.1 22)) (fun _ h9 => h9) rfl dX0_bestFor_96 ?_
              refine lv_icmp_ge (tgt := 131) hx hb dX0_bestFor_99 (by decide) (fun c_99 => ?_) (fun c_99 => ?_)
              · have hf := if_t hf c_99
                have e_1 := (Option.some.inj hf)
                subst e_1
                exact X_90 H locs ls hC (lv_sub hl [0, 1, 2, 3, 4, 5, 6] rfl)
              · have hf := if_f hf c_99
                refine lv_iload hx hb dX0_bestFor_102 (lv_at hl 6 rfl) ?_
                refine lv_iload hx hb dX0_bestFor_104 (lv_at hl 5 rfl) ?_
                refine lv_iload hx hb dX0_bestFor_106 (lv_at hl 7 rfl) ?_
                refine lv_ishr hx hb dX0_bestFor_108 ?_
                refine lv_iconst (v := 1) hx hb dX0_bestFor_109 (by decide) ?_
                refine lv_iand hx hb dX0_bestFor_110 ?_
                refine lv_aload_n hx hb dX0_bestFor_111 rfl (lv_at hl 0 rfl) ?_
                refine va_get (ci := 0) (v := .ref (ba 0)) (C := RX0) (T := TX0) (N := 13) hx hb hts in_X0 hown hC.1 hC.2.1 (26) rfl rfl 0 (by decide) (hts _ q302) (fun _ h9 => h9) rfl dX0_bestFor_112 ?_
                refine va_getN (ci := 1) (v := .ref (ba 7)) (C := RX1) (T := TX1) (N := 13) (host := "SleeveSlips") hx hb hts in_X1 hown hC.1 hC.2.1 (0) rfl rfl 6 (by decide) (va_Nw.use rfl (hN.1 15)) (fun _ h9 => h9) rfl dX0_bestFor_115 ?_
                refine lv_iload hx hb dX0_bestFor_118 (lv_at hl 7 rfl) ?_
                obtain ⟨hi_120, hf⟩ := ck_some hf
                refine va_iald hx hb hC.1 hC.2.1 (7) 0 rfl rfl hi_120 dX0_bestFor_120 ?_
                refine lv_imul hx hb dX0_bestFor_121 ?_
                refine lv_iadd hx hb dX0_bestFor_122 ?_
                refine lv_istore (lv' := [(7, .int (x7_90 + (((x6_77 >>> (x8_90 &&& 31)) &&& 1) * (worth x8_90.toNatClampNeg)))), (0, .ref (ad 0)), (2, .int x2), (3, .int x3), (4, .int x4_71), (5, .int x5_77), (6, .int x6_77), (8, .int x8_90)]) hx hb dX0_bestFor_123 hl (by decide) rfl (fun ls hl => ?_)
                refine lv_iinc (v := x8_90 + 1) (lv' := [(8, .int (x8_90 + 1)), (7, .int (x7_90 + (((x6_77 >>> (x8_90 &&& 31)) &&& 1) * (worth x8_90.toNatClampNeg)))), (0, .ref (ad 0)), (2, .int x2), (3, .int x3), (4, .int x4_71), (5, .int x5_77), (6, .int x6_77)]) hx hb dX0_bestFor_125 hl (k := 7) rfl rfl (by decide) rfl (fun ls hl => ?_)
                refine lv_goto (tgt := 90) hx hb dX0_bestFor_128 (by decide) ?_
                exact ih _ _ hf H locs ls hC (lv_sub hl [2, 3, 4, 5, 6, 7, 1, 0] rfl)
          exact L_90 _ _ _ hL H locs ls hC (lv_sub hl [2, 3, 4, 5, 6, 7, 1, 0] rfl)
    exact L_77 _ _ _ _ _ hL H locs ls hC (lv_sub hl [2, 3, 4, 5, 1, 0] rfl)
  have L_6 : ∀ (n_6 : Nat) (x4_6 : Int32) (x5_6 : Int32), x_bestFor_L6 x1 whom bday askings day n_6 x4_6 x5_6 = some x4_71 → ∀ (H : Heap) (locs : List Loc) (ls : Array Slot), HC D gcl (gty d) A (xw d ad ba ta imgs room work price whom bday units worth due under people askings hangs items many slip became left what which whose place deeds day won lost kept text typed rest bestSet tenths sortWorth sortDays row trace) s H locs → lv_has ls 9 [(0, .ref (ad 0)), (1, .int x1), (2, .int x2), (3, .int x3), (4, .int x4_6), (5, .int x5_6)] → W p l e R s m args below meth c H locs cells slots Q (F0 m 6 ls []) := by
    intro n_6
    induction n_6 with
    | zero => intro _ _ hf; cases hf
    | succ n_6 ih =>
      intro x4_6 x5_6 hf H locs ls hC hl
      rw [x_bestFor_L6_s] at hf
      refine lv_iload hx hb dX0_bestFor_6 (lv_at hl 5 rfl) ?_
      refine lv_aload_n hx hb dX0_bestFor_8 rfl (lv_at hl 0 rfl) ?_
      refine va_get (ci := 0) (v := .ref (ba 0)) (C := RX0) (T := TX0) (N := 13) hx hb hts in_X0 hown hC.1 hC.2.1 (26) rfl rfl 0 (by decide) (hts _ q302) (fun _ h9 => h9) rfl dX0_bestFor_9 ?_
      refine va_getN (ci := 1) (v := .int askings) (C := RX1) (T := TX1) (N := 13) (host := "SleeveSlips") hx hb hts in_X1 hown hC.1 hC.2.1 (0) rfl rfl 10 (by decide) (va_Nw.use rfl (hN.1 22)) (fun _ h9 => h9) rfl dX0_bestFor_12 ?_
      refine lv_icmp_ge (tgt := 71) hx hb dX0_bestFor_15 (by decide) (fun c_15 => ?_) (fun c_15 => ?_)
      · have hf := if_t hf c_15
        have e_1 := (Option.some.inj hf)
        subst e_1
        exact X_6 H locs ls hC (lv_sub hl [0, 2, 3, 4] rfl)
      · have hf := if_f hf c_15
        refine lv_iload hx hb dX0_bestFor_18 (lv_at hl 4 rfl) ?_
        refine lv_aload_n hx hb dX0_bestFor_20 rfl (lv_at hl 0 rfl) ?_
        refine va_get (ci := 0) (v := .ref (ba 0)) (C := RX0) (T := TX0) (N := 13) hx hb hts in_X0 hown hC.1 hC.2.1 (26) rfl rfl 0 (by decide) (hts _ q302) (fun _ h9 => h9) rfl dX0_bestFor_21 ?_
        refine va_getN (ci := 1) (v := .ref (ba 4)) (C := RX1) (T := TX1) (N := 13) (host := "SleeveSlips") hx hb hts in_X1 hown hC.1 hC.2.1 (0) rfl rfl 3 (by decide) (va_Nw.use rfl (hN.1 9)) (fun _ h9 => h9) rfl dX0_bestFor_24 ?_
        refine lv_iload hx hb dX0_bestFor_27 (lv_at hl 5 rfl) ?_
        obtain ⟨hi_29, hf⟩ := ck_some hf
        refine va_iald hx hb hC.1 hC.2.1 (4) 0 rfl rfl hi_29 dX0_bestFor_29 ?_
        refine lv_iload_n hx hb dX0_bestFor_30 rfl (lv_at hl 1 rfl) ?_
        refine lv_icmp_ne (tgt := 61) hx hb dX0_bestFor_31 (by decide) (fun c_31 => ?_) (fun c_31 => ?_)
        · have hf := if_f hf c_31
          refine lv_iconst (v := 0) hx hb dX0_bestFor_61 (by decide) ?_
          refine lv_ior hx hb dX0_bestFor_62 ?_
          refine lv_istore (lv' := [(4, .int (x4_6 ||| 0)), (0, .ref (ad 0)), (1, .int x1), (2, .int x2), (3, .int x3), (5, .int x5_6)]) hx hb dX0_bestFor_63 hl (by decide) rfl (fun ls hl => ?_)
          refine lv_iinc (v := x5_6 + 1) (lv' := [(5, .int (x5_6 + 1)), (4, .int (x4_6 ||| 0)), (0, .ref (ad 0)), (1, .int x1), (2, .int x2), (3, .int x3)]) hx hb dX0_bestFor_65 hl (k := 5) rfl rfl (by decide) rfl (fun ls hl => ?_)
          refine lv_goto (tgt := 6) hx hb dX0_bestFor_68 (by decide) ?_
          exact ih _ _ hf H locs ls hC (lv_sub hl [2, 3, 4, 5, 1, 0] rfl)
        · have hf := if_t hf c_31
          refine lv_aload_n hx hb dX0_bestFor_34 rfl (lv_at hl 0 rfl) ?_
          refine va_get (ci := 0) (v := .ref (ba 0)) (C := RX0) (T := TX0) (N := 13) hx hb hts in_X0 hown hC.1 hC.2.1 (26) rfl rfl 0 (by decide) (hts _ q302) (fun _ h9 => h9) rfl dX0_bestFor_35 ?_
          refine va_getN (ci := 1) (v := .ref (ba 5)) (C := RX1) (T := TX1) (N := 13) (host := "SleeveSlips") hx hb hts in_X1 hown hC.1 hC.2.1 (0) rfl rfl 4 (by decide) (va_Nw.use rfl (hN.1 11)) (fun _ h9 => h9) rfl dX0_bestFor_38 ?_
          refine lv_iload hx hb dX0_bestFor_41 (lv_at hl 5 rfl) ?_
          obtain ⟨hi_43, hf⟩ := ck_some hf
          refine va_iald hx hb hC.1 hC.2.1 (5) 0 rfl rfl hi_43 dX0_bestFor_43 ?_
          refine lv_aload_n hx hb dX0_bestFor_44 rfl (lv_at hl 0 rfl) ?_
          refine va_get (ci := 0) (v := .ref (ta 0)) (C := RX0) (T := TX0) (N := 13) hx hb hts in_X0 hown hC.1 hC.2.1 (26) rfl rfl 1 (by decide) (hts _ q305) (fun _ h9 => h9) rfl dX0_bestFor_45 ?_
          refine va_getN (ci := 2) (v := .int day) (C := RX2) (T := TX2) (N := 12) (host := "SleeveSlips") hx hb hts in_X2 hown hC.1 hC.2.1 (10) rfl rfl 8 (by decide) (va_Nw.use rfl (hN.1 42)) (fun _ h9 => h9) rfl dX0_bestFor_48 ?_
          refine lv_icmp_lt (tgt := 61) hx hb dX0_bestFor_51 (by decide) (fun c_51 => ?_) (fun c_51 => ?_)
          · have hf := if_t hf c_51
            refine lv_iconst (v := 0) hx hb dX0_bestFor_61 (by decide) ?_
            refine lv_ior hx hb dX0_bestFor_62 ?_
            refine lv_istore (lv' := [(4, .int (x4_6 ||| 0)), (0, .ref (ad 0)), (1, .int x1), (2, .int x2), (3, .int x3), (5, .int x5_6)]) hx hb dX0_bestFor_63 hl (by decide) rfl (fun ls hl => ?_)
            refine lv_iinc (v := x5_6 + 1) (lv' := [(5, .int (x5_6 + 1)), (4, .int (x4_6 ||| 0)), (0, .ref (ad 0)), (1, .int x1), (2, .int x2), (3, .int x3)]) hx hb dX0_bestFor_65 hl (k := 5) rfl rfl (by decide) rfl (fun ls hl => ?_)
            refine lv_goto (tgt := 6) hx hb dX0_bestFor_68 (by decide) ?_
            exact ih _ _ hf H locs ls hC (lv_sub hl [2, 3, 4, 5, 1, 0] rfl)
          · have hf := if_f hf c_51
            refine lv_iconst (v := 1) hx hb dX0_bestFor_54 (by decide) ?_
            refine lv_iload hx hb dX0_bestFor_55 (lv_at hl 5 rfl) ?_
            refine lv_ishl hx hb dX0_bestFor_57 ?_
            refine lv_goto (tgt := 62) hx hb dX0_bestFor_58 (by decide) ?_
            refine lv_ior hx hb dX0_bestFor_62 ?_
            refine lv_istore (lv' := [(4, .int (x4_6 ||| (1 <<< (x5_6 &&& 31)))), (0, .ref (ad 0)), (1, .int x1), (2, .int x2), (3, .int x3), (5, .int x5_6)]) hx hb dX0_bestFor_63 hl (by decide) rfl (fun ls hl => ?_)
            refine lv_iinc (v := x5_6 + 1) (lv' := [(5, .int (x5_6 + 1)), (4, .int (x4_6 ||| (1 <<< (x5_6 &&& 31)))), (0, .ref (ad 0)), (1, .int x1), (2, .int x2), (3, .int x3)]) hx hb dX0_bestFor_65 hl (k := 5) rfl rfl (by decide) rfl (fun ls hl => ?_)
            refine lv_goto (tgt := 6) hx hb dX0_bestFor_68 (by decide) ?_
            exact ih _ _ hf H locs ls hC (lv_sub hl [2, 3, 4, 5, 1, 0] rfl)
  exact L_6 _ _ _ hL H locs ls hC (lv_sub hl [2, 3, 4, 5, 1, 0] rfl)
set_option maxRecDepth 100000 in
theorem c_x_bestFor {l : Launch} {sz : Nat} {D : va_G} {d : Nat → ClassId} {ad : Nat → Nat} {ba : Nat → Nat} {ta : Nat → Nat} {imgs : va_W} {room : Nat → Int32} {work : Nat → Int32} {price : Nat → Int32} {whom : Nat → Int32} {bday : Nat → Int32} {units : Nat → Int32} {worth : Nat → Int32} {due : Nat → Int32} {under : Nat → Int32} {people : Int32} {askings : Int32} {hangs : Int32} {items : Int32} {many : Nat → Int32} {slip : Nat → Nat → Int32} {became : Nat → Int32} {left : Nat → Int32} {what : Nat → Int32} {which : Nat → Int32} {whose : Nat → Int32} {place : Nat → Int32} {deeds : Int32} {day : Int32} {won : Int32} {lost : Int32} {kept : Int32} {text : Nat → Int32} {typed : Int32} {rest : Nat → Int32} {bestSet : Int32} {tenths : Nat → Int32} {sortWorth : Nat → Int32} {sortDays : Nat → Int32} {row : Nat → Int32} {trace : Int64} {x1 : Int32} {x2 : Int32} {x3 : Int32} {r : Int32} {rest_r : Nat → Int32} {bestSet_r : Int32} (hf : x_bestFor whom bday units worth due askings day rest bestSet x1 x2 x3 = some (r, rest_r, bestSet_r)) : MI l yX0_bestFor (ws_ yX0_bestFor cX0_bestFor 9 (some .int)) { frames := 2, cells := 0, slots := 0, locals := 51 } D gcl (gty d) NX (xw d ad ba ta imgs room work price whom bday units worth due under people askings hangs items many slip became left what which whose place deeds day won lost kept text typed rest bestSet tenths sortWorth sortDays row trace) (xw d ad ba ta imgs room work price whom bday units worth due under people askings hangs items many slip became left what which whose place deeds day won lost kept text typed rest_r bestSet_r tenths sortWorth sortDays row trace) sz [.ref (ad 0), .int x1, .int x2, .int x3] r :=
  MI.of (by decide) [.ref (ad 0), .int x1, .int x2, .int x3] [(0, .ref (ad 0)), (1, .int x1), (2, .int x2), (3, .int x3)] (Nat.le_of_ble_eq_true rfl) rfl (fun p e s m below meth c ls Q hx hb hml hown hts hN hA hC hl K => w_x_bestFor hx hb hml hown hts hN hA (Nat.le_refl _) (Nat.le_refl _) (Nat.le_refl _) (Nat.le_refl _) hf hC hl K)

def x_take (room : Nat → Int32) (work : Nat → Int32) (whom : Nat → Int32) (bday : Nat → Int32) (units : Nat → Int32) (worth : Nat → Int32) (due : Nat → Int32) (people : Int32) (askings : Int32) (day : Int32) (rest : Nat → Int32) (bestSet : Int32) (x1 : Int32) (x2 : Int32) : Option (Int32 × (Nat → Int32) × Int32) :=
  bnd (x_isPerson people x1) fun r_2 =>
  if r_2 = 0 then (some ((-1), rest, bestSet)) else
  bnd (x_in x2 0 1) fun r_11 =>
  if r_11 = 0 then (some ((-1), rest, bestSet)) else
  ck x1 4 <| ck x1 4 <| bnd3 (x_bestFor whom bday units worth due askings day rest bestSet x1 (room x1.toNatClampNeg) (work x1.toNatClampNeg)) fun r_39 rest_39 bestSet_39 =>
  if x2 = 0 then (some (r_39, rest_39, bestSet_39)) else
  some (bestSet_39, rest_39, bestSet_39)
set_option maxHeartbeats 4000000 in
set_option maxRecDepth 100000 in
theorem w_x_take {p : Program} {l : Launch} {e : Env} {R : Room} {s : State} {m : MethodId} {args : Array Value} {below : List Frame} {meth : Method} {c : Code} {H : Heap} {locs : List Loc} {cells slots : Nat} {Q : State → Prop} {A : Nat → Prop} {ls : Array Slot} {D : va_G} {d : Nat → ClassId} {ad : Nat → Nat} {ba : Nat → Nat} {ta : Nat → Nat} {imgs : va_W} {room : Nat → Int32} {work : Nat → Int32} {price : Nat → Int32} {whom : Nat → Int32} {bday : Nat → Int32} {units : Nat → Int32} {worth : Nat → Int32} {due : Nat → Int32} {under : Nat → Int32} {people : Int32} {askings : Int32} {hangs : Int32} {items : Int32} {many : Nat → Int32} {slip : Nat → Nat → Int32} {became : Nat → Int32} {left : Nat → Int32} {what : Nat → Int32} {which : Nat → Int32} {whose : Nat → Int32} {place : Nat → Int32} {deeds : Int32} {day : Int32} {won : Int32} {lost : Int32} {kept : Int32} {text : Nat → Int32} {typed : Int32} {rest : Nat → Int32} {bestSet : Int32} {tenths : Nat → Int32} {sortWorth : Nat → Int32} {sortDays : Nat → Int32} {row : Nat → Int32} {trace : Int64} {x1 : Int32} {x2 : Int32} {r : Int32} {rest_r : Nat → Int32} {bestSet_r : Int32} (hx : p.tables.exec = Jvm.exec) (hb : c.code = cX0_take) (hml : c.maxLocals = 4) (hown : s.vm.findClass RX0 = some m.cls) (hts : ∀ w ∈ lw_all, w.before args s = true) (hN : NX s) (hA : ∀ q, s.heap.size ≤ q → A q) (hRf : 3 ≤ R.frames) (hRl : 79 ≤ R.locals) (hRc : cells ≤ R.cells) (hRs : slots ≤ R.slots) (hf : x_take room work whom bday units worth due people askings day rest bestSet x1 x2 = some (r, rest_r, bestSet_r)) (hC : HC D gcl (gty d) A (xw d ad ba ta imgs room work price whom bday units worth due under people askings hangs items many slip became left what which whose place deeds day won lost kept text typed rest bestSet tenths sortWorth sortDays row trace) s H locs) (hl : lv_has ls 4 [(0, .ref (ad 0)), (1, .int x1), (2, .int x2)]) (K : ∀ (H : Heap) (locs : List Loc) (ls : Array Slot) (pc : Nat), narrow .int (.int r) = .int r → HC D gcl (gty d) A (xw d ad ba ta imgs room work price whom bday units worth due under people askings hangs items many slip became left what which whose place deeds day won lost kept text typed rest_r bestSet_r tenths sortWorth sortDays row trace) s H locs → decode cX0_take pc = .ok (.ireturn, 1) → W p l e R s m args below meth c H locs cells slots Q (F0 m pc ls [.int r])) : W p l e R s m args below meth c H locs cells slots Q (F0 m 0 ls []) := by
  unfold x_take at hf
  refine lv_aload_n hx hb dX0_take_0 rfl (lv_at hl 0 rfl) ?_
  refine lv_iload_n hx hb dX0_take_1 rfl (lv_at hl 1 rfl) ?_
  obtain ⟨r_2, hcall, hf⟩ := bnd_some hf
  refine hc_i (va_runV (C := RX0) (As := [.int x1]) (rest := []) ⟨hx, hb, hml, hown, hts⟩ (c_x_isPerson hcall) (cwV 1 hts (lw_V q555 q557 qs8 q48 q558) rfl rfl rfl (by decide +kernel) ⟨(Nat.le_trans (Nat.le_of_ble_eq_true rfl) hRf), (Nat.le_trans (Nat.le_of_ble_eq_true rfl) hRl)⟩) (pre_V (q0 := 26) (ci := 0) NX.calling (fun U _ hW => NX.warm hW hN) hC rfl rfl) rfl rfl hl.1 rfl (lv_room (Nat.le_of_ble_eq_true rfl)) dX0_take_2 ⟨hRc, hRs⟩) hA hC (fun H locs hC => ?_)
  refine lv_if_eq (tgt := 17) hx hb dX0_take_5 (by decide) (fun c_5 => ?_) (fun c_5 => ?_)
  · have hf := if_t hf c_5
    refine lv_iconst (v := (-1)) hx hb dX0_take_17 (by decide) ?_
    obtain ⟨e_1, e_2, e_3⟩ := so_3 (Option.some.inj hf)
    subst e_1
    subst e_2
    subst e_3
    exact K H locs ls _ rfl hC dX0_take_18
  · have hf := if_f hf c_5
    refine lv_iload_n hx hb dX0_take_8 rfl (lv_at hl 2 rfl) ?_
    refine lv_iconst (v := 0) hx hb dX0_take_9 (by decide) ?_
    refine lv_iconst (v := 1) hx hb dX0_take_10 (by decide) ?_
    obtain ⟨r_11, hcall, hf⟩ := bnd_some hf
    refine hc_i (va_runS (As := [.int x2, .int 0, .int 1]) (rest := []) ⟨hx, hb, hml, hown, hts⟩ (c_x_in hcall) (va_cwS 3 hts (lw_S q358 q359 q48 q360) rfl rfl rfl (by decide +kernel) ⟨(Nat.le_trans (Nat.le_of_ble_eq_true rfl) hRf), (Nat.le_trans (Nat.le_of_ble_eq_true rfl) hRl)⟩) (pre_S (fun _ _ _ _ h => h) (fun _ _ _ => trivial) hC) rfl rfl hl.1 rfl (lv_room (Nat.le_of_ble_eq_true rfl)) dX0_take_11 ⟨hRc, hRs⟩) hA hC (fun H locs hC => ?_)
    refine lv_if_ne (tgt := 19) hx hb dX0_take_14 (by decide) (fun c_14 => ?_) (fun c_14 => ?_)
    · have hf := if_f hf c_14
      refine lv_aload_n hx hb dX0_take_19 rfl (lv_at hl 0 rfl) ?_
      refine lv_iload_n hx hb dX0_take_20 rfl (lv_at hl 1 rfl) ?_
      refine lv_aload_n hx hb dX0_take_21 rfl (lv_at hl 0 rfl) ?_
      refine va_get (ci := 0) (v := .ref (ba 0)) (C := RX0) (T := TX0) (N := 13) hx hb hts in_X0 hown hC.1 hC.2.1 (26) rfl rfl 0 (by decide) (hts _ q302) (fun _ h9 => h9) rfl dX0_take_22 ?_
      refine va_getN (ci := 1) (v := .ref (ba 1)) (C := RX1) (T := TX1) (N := 13) (host := "SleeveSlips") hx hb hts in_X1 hown hC.1 hC.2.1 (0) rfl rfl 0 (by decide) (va_Nw.use rfl (hN.1 2)) (fun _ h9 => h9) rfl dX0_take_25 ?_
      refine lv_iload_n hx hb dX0_take_28 rfl (lv_at hl 1 rfl) ?_
      obtain ⟨hi_29, hf⟩ := ck_some hf
      refine va_iald hx hb hC.1 hC.2.1 (1) 0 rfl rfl hi_29 dX0_take_29 ?_
      refine lv_aload_n hx hb dX0_take_30 rfl (lv_at hl 0 rfl) ?_
      refine va_get (ci := 0) (v := .ref (ba 0)) (C := RX0) (T := TX0) (N := 13) hx hb hts in_X0 hown hC.1 hC.2.1 (26) rfl rfl 0 (by decide) (hts _ q302) (fun _ h9 => h9) rfl dX0_take_31 ?_
      refine va_getN (ci := 1) (v := .ref (ba 2)) (C := RX1) (T := TX1) (N := 13) (host := "SleeveSlips") hx hb hts in_X1 hown hC.1 hC.2.1 (0) rfl rfl 1 (by decide) (va_Nw.use rfl (hN.1 5)) (fun _ h9 => h9) rfl dX0_take_34 ?_
      refine lv_iload_n hx hb dX0_take_37 rfl (lv_at hl 1 rfl) ?_
      obtain ⟨hi_38, hf⟩ := ck_some hf
      refine va_iald hx hb hC.1 hC.2.1 (2) 0 rfl rfl hi_38 dX0_take_38 ?_
      obtain ⟨r_39, rest_39, bestSet_39, hcall, hf⟩ := bnd3_some hf
      refine hc_i (va_runV (C := RX0) (As := [.int x1, .int (room x1.toNatClampNeg), .int (work x1.toNatClampNeg)]) (rest := []) ⟨hx, hb, hml, hown, hts⟩ (c_x_bestFor hcall) (cwV 3 hts (lw_V q654 q656 qs15 q48 q657) rfl rfl rfl (by decide +kernel) ⟨(Nat.le_trans (Nat.le_of_ble_eq_true rfl) hRf), (Nat.le_trans (Nat.le_of_ble_eq_true rfl) hRl)⟩) (pre_V (q0 := 26) (ci := 0) NX.calling (fun U _ hW => NX.warm hW hN) hC rfl rfl) rfl rfl hl.1 rfl (lv_room (Nat.le_of_ble_eq_true rfl)) dX0_take_39 ⟨hRc, hRs⟩) hA hC (fun H locs hC => ?_)
      have hC : HC D gcl (gty d) A (xw d ad ba ta imgs room work price whom bday units worth due under people askings hangs items many slip became left what which whose place deeds day won lost kept text typed rest_39 bestSet_39 tenths sortWorth sortDays row trace) s H locs := hC
      refine lv_istore_n (lv' := [(3, .int r_39), (0, .ref (ad 0)), (1, .int x1), (2, .int x2)]) hx hb dX0_take_42 rfl hl (by decide) rfl (fun ls hl => ?_)
      refine lv_iload_n hx hb dX0_take_43 rfl (lv_at hl 3 rfl) ?_
      refine lv_if_ne (tgt := 51) hx hb dX0_take_44 (by decide) (fun c_44 => ?_) (fun c_44 => ?_)
      · have hf := if_f hf c_44
        refine lv_aload_n hx hb dX0_take_51 rfl (lv_at hl 1 rfl) ?_
        refine va_get (ci := 0) (v := .int bestSet_39) (C := RX0) (T := TX0) (N := 13) hx hb hts in_X0 hown hC.1 hC.2.1 (26) rfl rfl 6 (by decide) (hts _ q314) (fun _ h9 => h9) rfl dX0_take_52 ?_
        obtain ⟨e_1, e_2, e_3⟩ := so_3 (Option.some.inj hf)
        subst e_1
        subst e_2
        subst e_3
        exact K H locs ls _ rfl hC dX0_take_55
      · have hf := if_t hf c_44
        refine lv_iload_n hx hb dX0_take_47 rfl (lv_at hl 0 rfl) ?_
        refine lv_goto (tgt := 55) hx hb dX0_take_48 (by decide) ?_
        obtain ⟨e_1, e_2, e_3⟩ := so_3 (Option.some.inj hf)
        subst e_1
        subst e_2
        subst e_3
        exact K H locs ls _ rfl hC dX0_take_55
    · have hf := if_t hf c_14
      refine lv_iconst (v := (-1)) hx hb dX0_take_17 (by decide) ?_
      obtain ⟨e_1, e_2, e_3⟩ := so_3 (Option.some.inj hf)
      subst e_1
      subst e_2
      subst e_3
      exact K H locs ls _ rfl hC dX0_take_18
set_option maxRecDepth 100000 in
theorem c_x_take {l : Launch} {sz : Nat} {D : va_G} {d : Nat → ClassId} {ad : Nat → Nat} {ba : Nat → Nat} {ta : Nat → Nat} {imgs : va_W} {room : Nat → Int32} {work : Nat → Int32} {price : Nat → Int32} {whom : Nat → Int32} {bday : Nat → Int32} {units : Nat → Int32} {worth : Nat → Int32} {due : Nat → Int32} {under : Nat → Int32} {people : Int32} {askings : Int32} {hangs : Int32} {items : Int32} {many : Nat → Int32} {slip : Nat → Nat → Int32} {became : Nat → Int32} {left : Nat → Int32} {what : Nat → Int32} {which : Nat → Int32} {whose : Nat → Int32} {place : Nat → Int32} {deeds : Int32} {day : Int32} {won : Int32} {lost : Int32} {kept : Int32} {text : Nat → Int32} {typed : Int32} {rest : Nat → Int32} {bestSet : Int32} {tenths : Nat → Int32} {sortWorth : Nat → Int32} {sortDays : Nat → Int32} {row : Nat → Int32} {trace : Int64} {x1 : Int32} {x2 : Int32} {r : Int32} {rest_r : Nat → Int32} {bestSet_r : Int32} (hf : x_take room work whom bday units worth due people askings day rest bestSet x1 x2 = some (r, rest_r, bestSet_r)) : MI l yX0_take (ws_ yX0_take cX0_take 4 (some .int)) { frames := 3, cells := 0, slots := 0, locals := 79 } D gcl (gty d) NX (xw d ad ba ta imgs room work price whom bday units worth due under people askings hangs items many slip became left what which whose place deeds day won lost kept text typed rest bestSet tenths sortWorth sortDays row trace) (xw d ad ba ta imgs room work price whom bday units worth due under people askings hangs items many slip became left what which whose place deeds day won lost kept text typed rest_r bestSet_r tenths sortWorth sortDays row trace) sz [.ref (ad 0), .int x1, .int x2] r :=
  MI.of (by decide) [.ref (ad 0), .int x1, .int x2] [(0, .ref (ad 0)), (1, .int x1), (2, .int x2)] (Nat.le_of_ble_eq_true rfl) rfl (fun p e s m below meth c ls Q hx hb hml hown hts hN hA hC hl K => w_x_take hx hb hml hown hts hN hA (Nat.le_refl _) (Nat.le_refl _) (Nat.le_refl _) (Nat.le_refl _) hf hC hl K)

def x_bound (room : Nat → Int32) (work : Nat → Int32) (whom : Nat → Int32) (bday : Nat → Int32) (units : Nat → Int32) (worth : Nat → Int32) (due : Nat → Int32) (people : Int32) (askings : Int32) (day : Int32) (rest : Nat → Int32) (bestSet : Int32) (x1 : Int32) (x2 : Int32) : Option (Int32 × (Nat → Int32) × Int32) :=
  bnd (x_isPerson people x1) fun r_2 =>
  if r_2 = 0 then (some ((-1), rest, bestSet)) else
  bnd (x_in x2 0 1) fun r_11 =>
  if r_11 = 0 then (some ((-1), rest, bestSet)) else
  if x2 = 0 then (ck x1 4 <| bnd3 (x_bestFor whom bday units worth due askings day rest bestSet x1 8 (work x1.toNatClampNeg)) fun r_36 rest_36 bestSet_36 =>
  some (r_36, rest_36, bestSet_36)) else
  ck x1 4 <| bnd3 (x_bestFor whom bday units worth due askings day rest bestSet x1 (room x1.toNatClampNeg) 99) fun r_55 rest_55 bestSet_55 =>
  some (r_55, rest_55, bestSet_55)
set_option maxHeartbeats 4000000 in
set_option maxRecDepth 100000 in
theorem w_x_bound {p : Program} {l : Launch} {e : Env} {R : Room} {s : State} {m : MethodId} {args : Array Value} {below : List Frame} {meth : Method} {c : Code} {H : Heap} {locs : List Loc} {cells slots : Nat} {Q : State → Prop} {A : Nat → Prop} {ls : Array Slot} {D : va_G} {d : Nat → ClassId} {ad : Nat → Nat} {ba : Nat → Nat} {ta : Nat → Nat} {imgs : va_W} {room : Nat → Int32} {work : Nat → Int32} {price : Nat → Int32} {whom : Nat → Int32} {bday : Nat → Int32} {units : Nat → Int32} {worth : Nat → Int32} {due : Nat → Int32} {under : Nat → Int32} {people : Int32} {askings : Int32} {hangs : Int32} {items : Int32} {many : Nat → Int32} {slip : Nat → Nat → Int32} {became : Nat → Int32} {left : Nat → Int32} {what : Nat → Int32} {which : Nat → Int32} {whose : Nat → Int32} {place : Nat → Int32} {deeds : Int32} {day : Int32} {won : Int32} {lost : Int32} {kept : Int32} {text : Nat → Int32} {typed : Int32} {rest : Nat → Int32} {bestSet : Int32} {tenths : Nat → Int32} {sortWorth : Nat → Int32} {sortDays : Nat → Int32} {row : Nat → Int32} {trace : Int64} {x1 : Int32} {x2 : Int32} {r : Int32} {rest_r : Nat → Int32} {bestSet_r : Int32} (hx : p.tables.exec = Jvm.exec) (hb : c.code = cX0_bound) (hml : c.maxLocals = 3) (hown : s.vm.findClass RX0 = some m.cls) (hts : ∀ w ∈ lw_all, w.before args s = true) (hN : NX s) (hA : ∀ q, s.heap.size ≤ q → A q) (hRf : 3 ≤ R.frames) (hRl : 79 ≤ R.locals) (hRc : cells ≤ R.cells) (hRs : slots ≤ R.slots) (hf : x_bound room work whom bday units worth due people askings day rest bestSet x1 x2 = some (r, rest_r, bestSet_r)) (hC : HC D gcl (gty d) A (xw d ad ba ta imgs room work price whom bday units worth due under people askings hangs items many slip became left what which whose place deeds day won lost kept text typed rest bestSet tenths sortWorth sortDays row trace) s H locs) (hl : lv_has ls 3 [(0, .ref (ad 0)), (1, .int x1), (2, .int x2)]) (K : ∀ (H : Heap) (locs : List Loc) (ls : Array Slot) (pc : Nat), narrow .int (.int r) = .int r → HC D gcl (gty d) A (xw d ad ba ta imgs room work price whom bday units worth due under people askings hangs items many slip became left what which whose place deeds day won lost kept text typed rest_r bestSet_r tenths sortWorth sortDays row trace) s H locs → decode cX0_bound pc = .ok (.ireturn, 1) → W p l e R s m args below meth c H locs cells slots Q (F0 m pc ls [.int r])) : W p l e R s m args below meth c H locs cells slots Q (F0 m 0 ls []) := by
  unfold x_bound at hf
  refine lv_aload_n hx hb dX0_bound_0 rfl (lv_at hl 0 rfl) ?_
  refine lv_iload_n hx hb dX0_bound_1 rfl (lv_at hl 1 rfl) ?_
  obtain ⟨r_2, hcall, hf⟩ := bnd_some hf
  refine hc_i (va_runV (C := RX0) (As := [.int x1]) (rest := []) ⟨hx, hb, hml, hown, hts⟩ (c_x_isPerson hcall) (cwV 1 hts (lw_V q555 q557 qs8 q48 q558) rfl rfl rfl (by decide +kernel) ⟨(Nat.le_trans (Nat.le_of_ble_eq_true rfl) hRf), (Nat.le_trans (Nat.le_of_ble_eq_true rfl) hRl)⟩) (pre_V (q0 := 26) (ci := 0) NX.calling (fun U _ hW => NX.warm hW hN) hC rfl rfl) rfl rfl hl.1 rfl (lv_room (Nat.le_of_ble_eq_true rfl)) dX0_bound_2 ⟨hRc, hRs⟩) hA hC (fun H locs hC => ?_)
  refine lv_if_eq (tgt := 17) hx hb dX0_bound_5 (by decide) (fun c_5 => ?_) (fun c_5 => ?_)
  · have hf := if_t hf c_5
    refine lv_iconst (v := (-1)) hx hb dX0_bound_17 (by decide) ?_
    obtain ⟨e_1, e_2, e_3⟩ := so_3 (Option.some.inj hf)
    subst e_1
    subst e_2
    subst e_3
    exact K H locs ls _ rfl hC dX0_bound_18
  · have hf := if_f hf c_5
    refine lv_iload_n hx hb dX0_bound_8 rfl (lv_at hl 2 rfl) ?_
    refine lv_iconst (v := 0) hx hb dX0_bound_9 (by decide) ?_
    refine lv_iconst (v := 1) hx hb dX0_bound_10 (by decide) ?_
    obtain ⟨r_11, hcall, hf⟩ := bnd_some hf
    refine hc_i (va_runS (As := [.int x2, .int 0, .int 1]) (rest := []) ⟨hx, hb, hml, hown, hts⟩ (c_x_in hcall) (va_cwS 3 hts (lw_S q358 q359 q48 q360) rfl rfl rfl (by decide +kernel) ⟨(Nat.le_trans (Nat.le_of_ble_eq_true rfl) hRf), (Nat.le_trans (Nat.le_of_ble_eq_true rfl) hRl)⟩) (pre_S (fun _ _ _ _ h => h) (fun _ _ _ => trivial) hC) rfl rfl hl.1 rfl (lv_room (Nat.le_of_ble_eq_true rfl)) dX0_bound_11 ⟨hRc, hRs⟩) hA hC (fun H locs hC => ?_)
    refine lv_if_ne (tgt := 19) hx hb dX0_bound_14 (by decide) (fun c_14 => ?_) (fun c_14 => ?_)
    · have hf := if_f hf c_14
      refine lv_iload_n hx hb dX0_bound_19 rfl (lv_at hl 2 rfl) ?_
      refine lv_if_ne (tgt := 42) hx hb dX0_bound_20 (by decide) (fun c_20 => ?_) (fun c_20 => ?_)
      · have hf := if_f hf c_20
        refine lv_aload_n hx hb dX0_bound_42 rfl (lv_at hl 0 rfl) ?_
        refine lv_iload_n hx hb dX0_bound_43 rfl (lv_at hl 1 rfl) ?_
        refine lv_aload_n hx hb dX0_bound_44 rfl (lv_at hl 0 rfl) ?_
        refine va_get (ci := 0) (v := .ref (ba 0)) (C := RX0) (T := TX0) (N := 13) hx hb hts in_X0 hown hC.1 hC.2.1 (26) rfl rfl 0 (by decide) (hts _ q302) (fun _ h9 => h9) rfl dX0_bound_45 ?_
        refine va_getN (ci := 1) (v := .ref (ba 1)) (C := RX1) (T := TX1) (N := 13) (host := "SleeveSlips") hx hb hts in_X1 hown hC.1 hC.2.1 (0) rfl rfl 0 (by decide) (va_Nw.use rfl (hN.1 2)) (fun _ h9 => h9) rfl dX0_bound_48 ?_
        refine lv_iload_n hx hb dX0_bound_51 rfl (lv_at hl 1 rfl) ?_
        obtain ⟨hi_52, hf⟩ := ck_some hf
        refine va_iald hx hb hC.1 hC.2.1 (1) 0 rfl rfl hi_52 dX0_bound_52 ?_
        refine lv_bipush (v := 99) hx hb dX0_bound_53 (by decide) ?_
        obtain ⟨r_55, rest_55, bestSet_55, hcall, hf⟩ := bnd3_some hf
        refine hc_i (va_runV (C := RX0) (As := [.int x1, .int (room x1.toNatClampNeg), .int 99]) (rest := []) ⟨hx, hb, hml, hown, hts⟩ (c_x_bestFor hcall) (cwV 3 hts (lw_V q654 q656 qs15 q48 q657) rfl rfl rfl (by decide +kernel) ⟨(Nat.le_trans (Nat.le_of_ble_eq_true rfl) hRf), (Nat.le_trans (Nat.le_of_ble_eq_true rfl) hRl)⟩) (pre_V (q0 := 26) (ci := 0) NX.calling (fun U _ hW => NX.warm hW hN) hC rfl rfl) rfl rfl hl.1 rfl (lv_room (Nat.le_of_ble_eq_true rfl)) dX0_bound_55 ⟨hRc, hRs⟩) hA hC (fun H locs hC => ?_)
        have hC : HC D gcl (gty d) A (xw d ad ba ta imgs room work price whom bday units worth due under people askings hangs items many slip became left what which whose place deeds day won lost kept text typed rest_55 bestSet_55 tenths sortWorth sortDays row trace) s H locs := hC
        obtain ⟨e_1, e_2, e_3⟩ := so_3 (Option.some.inj hf)
        subst e_1
        subst e_2
        subst e_3
        exact K H locs ls _ rfl hC dX0_bound_58
      · have hf := if_t hf c_20
        refine lv_aload_n hx hb dX0_bound_23 rfl (lv_at hl 0 rfl) ?_
        refine lv_iload_n hx hb dX0_bound_24 rfl (lv_at hl 1 rfl) ?_
        refine lv_bipush (v := 8) hx hb dX0_bound_25 (by decide) ?_
        refine lv_aload_n hx hb dX0_bound_27 rfl (lv_at hl 0 rfl) ?_
        refine va_get (ci := 0) (v := .ref (ba 0)) (C := RX0) (T := TX0) (N := 13) hx hb hts in_X0 hown hC.1 hC.2.1 (26) rfl rfl 0 (by decide) (hts _ q302) (fun _ h9 => h9) rfl dX0_bound_28 ?_
        refine va_getN (ci := 1) (v := .ref (ba 2)) (C := RX1) (T := TX1) (N := 13) (host := "SleeveSlips") hx hb hts in_X1 hown hC.1 hC.2.1 (0) rfl rfl 1 (by decide) (va_Nw.use rfl (hN.1 5)) (fun _ h9 => h9) rfl dX0_bound_31 ?_
        refine lv_iload_n hx hb dX0_bound_34 rfl (lv_at hl 1 rfl) ?_
        obtain ⟨hi_35, hf⟩ := ck_some hf
        refine va_iald hx hb hC.1 hC.2.1 (2) 0 rfl rfl hi_35 dX0_bound_35 ?_
        obtain ⟨r_36, rest_36, bestSet_36, hcall, hf⟩ := bnd3_some hf
        refine hc_i (va_runV (C := RX0) (As := [.int x1, .int 8, .int (work x1.toNatClampNeg)]) (rest := []) ⟨hx, hb, hml, hown, hts⟩ (c_x_bestFor hcall) (cwV 3 hts (lw_V q654 q656 qs15 q48 q657) rfl rfl rfl (by decide +kernel) ⟨(Nat.le_trans (Nat.le_of_ble_eq_true rfl) hRf), (Nat.le_trans (Nat.le_of_ble_eq_true rfl) hRl)⟩) (pre_V (q0 := 26) (ci := 0) NX.calling (fun U _ hW => NX.warm hW hN) hC rfl rfl) rfl rfl hl.1 rfl (lv_room (Nat.le_of_ble_eq_true rfl)) dX0_bound_36 ⟨hRc, hRs⟩) hA hC (fun H locs hC => ?_)
        have hC : HC D gcl (gty d) A (xw d ad ba ta imgs room work price whom bday units worth due under people askings hangs items many slip became left what which whose place deeds day won lost kept text typed rest_36 bestSet_36 tenths sortWorth sortDays row trace) s H locs := hC
        refine lv_goto (tgt := 58) hx hb dX0_bound_39 (by decide) ?_
        obtain ⟨e_1, e_2, e_3⟩ := so_3 (Option.some.inj hf)
        subst e_1
        subst e_2
        subst e_3
        exact K H locs ls _ rfl hC dX0_bound_58
    · have hf := if_t hf c_14
      refine lv_iconst (v := (-1)) hx hb dX0_bound_17 (by decide) ?_
      obtain ⟨e_1, e_2, e_3⟩ := so_3 (Option.some.inj hf)
      subst e_1
      subst e_2
      subst e_3
      exact K H locs ls _ rfl hC dX0_bound_18
set_option maxRecDepth 100000 in
theorem c_x_bound {l : Launch} {sz : Nat} {D : va_G} {d : Nat → ClassId} {ad : Nat → Nat} {ba : Nat → Nat} {ta : Nat → Nat} {imgs : va_W} {room : Nat → Int32} {work : Nat → Int32} {price : Nat → Int32} {whom : Nat → Int32} {bday : Nat → Int32} {units : Nat → Int32} {worth : Nat → Int32} {due : Nat → Int32} {under : Nat → Int32} {people : Int32} {askings : Int32} {hangs : Int32} {items : Int32} {many : Nat → Int32} {slip : Nat → Nat → Int32} {became : Nat → Int32} {left : Nat → Int32} {what : Nat → Int32} {which : Nat → Int32} {whose : Nat → Int32} {place : Nat → Int32} {deeds : Int32} {day : Int32} {won : Int32} {lost : Int32} {kept : Int32} {text : Nat → Int32} {typed : Int32} {rest : Nat → Int32} {bestSet : Int32} {tenths : Nat → Int32} {sortWorth : Nat → Int32} {sortDays : Nat → Int32} {row : Nat → Int32} {trace : Int64} {x1 : Int32} {x2 : Int32} {r : Int32} {rest_r : Nat → Int32} {bestSet_r : Int32} (hf : x_bound room work whom bday units worth due people askings day rest bestSet x1 x2 = some (r, rest_r, bestSet_r)) : MI l yX0_bound (ws_ yX0_bound cX0_bound 3 (some .int)) { frames := 3, cells := 0, slots := 0, locals := 79 } D gcl (gty d) NX (xw d ad ba ta imgs room work price whom bday units worth due under people askings hangs items many slip became left what which whose place deeds day won lost kept text typed rest bestSet tenths sortWorth sortDays row trace) (xw d ad ba ta imgs room work price whom bday units worth due under people askings hangs items many slip became left what which whose place deeds day won lost kept text typed rest_r bestSet_r tenths sortWorth sortDays row trace) sz [.ref (ad 0), .int x1, .int x2] r :=
  MI.of (by decide) [.ref (ad 0), .int x1, .int x2] [(0, .ref (ad 0)), (1, .int x1), (2, .int x2)] (Nat.le_of_ble_eq_true rfl) rfl (fun p e s m below meth c ls Q hx hb hml hown hts hN hA hC hl K => w_x_bound hx hb hml hown hts hN hA (Nat.le_refl _) (Nat.le_refl _) (Nat.le_refl _) (Nat.le_refl _) hf hC hl K)

def x_inOrder_L18 (under : Nat → Int32) (askings : Int32) : Nat → Int32 → Int32 → Int32 → Int32 → (Nat → Int32) → Option (Int32 × Int32 × Int32 × (Nat → Int32))
  | 0, _, _, _, _, _ => none
  | n_18 + 1, x2_18, x3_18, x4_18, x5_18, row_18 =>
  if askings ≤ x5_18 then (some (x2_18, x3_18, x4_18, row_18)) else
  if x4_18 = 0 then (if ((x2_18 >>> (x5_18 &&& 31)) &&& 1) = 0 then (ck x5_18 8 <| if ((under x5_18.toNatClampNeg) &&& (x2_18 ^^^ (-1))) = 0 then (ck x3_18 8 <| x_inOrder_L18 under askings n_18 (x2_18 ||| (1 <<< (x5_18 &&& 31))) (x3_18 + 1) 1 (x5_18 + 1) (upd row_18 x3_18.toNatClampNeg x5_18)) else
  x_inOrder_L18 under askings n_18 x2_18 x3_18 x4_18 (x5_18 + 1) row_18) else
  x_inOrder_L18 under askings n_18 x2_18 x3_18 x4_18 (x5_18 + 1) row_18) else
  some (x2_18, x3_18, x4_18, row_18)
theorem x_inOrder_L18_s (under : Nat → Int32) (askings : Int32) (n_18 : Nat) (x2_18 : Int32) (x3_18 : Int32) (x4_18 : Int32) (x5_18 : Int32) (row_18 : Nat → Int32) : x_inOrder_L18 under askings (n_18 + 1) x2_18 x3_18 x4_18 x5_18 row_18 = (
  if askings ≤ x5_18 then (some (x2_18, x3_18, x4_18, row_18)) else
  if x4_18 = 0 then (if ((x2_18 >>> (x5_18 &&& 31)) &&& 1) = 0 then (ck x5_18 8 <| if ((under x5_18.toNatClampNeg) &&& (x2_18 ^^^ (-1))) = 0 then (ck x3_18 8 <| x_inOrder_L18 under askings n_18 (x2_18 ||| (1 <<< (x5_18 &&& 31))) (x3_18 + 1) 1 (x5_18 + 1) (upd row_18 x3_18.toNatClampNeg x5_18)) else
  x_inOrder_L18 under askings n_18 x2_18 x3_18 x4_18 (x5_18 + 1) row_18) else
  x_inOrder_L18 under askings n_18 x2_18 x3_18 x4_18 (x5_18 + 1) row_18) else
  some (x2_18, x3_18, x4_18, row_18)) := rfl
def x_inOrder_L7 (under : Nat → Int32) (askings : Int32) : Nat → Int32 → Int32 → Int32 → (Nat → Int32) → Option (Int32 × (Nat → Int32))
  | 0, _, _, _, _ => none
  | n_7 + 1, x2_7, x3_7, x4_7, row_7 =>
  if x4_7 = 0 then (some (x3_7, row_7)) else
  bnd4 (x_inOrder_L18 under askings g_fuel x2_7 x3_7 0 0 row_7) (fun x2_88 x3_88 x4_88 row_88 =>
  x_inOrder_L7 under askings n_7 x2_88 x3_88 x4_88 row_88)
theorem x_inOrder_L7_s (under : Nat → Int32) (askings : Int32) (n_7 : Nat) (x2_7 : Int32) (x3_7 : Int32) (x4_7 : Int32) (row_7 : Nat → Int32) : x_inOrder_L7 under askings (n_7 + 1) x2_7 x3_7 x4_7 row_7 = (
  if x4_7 = 0 then (some (x3_7, row_7)) else
  bnd4 (x_inOrder_L18 under askings g_fuel x2_7 x3_7 0 0 row_7) (fun x2_88 x3_88 x4_88 row_88 =>
  x_inOrder_L7 under askings n_7 x2_88 x3_88 x4_88 row_88)) := rfl
def x_inOrder (under : Nat → Int32) (askings : Int32) (row : Nat → Int32) (x1 : Int32) : Option (Int32 × (Nat → Int32)) :=
  bnd2 (x_inOrder_L7 under askings g_fuel x1 0 1 row) (fun x3_91 row_91 =>
  some (x3_91, row_91))
set_option maxHeartbeats 4000000 in
set_option maxRecDepth 100000 in
theorem w_x_inOrder {p : Program} {l : Launch} {e : Env} {R : Room} {s : State} {m : MethodId} {args : Array Value} {below : List Frame} {meth : Method} {c : Code} {H : Heap} {locs : List Loc} {cells slots : Nat} {Q : State → Prop} {A : Nat → Prop} {ls : Array Slot} {D : va_G} {d : Nat → ClassId} {ad : Nat → Nat} {ba : Nat → Nat} {ta : Nat → Nat} {imgs : va_W} {room : Nat → Int32} {work : Nat → Int32} {price : Nat → Int32} {whom : Nat → Int32} {bday : Nat → Int32} {units : Nat → Int32} {worth : Nat → Int32} {due : Nat → Int32} {under : Nat → Int32} {people : Int32} {askings : Int32} {hangs : Int32} {items : Int32} {many : Nat → Int32} {slip : Nat → Nat → Int32} {became : Nat → Int32} {left : Nat → Int32} {what : Nat → Int32} {which : Nat → Int32} {whose : Nat → Int32} {place : Nat → Int32} {deeds : Int32} {day : Int32} {won : Int32} {lost : Int32} {kept : Int32} {text : Nat → Int32} {typed : Int32} {rest : Nat → Int32} {bestSet : Int32} {tenths : Nat → Int32} {sortWorth : Nat → Int32} {sortDays : Nat → Int32} {row : Nat → Int32} {trace : Int64} {x1 : Int32} {r : Int32} {row_r : Nat → Int32} (hx : p.tables.exec = Jvm.exec) (hb : c.code = cX0_inOrder) (hml : c.maxLocals = 6) (hown : s.vm.findClass RX0 = some m.cls) (hts : ∀ w ∈ lw_all, w.before args s = true) (hN : NX s) (hA : ∀ q, s.heap.size ≤ q → A q) (hRf : 0 ≤ R.frames) (hRl : 0 ≤ R.locals) (hRc : cells ≤ R.cells) (hRs : slots ≤ R.slots) (hf : x_inOrder under askings row x1 = some (r, row_r)) (hC : HC D gcl (gty d) A (xw d ad ba ta imgs room work price whom bday units worth due under people askings hangs items many slip became left what which whose place deeds day won lost kept text typed rest bestSet tenths sortWorth sortDays row trace) s H locs) (hl : lv_has ls 6 [(0, .ref (ad 0)), (1, .int x1)]) (K : ∀ (H : Heap) (locs : List Loc) (ls : Array Slot) (pc : Nat), narrow .int (.int r) = .int r → HC D gcl (gty d) A (xw d ad ba ta imgs room work price whom bday units worth due under people askings hangs items many slip became left what which whose place deeds day won lost kept text typed rest bestSet tenths sortWorth sortDays row_r trace) s H locs → decode cX0_inOrder pc = .ok (.ireturn, 1) → W p l e R s m args below meth c H locs cells slots Q (F0 m pc ls [.int r])) : W p l e R s m args below meth c H locs cells slots Q (F0 m 0 ls []) := by
  unfold x_inOrder at hf
  refine lv_iload_n hx hb dX0_inOrder_0 rfl (lv_at hl 1 rfl) ?_
  refine lv_istore_n (lv' := [(2, .int x1), (0, .ref (ad 0)), (1, .int x1)]) hx hb dX0_inOrder_1 rfl hl (by decide) rfl (fun ls hl => ?_)
  refine lv_iconst (v := 0) hx hb dX0_inOrder_2 (by decide) ?_
  refine lv_istore_n (lv' := [(3, .int 0), (2, .int x1), (0, .ref (ad 0)), (1, .int x1)]) hx hb dX0_inOrder_3 rfl hl (by decide) rfl (fun ls hl => ?_)
  refine lv_iconst (v := 1) hx hb dX0_inOrder_4 (by decide) ?_
  refine lv_istore (lv' := [(4, .int 1), (3, .int 0), (2, .int x1), (0, .ref (ad 0)), (1, .int x1)]) hx hb dX0_inOrder_5 hl (by decide) rfl (fun ls hl => ?_)
  obtain ⟨x3_91, row_91, hL, hf⟩ := bnd2_some hf
  have X_7 : ∀ (H : Heap) (locs : List Loc) (ls : Array Slot), HC D gcl (gty d) A (xw d ad ba ta imgs room work price whom bday units worth due under people askings hangs items many slip became left what which whose place deeds day won lost kept text typed rest bestSet tenths sortWorth sortDays row_91 trace) s H locs → lv_has ls 6 [(3, .int x3_91)] → W p l e R s m args below meth c H locs cells slots Q (F0 m 91 ls []) := by
    intro H locs ls hC hl
    refine lv_iload_n hx hb dX0_inOrder_91 rfl (lv_at hl 0 rfl) ?_
    obtain ⟨e_1, e_2⟩ := so_2 (Option.some.inj hf)
    subst e_1
    subst e_2
    exact K H locs ls _ rfl hC dX0_inOrder_92
  have L_7 : ∀ (n_7 : Nat) (x2_7 : Int32) (x3_7 : Int32) (x4_7 : Int32) (row_7 : Nat → Int32), x_inOrder_L7 under askings n_7 x2_7 x3_7 x4_7 row_7 = some (x3_91, row_91) → ∀ (H : Heap) (locs : List Loc) (ls : Array Slot), HC D gcl (gty d) A (xw d ad ba ta imgs room work price whom bday units worth due under people askings hangs items many slip became left what which whose place deeds day won lost kept text typed rest bestSet tenths sortWorth sortDays row_7 trace) s H locs → lv_has ls 6 [(0, .ref (ad 0)), (2, .int x2_7), (3, .int x3_7), (4, .int x4_7)] → W p l e R s m args below meth c H locs cells slots Q (F0 m 7 ls []) := by
    intro n_7
    induction n_7 with
    | zero => intro _ _ _ _ hf; cases hf
    | succ n_7 ih =>
      intro x2_7 x3_7 x4_7 row_7 hf H locs ls hC hl
      rw [x_inOrder_L7_s] at hf
      refine lv_iload hx hb dX0_inOrder_7 (lv_at hl 3 rfl) ?_
      refine lv_if_eq (tgt := 91) hx hb dX0_inOrder_9 (by decide) (fun c_9 => ?_) (fun c_9 => ?_)
      · have hf := if_t hf c_9
        obtain ⟨e_1, e_2⟩ := so_2 (Option.some.inj hf)
        subst e_1
        subst e_2
        exact X_7 H locs ls hC (lv_sub hl [2] rfl)
      · have hf := if_f hf c_9
        refine lv_iconst (v := 0) hx hb dX0_inOrder_12 (by decide) ?_
        refine lv_istore (lv' := [(4, .int 0), (0, .ref (ad 0)), (2, .int x2_7), (3, .int x3_7)]) hx hb dX0_inOrder_13 hl (by decide) rfl (fun ls hl => ?_)
        refine lv_iconst (v := 0) hx hb dX0_inOrder_15 (by decide) ?_
        refine lv_istore (lv' := [(5, .int 0), (4, .int 0), (0, .ref (ad 0)), (2, .int x2_7), (3, .int x3_7)]) hx hb dX0_inOrder_16 hl (by decide) rfl (fun ls hl => ?_)
        obtain ⟨x2_88, x3_88, x4_88, row_88, hL, hf⟩ := bnd4_some hf
        have X_18 : ∀ (H : Heap) (locs : List Loc) (ls : Array Slot), HC D gcl (gty d) A (xw d ad ba ta imgs room work price whom bday units worth due under people askings hangs items many slip became left what which whose place deeds day won lost kept text typed rest bestSet tenths sortWorth sortDays row_88 trace) s H locs → lv_has ls 6 [(0, .ref (ad 0)), (2, .int x2_88), (3, .int x3_88), (4, .int x4_88)] → W p l e R s m args below meth c H locs cells slots Q (F0 m 88 ls []) := by
          intro H locs ls hC hl
          refine lv_goto (tgt := 7) hx hb dX0_inOrder_88 (by decide) ?_
          exact ih _ _ _ _ hf H locs ls hC (lv_sub hl [0, 1, 2, 3] rfl)
        have L_18 : ∀ (n_18 : Nat) (x2_18 : Int32) (x3_18 : Int32) (x4_18 : Int32) (x5_18 : Int32) (row_18 : Nat → Int32), x_inOrder_L18 under askings n_18 x2_18 x3_18 x4_18 x5_18 row_18 = some (x2_88, x3_88, x4_88, row_88) → ∀ (H : Heap) (locs : List Loc) (ls : Array Slot), HC D gcl (gty d) A (xw d ad ba ta imgs room work price whom bday units worth due under people askings hangs items many slip became left what which whose place deeds day won lost kept text typed rest bestSet tenths sortWorth sortDays row_18 trace) s H locs → lv_has ls 6 [(0, .ref (ad 0)), (2, .int x2_18), (3, .int x3_18), (4, .int x4_18), (5, .int x5_18)] → W p l e R s m args below meth c H locs cells slots Q (F0 m 18 ls []) := by
          intro n_18
          induction n_18 with
          | zero => intro _ _ _ _ _ hf; cases hf
          | succ n_18 ih =>
            intro x2_18 x3_18 x4_18 x5_18 row_18 hf H locs ls hC hl
            rw [x_inOrder_L18_s] at hf
            refine lv_iload hx hb dX0_inOrder_18 (lv_at hl 4 rfl) ?_
            refine lv_aload_n hx hb dX0_inOrder_20 rfl (lv_at hl 0 rfl) ?_
            refine va_get (ci := 0) (v := .ref (ba 0)) (C := RX0) (T := TX0) (N := 13) hx hb hts in_X0 hown hC.1 hC.2.1 (26) rfl rfl 0 (by decide) (hts _ q302) (fun _ h9 => h9) rfl dX0_inOrder_21 ?_
            refine va_getN (ci := 1) (v := .int askings) (C := RX1) (T := TX1) (N := 13) (host := "SleeveSlips") hx hb hts in_X1 hown hC.1 hC.2.1 (0) rfl rfl 10 (by decide) (va_Nw.use rfl (hN.1 22)) (fun _ h9 => h9) rfl dX0_inOrder_24 ?_
            refine lv_icmp_ge (tgt := 88) hx hb dX0_inOrder_27 (by decide) (fun c_27 => ?_) (fun c_27 => ?_)
            · have hf := if_t hf c_27
              obtain ⟨e_1, e_2, e_3, e_4⟩ := so_4 (Option.some.inj hf)
              subst e_1
              subst e_2
              subst e_3
              subst e_4
              exact X_18 H locs ls hC (lv_sub hl [0, 1, 2, 3] rfl)
            · have hf := if_f hf c_27
              refine lv_iload hx hb dX0_inOrder_30 (lv_at hl 3 rfl) ?_
              refine lv_if_ne (tgt := 88) hx hb dX0_inOrder_32 (by decide) (fun c_32 => ?_) (fun c_32 => ?_)
              · have hf := if_f hf c_32
                obtain ⟨e_1, e_2, e_3, e_4⟩ := so_4 (Option.some.inj hf)
                subst e_1
                subst e_2
                subst e_3
                subst e_4
                exact X_18 H locs ls hC (lv_sub hl [0, 1, 2, 3] rfl)
              · have hf := if_t hf c_32
                refine lv_iload_n hx hb dX0_inOrder_35 rfl (lv_at hl 1 rfl) ?_
                refine lv_iload hx hb dX0_inOrder_36 (lv_at hl 4 rfl) ?_
                refine lv_ishr hx hb dX0_inOrder_38 ?_
                refine lv_iconst (v := 1) hx hb dX0_inOrder_39 (by decide) ?_
                refine lv_iand hx hb dX0_inOrder_40 ?_
                refine lv_if_ne (tgt := 82) hx hb dX0_inOrder_41 (by decide) (fun c_41 => ?_) (fun c_41 => ?_)
                · have hf := if_f hf c_41
                  refine lv_iinc (v := x5_18 + 1) (lv' := [(5, .int (x5_18 + 1)), (0, .ref (ad 0)), (2, .int x2_18), (3, .int x3_18), (4, .int x4_18)]) hx hb dX0_inOrder_82 hl (k := 4) rfl rfl (by decide) rfl (fun ls hl => ?_)
                  refine lv_goto (tgt := 18) hx hb dX0_inOrder_85 (by decide) ?_
                  exact ih _ _ _ _ _ hf H locs ls hC (lv_sub hl [1, 2, 3, 4, 0] rfl)
                · have hf := if_t hf c_41
                  refine lv_aload_n hx hb dX0_inOrder_44 rfl (lv_at hl 0 rfl) ?_
                  refine va_get (ci := 0) (v := .ref (ba 0)) (C := RX0) (T := TX0) (N := 13) hx hb hts in_X0 hown hC.1 hC.2.1 (26) rfl rfl 0 (by decide) (hts _ q302) (fun _ h9 => h9) rfl dX0_inOrder_45 ?_
                  refine va_getN (ci := 1) (v := .ref (ba 9)) (C := RX1) (T := TX1) (N := 13) (host := "SleeveSlips") hx hb hts in_X1 hown hC.1 hC.2.1 (0) rfl rfl 8 (by decide) (va_Nw.use rfl (hN.1 19)) (fun _ h9 => h9) rfl dX0_inOrder_48 ?_
                  refine lv_iload hx hb dX0_inOrder_51 (lv_at hl 4 rfl) ?_
                  obtain ⟨hi_53, hf⟩ := ck_some hf
                  refine va_iald hx hb hC.1 hC.2.1 (9) 0 rfl rfl hi_53 dX0_inOrder_53 ?_
                  refine lv_iload_n hx hb dX0_inOrder_54 rfl (lv_at hl 1 rfl) ?_
                  refine lv_iconst (v := (-1)) hx hb dX0_inOrder_55 (by decide) ?_
                  refine lv_ixor hx hb dX0_inOrder_56 ?_
                  refine lv_iand hx hb dX0_inOrder_57 ?_
                  refine lv_if_ne (tgt := 82) hx hb dX0_inOrder_58 (by decide) (fun c_58 => ?_) (fun c_58 => ?_)
                  · have hf := if_f hf c_58
                    refine lv_iinc (v := x5_18 + 1) (lv' := [(5, .int (x5_18 + 1)), (0, .ref (ad 0)), (2, .int x2_18), (3, .int x3_18), (4, .int x4_18)]) hx hb dX0_inOrder_82 hl (k := 4) rfl rfl (by decide) rfl (fun ls hl => ?_)
                    refine lv_goto (tgt := 18) hx hb dX0_inOrder_85 (by decide) ?_
                    exact ih _ _ _ _ _ hf H locs ls hC (lv_sub hl [1, 2, 3, 4, 0] rfl)
                  · have hf := if_t hf c_58
                    refine lv_iload_n hx hb dX0_inOrder_61 rfl (lv_at hl 1 rfl) ?_
                    refine lv_iconst (v := 1) hx hb dX0_inOrder_62 (by decide) ?_
                    refine lv_iload hx hb dX0_inOrder_63 (lv_at hl 4 rfl) ?_
                    refine lv_ishl hx hb dX0_inOrder_65 ?_
                    refine lv_ior hx hb dX0_inOrder_66 ?_
                    refine lv_istore_n (lv' := [(2, .int (x2_18 ||| (1 <<< (x5_18 &&& 31)))), (0, .ref (ad 0)), (3, .int x3_18), (4, .int x4_18), (5, .int x5_18)]) hx hb dX0_inOrder_67 rfl hl (by decide) rfl (fun ls hl => ?_)
                    refine lv_aload_n hx hb dX0_inOrder_68 rfl (lv_at hl 1 rfl) ?_
                    refine va_get (ci := 0) (v := .ref (ad 6)) (C := RX0) (T := TX0) (N := 13) hx hb hts in_X0 hown hC.1 hC.2.1 (26) rfl rfl 10 (by decide) (hts _ q318) (fun _ h9 => h9) rfl dX0_inOrder_69 ?_
                    refine lv_iload_n hx hb dX0_inOrder_72 rfl (lv_at hl 2 rfl) ?_
                    refine lv_iload hx hb dX0_inOrder_73 (lv_at hl 4 rfl) ?_
                    obtain ⟨hi_75, hf⟩ := ck_some hf
                    refine va_iast hx hb hC.1 hC.2.1 hC.2.2.1 hC.2.2.2 (32) 0 rfl rfl hi_75 dX0_inOrder_75 (fun H locs hP hD hS => ?_)
                    have hC : HC D gcl (gty d) A (xw d ad ba ta imgs room work price whom bday units worth due under people askings hangs items many slip became left what which whose place deeds day won lost kept text typed rest bestSet tenths sortWorth sortDays (upd row_18 x3_18.toNatClampNeg x5_18) trace) s H locs := ⟨hC.1, hP, hD, hS⟩
                    refine lv_iinc (v := x3_18 + 1) (lv' := [(3, .int (x3_18 + 1)), (2, .int (x2_18 ||| (1 <<< (x5_18 &&& 31)))), (0, .ref (ad 0)), (4, .int x4_18), (5, .int x5_18)]) hx hb dX0_inOrder_76 hl (k := 2) rfl rfl (by decide) rfl (fun ls hl => ?_)
                    refine lv_iconst (v := 1) hx hb dX0_inOrder_79 (by decide) ?_
                    refine lv_istore (lv' := [(4, .int 1), (3, .int (x3_18 + 1)), (2, .int (x2_18 ||| (1 <<< (x5_18 &&& 31)))), (0, .ref (ad 0)), (5, .int x5_18)]) hx hb dX0_inOrder_80 hl (by decide) rfl (fun ls hl => ?_)
                    refine lv_iinc (v := x5_18 + 1) (lv' := [(5, .int (x5_18 + 1)), (4, .int 1), (3, .int (x3_18 + 1)), (2, .int (x2_18 ||| (1 <<< (x5_18 &&& 31)))), (0, .ref (ad 0))]) hx hb dX0_inOrder_82 hl (k := 4) rfl rfl (by decide) rfl (fun ls hl => ?_)
                    refine lv_goto (tgt := 18) hx hb dX0_inOrder_85 (by decide) ?_
                    exact ih _ _ _ _ _ hf H locs ls hC (lv_sub hl [4, 3, 2, 1, 0] rfl)
        exact L_18 _ _ _ _ _ _ hL H locs ls hC (lv_sub hl [2, 3, 4, 1, 0] rfl)
  exact L_7 _ _ _ _ _ hL H locs ls hC (lv_sub hl [3, 2, 1, 0] rfl)
set_option maxRecDepth 100000 in
theorem c_x_inOrder {l : Launch} {sz : Nat} {D : va_G} {d : Nat → ClassId} {ad : Nat → Nat} {ba : Nat → Nat} {ta : Nat → Nat} {imgs : va_W} {room : Nat → Int32} {work : Nat → Int32} {price : Nat → Int32} {whom : Nat → Int32} {bday : Nat → Int32} {units : Nat → Int32} {worth : Nat → Int32} {due : Nat → Int32} {under : Nat → Int32} {people : Int32} {askings : Int32} {hangs : Int32} {items : Int32} {many : Nat → Int32} {slip : Nat → Nat → Int32} {became : Nat → Int32} {left : Nat → Int32} {what : Nat → Int32} {which : Nat → Int32} {whose : Nat → Int32} {place : Nat → Int32} {deeds : Int32} {day : Int32} {won : Int32} {lost : Int32} {kept : Int32} {text : Nat → Int32} {typed : Int32} {rest : Nat → Int32} {bestSet : Int32} {tenths : Nat → Int32} {sortWorth : Nat → Int32} {sortDays : Nat → Int32} {row : Nat → Int32} {trace : Int64} {x1 : Int32} {r : Int32} {row_r : Nat → Int32} (hf : x_inOrder under askings row x1 = some (r, row_r)) : MI l yX0_inOrder (ws_ yX0_inOrder cX0_inOrder 6 (some .int)) { frames := 0, cells := 0, slots := 0, locals := 0 } D gcl (gty d) NX (xw d ad ba ta imgs room work price whom bday units worth due under people askings hangs items many slip became left what which whose place deeds day won lost kept text typed rest bestSet tenths sortWorth sortDays row trace) (xw d ad ba ta imgs room work price whom bday units worth due under people askings hangs items many slip became left what which whose place deeds day won lost kept text typed rest bestSet tenths sortWorth sortDays row_r trace) sz [.ref (ad 0), .int x1] r :=
  MI.of (by decide) [.ref (ad 0), .int x1] [(0, .ref (ad 0)), (1, .int x1)] (Nat.le_of_ble_eq_true rfl) rfl (fun p e s m below meth c ls Q hx hb hml hown hts hN hA hC hl K => w_x_inOrder hx hb hml hown hts hN hA (Nat.le_refl _) (Nat.le_refl _) (Nat.le_refl _) (Nat.le_refl _) hf hC hl K)

def x_ring (under : Nat → Int32) (askings : Int32) (row : Nat → Int32) : Option (Int32 × (Nat → Int32)) :=
  bnd2 (x_inOrder under askings row 0) fun r_2 row_2 =>
  if r_2 = askings then (some (0, row_2)) else
  some (1, row_2)
set_option maxHeartbeats 4000000 in
set_option maxRecDepth 100000 in
theorem w_x_ring {p : Program} {l : Launch} {e : Env} {R : Room} {s : State} {m : MethodId} {args : Array Value} {below : List Frame} {meth : Method} {c : Code} {H : Heap} {locs : List Loc} {cells slots : Nat} {Q : State → Prop} {A : Nat → Prop} {ls : Array Slot} {D : va_G} {d : Nat → ClassId} {ad : Nat → Nat} {ba : Nat → Nat} {ta : Nat → Nat} {imgs : va_W} {room : Nat → Int32} {work : Nat → Int32} {price : Nat → Int32} {whom : Nat → Int32} {bday : Nat → Int32} {units : Nat → Int32} {worth : Nat → Int32} {due : Nat → Int32} {under : Nat → Int32} {people : Int32} {askings : Int32} {hangs : Int32} {items : Int32} {many : Nat → Int32} {slip : Nat → Nat → Int32} {became : Nat → Int32} {left : Nat → Int32} {what : Nat → Int32} {which : Nat → Int32} {whose : Nat → Int32} {place : Nat → Int32} {deeds : Int32} {day : Int32} {won : Int32} {lost : Int32} {kept : Int32} {text : Nat → Int32} {typed : Int32} {rest : Nat → Int32} {bestSet : Int32} {tenths : Nat → Int32} {sortWorth : Nat → Int32} {sortDays : Nat → Int32} {row : Nat → Int32} {trace : Int64} {r : Int32} {row_r : Nat → Int32} (hx : p.tables.exec = Jvm.exec) (hb : c.code = cX0_ring) (hml : c.maxLocals = 1) (hown : s.vm.findClass RX0 = some m.cls) (hts : ∀ w ∈ lw_all, w.before args s = true) (hN : NX s) (hA : ∀ q, s.heap.size ≤ q → A q) (hRf : 1 ≤ R.frames) (hRl : 25 ≤ R.locals) (hRc : cells ≤ R.cells) (hRs : slots ≤ R.slots) (hf : x_ring under askings row = some (r, row_r)) (hC : HC D gcl (gty d) A (xw d ad ba ta imgs room work price whom bday units worth due under people askings hangs items many slip became left what which whose place deeds day won lost kept text typed rest bestSet tenths sortWorth sortDays row trace) s H locs) (hl : lv_has ls 1 [(0, .ref (ad 0))]) (K : ∀ (H : Heap) (locs : List Loc) (ls : Array Slot) (pc : Nat), narrow .int (.int r) = .int r → HC D gcl (gty d) A (xw d ad ba ta imgs room work price whom bday units worth due under people askings hangs items many slip became left what which whose place deeds day won lost kept text typed rest bestSet tenths sortWorth sortDays row_r trace) s H locs → decode cX0_ring pc = .ok (.ireturn, 1) → W p l e R s m args below meth c H locs cells slots Q (F0 m pc ls [.int r])) : W p l e R s m args below meth c H locs cells slots Q (F0 m 0 ls []) := by
  unfold x_ring at hf
  refine lv_aload_n hx hb dX0_ring_0 rfl (lv_at hl 0 rfl) ?_
  refine lv_iconst (v := 0) hx hb dX0_ring_1 (by decide) ?_
  obtain ⟨r_2, row_2, hcall, hf⟩ := bnd2_some hf
  refine hc_i (va_runV (C := RX0) (As := [.int 0]) (rest := []) ⟨hx, hb, hml, hown, hts⟩ (c_x_inOrder hcall) (cwV 1 hts (lw_V q715 q717 qs21 q48 q718) rfl rfl rfl (by decide +kernel) ⟨(Nat.le_trans (Nat.le_of_ble_eq_true rfl) hRf), (Nat.le_trans (Nat.le_of_ble_eq_true rfl) hRl)⟩) (pre_V (q0 := 26) (ci := 0) NX.calling (fun U _ hW => NX.warm hW hN) hC rfl rfl) rfl rfl hl.1 rfl (lv_room (Nat.le_of_ble_eq_true rfl)) dX0_ring_2 ⟨hRc, hRs⟩) hA hC (fun H locs hC => ?_)
  have hC : HC D gcl (gty d) A (xw d ad ba ta imgs room work price whom bday units worth due under people askings hangs items many slip became left what which whose place deeds day won lost kept text typed rest bestSet tenths sortWorth sortDays row_2 trace) s H locs := hC
  refine lv_aload_n hx hb dX0_ring_5 rfl (lv_at hl 0 rfl) ?_
  refine va_get (ci := 0) (v := .ref (ba 0)) (C := RX0) (T := TX0) (N := 13) hx hb hts in_X0 hown hC.1 hC.2.1 (26) rfl rfl 0 (by decide) (hts _ q302) (fun _ h9 => h9) rfl dX0_ring_6 ?_
  refine va_getN (ci := 1) (v := .int askings) (C := RX1) (T := TX1) (N := 13) (host := "SleeveSlips") hx hb hts in_X1 hown hC.1 hC.2.1 (0) rfl rfl 10 (by decide) (va_Nw.use rfl (hN.1 22)) (fun _ h9 => h9) rfl dX0_ring_9 ?_
  refine lv_icmp_ne (tgt := 19) hx hb dX0_ring_12 (by decide) (fun c_12 => ?_) (fun c_12 => ?_)
  · have hf := if_f hf c_12
    refine lv_iconst (v := 1) hx hb dX0_ring_19 (by decide) ?_
    obtain ⟨e_1, e_2⟩ := so_2 (Option.some.inj hf)
    subst e_1
    subst e_2
    exact K H locs ls _ rfl hC dX0_ring_20
  · have hf := if_t hf c_12
    refine lv_iconst (v := 0) hx hb dX0_ring_15 (by decide) ?_
    refine lv_goto (tgt := 20) hx hb dX0_ring_16 (by decide) ?_
    obtain ⟨e_1, e_2⟩ := so_2 (Option.some.inj hf)
    subst e_1
    subst e_2
    exact K H locs ls _ rfl hC dX0_ring_20
set_option maxRecDepth 100000 in
theorem c_x_ring {l : Launch} {sz : Nat} {D : va_G} {d : Nat → ClassId} {ad : Nat → Nat} {ba : Nat → Nat} {ta : Nat → Nat} {imgs : va_W} {room : Nat → Int32} {work : Nat → Int32} {price : Nat → Int32} {whom : Nat → Int32} {bday : Nat → Int32} {units : Nat → Int32} {worth : Nat → Int32} {due : Nat → Int32} {under : Nat → Int32} {people : Int32} {askings : Int32} {hangs : Int32} {items : Int32} {many : Nat → Int32} {slip : Nat → Nat → Int32} {became : Nat → Int32} {left : Nat → Int32} {what : Nat → Int32} {which : Nat → Int32} {whose : Nat → Int32} {place : Nat → Int32} {deeds : Int32} {day : Int32} {won : Int32} {lost : Int32} {kept : Int32} {text : Nat → Int32} {typed : Int32} {rest : Nat → Int32} {bestSet : Int32} {tenths : Nat → Int32} {sortWorth : Nat → Int32} {sortDays : Nat → Int32} {row : Nat → Int32} {trace : Int64} {r : Int32} {row_r : Nat → Int32} (hf : x_ring under askings row = some (r, row_r)) : MI l yX0_ring (ws_ yX0_ring cX0_ring 1 (some .int)) { frames := 1, cells := 0, slots := 0, locals := 25 } D gcl (gty d) NX (xw d ad ba ta imgs room work price whom bday units worth due under people askings hangs items many slip became left what which whose place deeds day won lost kept text typed rest bestSet tenths sortWorth sortDays row trace) (xw d ad ba ta imgs room work price whom bday units worth due under people askings hangs items many slip became left what which whose place deeds day won lost kept text typed rest bestSet tenths sortWorth sortDays row_r trace) sz [.ref (ad 0)] r :=
  MI.of (by decide) [.ref (ad 0)] [(0, .ref (ad 0))] (Nat.le_of_ble_eq_true rfl) rfl (fun p e s m below meth c ls Q hx hb hml hown hts hN hA hC hl K => w_x_ring hx hb hml hown hts hN hA (Nat.le_refl _) (Nat.le_refl _) (Nat.le_refl _) (Nat.le_refl _) hf hC hl K)

def x_order (under : Nat → Int32) (askings : Int32) (row : Nat → Int32) (x1 : Int32) : Option (Int32 × (Nat → Int32)) :=
  if 0 ≤ x1 then (bnd2 (x_inOrder under askings row 0) fun r_8 row_8 =>
  if askings ≤ r_8 then (if r_8 ≤ x1 then (some ((-5), row_8)) else
  ck x1 8 <| some (row_8 x1.toNatClampNeg, row_8)) else
  some ((-9), row_8)) else
  some ((-1), row)
set_option maxHeartbeats 4000000 in
set_option maxRecDepth 100000 in
theorem w_x_order {p : Program} {l : Launch} {e : Env} {R : Room} {s : State} {m : MethodId} {args : Array Value} {below : List Frame} {meth : Method} {c : Code} {H : Heap} {locs : List Loc} {cells slots : Nat} {Q : State → Prop} {A : Nat → Prop} {ls : Array Slot} {D : va_G} {d : Nat → ClassId} {ad : Nat → Nat} {ba : Nat → Nat} {ta : Nat → Nat} {imgs : va_W} {room : Nat → Int32} {work : Nat → Int32} {price : Nat → Int32} {whom : Nat → Int32} {bday : Nat → Int32} {units : Nat → Int32} {worth : Nat → Int32} {due : Nat → Int32} {under : Nat → Int32} {people : Int32} {askings : Int32} {hangs : Int32} {items : Int32} {many : Nat → Int32} {slip : Nat → Nat → Int32} {became : Nat → Int32} {left : Nat → Int32} {what : Nat → Int32} {which : Nat → Int32} {whose : Nat → Int32} {place : Nat → Int32} {deeds : Int32} {day : Int32} {won : Int32} {lost : Int32} {kept : Int32} {text : Nat → Int32} {typed : Int32} {rest : Nat → Int32} {bestSet : Int32} {tenths : Nat → Int32} {sortWorth : Nat → Int32} {sortDays : Nat → Int32} {row : Nat → Int32} {trace : Int64} {x1 : Int32} {r : Int32} {row_r : Nat → Int32} (hx : p.tables.exec = Jvm.exec) (hb : c.code = cX0_order) (hml : c.maxLocals = 3) (hown : s.vm.findClass RX0 = some m.cls) (hts : ∀ w ∈ lw_all, w.before args s = true) (hN : NX s) (hA : ∀ q, s.heap.size ≤ q → A q) (hRf : 1 ≤ R.frames) (hRl : 25 ≤ R.locals) (hRc : cells ≤ R.cells) (hRs : slots ≤ R.slots) (hf : x_order under askings row x1 = some (r, row_r)) (hC : HC D gcl (gty d) A (xw d ad ba ta imgs room work price whom bday units worth due under people askings hangs items many slip became left what which whose place deeds day won lost kept text typed rest bestSet tenths sortWorth sortDays row trace) s H locs) (hl : lv_has ls 3 [(0, .ref (ad 0)), (1, .int x1)]) (K : ∀ (H : Heap) (locs : List Loc) (ls : Array Slot) (pc : Nat), narrow .int (.int r) = .int r → HC D gcl (gty d) A (xw d ad ba ta imgs room work price whom bday units worth due under people askings hangs items many slip became left what which whose place deeds day won lost kept text typed rest bestSet tenths sortWorth sortDays row_r trace) s H locs → decode cX0_order pc = .ok (.ireturn, 1) → W p l e R s m args below meth c H locs cells slots Q (F0 m pc ls [.int r])) : W p l e R s m args below meth c H locs cells slots Q (F0 m 0 ls []) := by
  unfold x_order at hf
  refine lv_iload_n hx hb dX0_order_0 rfl (lv_at hl 1 rfl) ?_
  refine lv_if_ge (tgt := 6) hx hb dX0_order_1 (by decide) (fun c_1 => ?_) (fun c_1 => ?_)
  · have hf := if_t hf c_1
    refine lv_aload_n hx hb dX0_order_6 rfl (lv_at hl 0 rfl) ?_
    refine lv_iconst (v := 0) hx hb dX0_order_7 (by decide) ?_
    obtain ⟨r_8, row_8, hcall, hf⟩ := bnd2_some hf
    refine hc_i (va_runV (C := RX0) (As := [.int 0]) (rest := []) ⟨hx, hb, hml, hown, hts⟩ (c_x_inOrder hcall) (cwV 1 hts (lw_V q715 q717 qs21 q48 q718) rfl rfl rfl (by decide +kernel) ⟨(Nat.le_trans (Nat.le_of_ble_eq_true rfl) hRf), (Nat.le_trans (Nat.le_of_ble_eq_true rfl) hRl)⟩) (pre_V (q0 := 26) (ci := 0) NX.calling (fun U _ hW => NX.warm hW hN) hC rfl rfl) rfl rfl hl.1 rfl (lv_room (Nat.le_of_ble_eq_true rfl)) dX0_order_8 ⟨hRc, hRs⟩) hA hC (fun H locs hC => ?_)
    have hC : HC D gcl (gty d) A (xw d ad ba ta imgs room work price whom bday units worth due under people askings hangs items many slip became left what which whose place deeds day won lost kept text typed rest bestSet tenths sortWorth sortDays row_8 trace) s H locs := hC
    refine lv_istore_n (lv' := [(2, .int r_8), (0, .ref (ad 0)), (1, .int x1)]) hx hb dX0_order_11 rfl hl (by decide) rfl (fun ls hl => ?_)
    refine lv_iload_n hx hb dX0_order_12 rfl (lv_at hl 0 rfl) ?_
    refine lv_aload_n hx hb dX0_order_13 rfl (lv_at hl 1 rfl) ?_
    refine va_get (ci := 0) (v := .ref (ba 0)) (C := RX0) (T := TX0) (N := 13) hx hb hts in_X0 hown hC.1 hC.2.1 (26) rfl rfl 0 (by decide) (hts _ q302) (fun _ h9 => h9) rfl dX0_order_14 ?_
    refine va_getN (ci := 1) (v := .int askings) (C := RX1) (T := TX1) (N := 13) (host := "SleeveSlips") hx hb hts in_X1 hown hC.1 hC.2.1 (0) rfl rfl 10 (by decide) (va_Nw.use rfl (hN.1 22)) (fun _ h9 => h9) rfl dX0_order_17 ?_
    refine lv_icmp_ge (tgt := 28) hx hb dX0_order_20 (by decide) (fun c_20 => ?_) (fun c_20 => ?_)
    · have hf := if_t hf c_20
      refine lv_iload_n hx hb dX0_order_28 rfl (lv_at hl 2 rfl) ?_
      refine lv_iload_n hx hb dX0_order_29 rfl (lv_at hl 0 rfl) ?_
      refine lv_icmp_ge (tgt := 42) hx hb dX0_order_30 (by decide) (fun c_30 => ?_) (fun c_30 => ?_)
      · have hf := if_t hf c_30
        refine lv_bipush (v := (-5)) hx hb dX0_order_42 (by decide) ?_
        obtain ⟨e_1, e_2⟩ := so_2 (Option.some.inj hf)
        subst e_1
        subst e_2
        exact K H locs ls _ rfl hC dX0_order_44
      · have hf := if_f hf c_30
        refine lv_aload_n hx hb dX0_order_33 rfl (lv_at hl 1 rfl) ?_
        refine va_get (ci := 0) (v := .ref (ad 6)) (C := RX0) (T := TX0) (N := 13) hx hb hts in_X0 hown hC.1 hC.2.1 (26) rfl rfl 10 (by decide) (hts _ q318) (fun _ h9 => h9) rfl dX0_order_34 ?_
        refine lv_iload_n hx hb dX0_order_37 rfl (lv_at hl 2 rfl) ?_
        obtain ⟨hi_38, hf⟩ := ck_some hf
        refine va_iald hx hb hC.1 hC.2.1 (32) 0 rfl rfl hi_38 dX0_order_38 ?_
        refine lv_goto (tgt := 44) hx hb dX0_order_39 (by decide) ?_
        obtain ⟨e_1, e_2⟩ := so_2 (Option.some.inj hf)
        subst e_1
        subst e_2
        exact K H locs ls _ rfl hC dX0_order_44
    · have hf := if_f hf c_20
      refine lv_bipush (v := (-9)) hx hb dX0_order_23 (by decide) ?_
      refine lv_goto (tgt := 44) hx hb dX0_order_25 (by decide) ?_
      obtain ⟨e_1, e_2⟩ := so_2 (Option.some.inj hf)
      subst e_1
      subst e_2
      exact K H locs ls _ rfl hC dX0_order_44
  · have hf := if_f hf c_1
    refine lv_iconst (v := (-1)) hx hb dX0_order_4 (by decide) ?_
    obtain ⟨e_1, e_2⟩ := so_2 (Option.some.inj hf)
    subst e_1
    subst e_2
    exact K H locs ls _ rfl hC dX0_order_5
set_option maxRecDepth 100000 in
theorem c_x_order {l : Launch} {sz : Nat} {D : va_G} {d : Nat → ClassId} {ad : Nat → Nat} {ba : Nat → Nat} {ta : Nat → Nat} {imgs : va_W} {room : Nat → Int32} {work : Nat → Int32} {price : Nat → Int32} {whom : Nat → Int32} {bday : Nat → Int32} {units : Nat → Int32} {worth : Nat → Int32} {due : Nat → Int32} {under : Nat → Int32} {people : Int32} {askings : Int32} {hangs : Int32} {items : Int32} {many : Nat → Int32} {slip : Nat → Nat → Int32} {became : Nat → Int32} {left : Nat → Int32} {what : Nat → Int32} {which : Nat → Int32} {whose : Nat → Int32} {place : Nat → Int32} {deeds : Int32} {day : Int32} {won : Int32} {lost : Int32} {kept : Int32} {text : Nat → Int32} {typed : Int32} {rest : Nat → Int32} {bestSet : Int32} {tenths : Nat → Int32} {sortWorth : Nat → Int32} {sortDays : Nat → Int32} {row : Nat → Int32} {trace : Int64} {x1 : Int32} {r : Int32} {row_r : Nat → Int32} (hf : x_order under askings row x1 = some (r, row_r)) : MI l yX0_order (ws_ yX0_order cX0_order 3 (some .int)) { frames := 1, cells := 0, slots := 0, locals := 25 } D gcl (gty d) NX (xw d ad ba ta imgs room work price whom bday units worth due under people askings hangs items many slip became left what which whose place deeds day won lost kept text typed rest bestSet tenths sortWorth sortDays row trace) (xw d ad ba ta imgs room work price whom bday units worth due under people askings hangs items many slip became left what which whose place deeds day won lost kept text typed rest bestSet tenths sortWorth sortDays row_r trace) sz [.ref (ad 0), .int x1] r :=
  MI.of (by decide) [.ref (ad 0), .int x1] [(0, .ref (ad 0)), (1, .int x1)] (Nat.le_of_ble_eq_true rfl) rfl (fun p e s m below meth c ls Q hx hb hml hown hts hN hA hC hl K => w_x_order hx hb hml hown hts hN hA (Nat.le_refl _) (Nat.le_refl _) (Nat.le_refl _) (Nat.le_refl _) hf hC hl K)

def x_fewest_L25 (under : Nat → Int32) (askings : Int32) : Nat → Int32 → Int32 → (Nat → Int32) → Option (Int32 × (Nat → Int32))
  | 0, _, _, _ => none
  | n_25 + 1, x2_25, x3_25, row_25 =>
  if (1 <<< (askings &&& 31)) ≤ x3_25 then (some (x2_25, row_25)) else
  bnd (j_bitCount x3_25) fun r_39 =>
  bnd (j_bitCount x2_25) fun r_47 =>
  if r_47 ≤ r_39 then (x_fewest_L25 under askings n_25 x2_25 (x3_25 + 1) row_25) else
  bnd2 (x_inOrder under askings row_25 x3_25) fun r_55 row_55 =>
  if r_55 = (askings - r_39) then (x_fewest_L25 under askings n_25 x3_25 (x3_25 + 1) row_55) else
  x_fewest_L25 under askings n_25 x2_25 (x3_25 + 1) row_55
theorem x_fewest_L25_s (under : Nat → Int32) (askings : Int32) (n_25 : Nat) (x2_25 : Int32) (x3_25 : Int32) (row_25 : Nat → Int32) : x_fewest_L25 under askings (n_25 + 1) x2_25 x3_25 row_25 = (
  if (1 <<< (askings &&& 31)) ≤ x3_25 then (some (x2_25, row_25)) else
  bnd (j_bitCount x3_25) fun r_39 =>
  bnd (j_bitCount x2_25) fun r_47 =>
  if r_47 ≤ r_39 then (x_fewest_L25 under askings n_25 x2_25 (x3_25 + 1) row_25) else
  bnd2 (x_inOrder under askings row_25 x3_25) fun r_55 row_55 =>
  if r_55 = (askings - r_39) then (x_fewest_L25 under askings n_25 x3_25 (x3_25 + 1) row_55) else
  x_fewest_L25 under askings n_25 x2_25 (x3_25 + 1) row_55) := rfl
def x_fewest (under : Nat → Int32) (askings : Int32) (row : Nat → Int32) (x1 : Int32) : Option (Int32 × (Nat → Int32)) :=
  bnd (x_in x1 0 1) fun r_3 =>
  if r_3 = 0 then (some ((-1), row)) else
  bnd2 (x_fewest_L25 under askings g_fuel ((1 <<< (askings &&& 31)) - 1) 0 row) (fun x2_83 row_83 =>
  if x1 = 0 then (bnd (j_bitCount x2_83) fun r_88 =>
  some (r_88, row_83)) else
  some (x2_83, row_83))
set_option maxHeartbeats 4000000 in
set_option maxRecDepth 100000 in
theorem w_x_fewest {p : Program} {l : Launch} {e : Env} {R : Room} {s : State} {m : MethodId} {args : Array Value} {below : List Frame} {meth : Method} {c : Code} {H : Heap} {locs : List Loc} {cells slots : Nat} {Q : State → Prop} {A : Nat → Prop} {ls : Array Slot} {D : va_G} {d : Nat → ClassId} {ad : Nat → Nat} {ba : Nat → Nat} {ta : Nat → Nat} {imgs : va_W} {room : Nat → Int32} {work : Nat → Int32} {price : Nat → Int32} {whom : Nat → Int32} {bday : Nat → Int32} {units : Nat → Int32} {worth : Nat → Int32} {due : Nat → Int32} {under : Nat → Int32} {people : Int32} {askings : Int32} {hangs : Int32} {items : Int32} {many : Nat → Int32} {slip : Nat → Nat → Int32} {became : Nat → Int32} {left : Nat → Int32} {what : Nat → Int32} {which : Nat → Int32} {whose : Nat → Int32} {place : Nat → Int32} {deeds : Int32} {day : Int32} {won : Int32} {lost : Int32} {kept : Int32} {text : Nat → Int32} {typed : Int32} {rest : Nat → Int32} {bestSet : Int32} {tenths : Nat → Int32} {sortWorth : Nat → Int32} {sortDays : Nat → Int32} {row : Nat → Int32} {trace : Int64} {x1 : Int32} {r : Int32} {row_r : Nat → Int32} (hx : p.tables.exec = Jvm.exec) (hb : c.code = cX0_fewest) (hml : c.maxLocals = 5) (hown : s.vm.findClass RX0 = some m.cls) (hts : ∀ w ∈ lw_all, w.before args s = true) (hN : NX s) (hA : ∀ q, s.heap.size ≤ q → A q) (hRf : 1 ≤ R.frames) (hRl : 25 ≤ R.locals) (hRc : cells ≤ R.cells) (hRs : slots ≤ R.slots) (hf : x_fewest under askings row x1 = some (r, row_r)) (hC : HC D gcl (gty d) A (xw d ad ba ta imgs room work price whom bday units worth due under people askings hangs items many slip became left what which whose place deeds day won lost kept text typed rest bestSet tenths sortWorth sortDays row trace) s H locs) (hl : lv_has ls 5 [(0, .ref (ad 0)), (1, .int x1)]) (K : ∀ (H : Heap) (locs : List Loc) (ls : Array Slot) (pc : Nat), narrow .int (.int r) = .int r → HC D gcl (gty d) A (xw d ad ba ta imgs room work price whom bday units worth due under people askings hangs items many slip became left what which whose place deeds day won lost kept text typed rest bestSet tenths sortWorth sortDays row_r trace) s H locs → decode cX0_fewest pc = .ok (.ireturn, 1) → W p l e R s m args below meth c H locs cells slots Q (F0 m pc ls [.int r])) : W p l e R s m args below meth c H locs cells slots Q (F0 m 0 ls []) := by
  unfold x_fewest at hf
  refine lv_iload_n hx hb dX0_fewest_0 rfl (lv_at hl 1 rfl) ?_
  refine lv_iconst (v := 0) hx hb dX0_fewest_1 (by decide) ?_
  refine lv_iconst (v := 1) hx hb dX0_fewest_2 (by decide) ?_
  obtain ⟨r_3, hcall, hf⟩ := bnd_some hf
  refine hc_i (va_runS (As := [.int x1, .int 0, .int 1]) (rest := []) ⟨hx, hb, hml, hown, hts⟩ (c_x_in hcall) (va_cwS 3 hts (lw_S q358 q359 q48 q360) rfl rfl rfl (by decide +kernel) ⟨(Nat.le_trans (Nat.le_of_ble_eq_true rfl) hRf), (Nat.le_trans (Nat.le_of_ble_eq_true rfl) hRl)⟩) (pre_S (fun _ _ _ _ h => h) (fun _ _ _ => trivial) hC) rfl rfl hl.1 rfl (lv_room (Nat.le_of_ble_eq_true rfl)) dX0_fewest_3 ⟨hRc, hRs⟩) hA hC (fun H locs hC => ?_)
  refine lv_if_ne (tgt := 11) hx hb dX0_fewest_6 (by decide) (fun c_6 => ?_) (fun c_6 => ?_)
  · have hf := if_f hf c_6
    refine lv_iconst (v := 1) hx hb dX0_fewest_11 (by decide) ?_
    refine lv_aload_n hx hb dX0_fewest_12 rfl (lv_at hl 0 rfl) ?_
    refine va_get (ci := 0) (v := .ref (ba 0)) (C := RX0) (T := TX0) (N := 13) hx hb hts in_X0 hown hC.1 hC.2.1 (26) rfl rfl 0 (by decide) (hts _ q302) (fun _ h9 => h9) rfl dX0_fewest_13 ?_
    refine va_getN (ci := 1) (v := .int askings) (C := RX1) (T := TX1) (N := 13) (host := "SleeveSlips") hx hb hts in_X1 hown hC.1 hC.2.1 (0) rfl rfl 10 (by decide) (va_Nw.use rfl (hN.1 22)) (fun _ h9 => h9) rfl dX0_fewest_16 ?_
    refine lv_ishl hx hb dX0_fewest_19 ?_
    refine lv_iconst (v := 1) hx hb dX0_fewest_20 (by decide) ?_
    refine lv_isub hx hb dX0_fewest_21 ?_
    refine lv_istore_n (lv' := [(2, .int ((1 <<< (askings &&& 31)) - 1)), (0, .ref (ad 0)), (1, .int x1)]) hx hb dX0_fewest_22 rfl hl (by decide) rfl (fun ls hl => ?_)
    refine lv_iconst (v := 0) hx hb dX0_fewest_23 (by decide) ?_
    refine lv_istore_n (lv' := [(3, .int 0), (2, .int ((1 <<< (askings &&& 31)) - 1)), (0, .ref (ad 0)), (1, .int x1)]) hx hb dX0_fewest_24 rfl hl (by decide) rfl (fun ls hl => ?_)
    obtain ⟨x2_83, row_83, hL, hf⟩ := bnd2_some hf
    have X_25 : ∀ (H : Heap) (locs : List Loc) (ls : Array Slot), HC D gcl (gty d) A (xw d ad ba ta imgs room work price whom bday units worth due under people askings hangs items many slip became left what which whose place deeds day won lost kept text typed rest bestSet tenths sortWorth sortDays row_83 trace) s H locs → lv_has ls 5 [(1, .int x1), (2, .int x2_83)] → W p l e R s m args below meth c H locs cells slots Q (F0 m 83 ls []) := by
      intro H locs ls hC hl
      refine lv_iload_n hx hb dX0_fewest_83 rfl (lv_at hl 0 rfl) ?_
      refine lv_if_ne (tgt := 94) hx hb dX0_fewest_84 (by decide) (fun c_84 => ?_) (fun c_84 => ?_)
      · have hf := if_f hf c_84
        refine lv_iload_n hx hb dX0_fewest_94 rfl (lv_at hl 1 rfl) ?_
        obtain ⟨e_1, e_2⟩ := so_2 (Option.some.inj hf)
        subst e_1
        subst e_2
        exact K H locs ls _ rfl hC dX0_fewest_95
      · have hf := if_t hf c_84
        refine lv_iload_n hx hb dX0_fewest_87 rfl (lv_at hl 1 rfl) ?_
        obtain ⟨r_88, hcall, hf⟩ := bnd_some hf
        refine hc_i (va_runS (As := [.int x2_83]) (rest := []) ⟨hx, hb, hml, hown, hts⟩ (c_j_bitCount hcall) (va_cwS 1 hts (lw_S q662 q663 q71 q664) rfl rfl rfl (by decide +kernel) ⟨(Nat.le_trans (Nat.le_of_ble_eq_true rfl) hRf), (Nat.le_trans (Nat.le_of_ble_eq_true rfl) hRl)⟩) (pre_S (fun _ _ _ _ h => h) (fun _ _ _ => trivial) hC) rfl rfl hl.1 rfl (lv_room (Nat.le_of_ble_eq_true rfl)) dX0_fewest_88 ⟨hRc, hRs⟩) hA hC (fun H locs hC => ?_)
        refine lv_goto (tgt := 95) hx hb dX0_fewest_91 (by decide) ?_
        obtain ⟨e_1, e_2⟩ := so_2 (Option.some.inj hf)
        subst e_1
        subst e_2
        exact K H locs ls _ rfl hC dX0_fewest_95
    have L_25 : ∀ (n_25 : Nat) (x2_25 : Int32) (x3_25 : Int32) (row_25 : Nat → Int32), x_fewest_L25 under askings n_25 x2_25 x3_25 row_25 = some (x2_83, row_83) → ∀ (H : Heap) (locs : List Loc) (ls : Array Slot), HC D gcl (gty d) A (xw d ad ba ta imgs room work price whom bday units worth due under people askings hangs items many slip became left what which whose place deeds day won lost kept text typed rest bestSet tenths sortWorth sortDays row_25 trace) s H locs → lv_has ls 5 [(0, .ref (ad 0)), (1, .int x1), (2, .int x2_25), (3, .int x3_25)] → W p l e R s m args below meth c H locs cells slots Q (F0 m 25 ls []) := by
      intro n_25
      induction n_25 with
      | zero => intro _ _ _ hf; cases hf
      | succ n_25 ih =>
        intro x2_25 x3_25 row_25 hf H locs ls hC hl
        rw [x_fewest_L25_s] at hf
        refine lv_iload_n hx hb dX0_fewest_25 rfl (lv_at hl 3 rfl) ?_
        refine lv_iconst (v := 1) hx hb dX0_fewest_26 (by decide) ?_
        refine lv_aload_n hx hb dX0_fewest_27 rfl (lv_at hl 0 rfl) ?_
        refine va_get (ci := 0) (v := .ref (ba 0)) (C := RX0) (T := TX0) (N := 13) hx hb hts in_X0 hown hC.1 hC.2.1 (26) rfl rfl 0 (by decide) (hts _ q302) (fun _ h9 => h9) rfl dX0_fewest_28 ?_
        refine va_getN (ci := 1) (v := .int askings) (C := RX1) (T := TX1) (N := 13) (host := "SleeveSlips") hx hb hts in_X1 hown hC.1 hC.2.1 (0) rfl rfl 10 (by decide) (va_Nw.use rfl (hN.1 22)) (fun _ h9 => h9) rfl dX0_fewest_31 ?_
        refine lv_ishl hx hb dX0_fewest_34 ?_
        refine lv_icmp_ge (tgt := 83) hx hb dX0_fewest_35 (by decide) (fun c_35 => ?_) (fun c_35 => ?_)
        · have hf := if_t hf c_35
          obtain ⟨e_1, e_2⟩ := so_2 (Option.some.inj hf)
          subst e_1
          subst e_2
          exact X_25 H locs ls hC (lv_sub hl [1, 2] rfl)
        · have hf := if_f hf c_35
          refine lv_iload_n hx hb dX0_fewest_38 rfl (lv_at hl 3 rfl) ?_
          obtain ⟨r_39, hcall, hf⟩ := bnd_some hf
          refine hc_i (va_runS (As := [.int x3_25]) (rest := []) ⟨hx, hb, hml, hown, hts⟩ (c_j_bitCount hcall) (va_cwS 1 hts (lw_S q662 q663 q71 q664) rfl rfl rfl (by decide +kernel) ⟨(Nat.le_trans (Nat.le_of_ble_eq_true rfl) hRf), (Nat.le_trans (Nat.le_of_ble_eq_true rfl) hRl)⟩) (pre_S (fun _ _ _ _ h => h) (fun _ _ _ => trivial) hC) rfl rfl hl.1 rfl (lv_room (Nat.le_of_ble_eq_true rfl)) dX0_fewest_39 ⟨hRc, hRs⟩) hA hC (fun H locs hC => ?_)
          refine lv_istore (lv' := [(4, .int r_39), (0, .ref (ad 0)), (1, .int x1), (2, .int x2_25), (3, .int x3_25)]) hx hb dX0_fewest_42 hl (by decide) rfl (fun ls hl => ?_)
          refine lv_iload hx hb dX0_fewest_44 (lv_at hl 0 rfl) ?_
          refine lv_iload_n hx hb dX0_fewest_46 rfl (lv_at hl 3 rfl) ?_
          obtain ⟨r_47, hcall, hf⟩ := bnd_some hf
          refine hc_i (va_runS (As := [.int x2_25]) (rest := [.int r_39]) ⟨hx, hb, hml, hown, hts⟩ (c_j_bitCount hcall) (va_cwS 1 hts (lw_S q662 q663 q71 q664) rfl rfl rfl (by decide +kernel) ⟨(Nat.le_trans (Nat.le_of_ble_eq_true rfl) hRf), (Nat.le_trans (Nat.le_of_ble_eq_true rfl) hRl)⟩) (pre_S (fun _ _ _ _ h => h) (fun _ _ _ => trivial) hC) rfl rfl hl.1 rfl (lv_room (Nat.le_of_ble_eq_true rfl)) dX0_fewest_47 ⟨hRc, hRs⟩) hA hC (fun H locs hC => ?_)
          refine lv_icmp_ge (tgt := 75) hx hb dX0_fewest_50 (by decide) (fun c_50 => ?_) (fun c_50 => ?_)
          · have hf := if_t hf c_50
            refine lv_iload_n hx hb dX0_fewest_75 rfl (lv_at hl 3 rfl) ?_
            refine lv_istore_n (lv' := [(2, .int x2_25), (4, .int r_39), (0, .ref (ad 0)), (1, .int x1), (3, .int x3_25)]) hx hb dX0_fewest_76 rfl hl (by decide) rfl (fun ls hl => ?_)
            refine lv_iinc (v := x3_25 + 1) (lv' := [(3, .int (x3_25 + 1)), (2, .int x2_25), (4, .int r_39), (0, .ref (ad 0)), (1, .int x1)]) hx hb dX0_fewest_77 hl (k := 4) rfl rfl (by decide) rfl (fun ls hl => ?_)
            refine lv_goto (tgt := 25) hx hb dX0_fewest_80 (by decide) ?_
            exact ih _ _ _ hf H locs ls hC (lv_sub hl [3, 4, 1, 0] rfl)
          · have hf := if_f hf c_50
            refine lv_aload_n hx hb dX0_fewest_53 rfl (lv_at hl 1 rfl) ?_
            refine lv_iload_n hx hb dX0_fewest_54 rfl (lv_at hl 4 rfl) ?_
            obtain ⟨r_55, row_55, hcall, hf⟩ := bnd2_some hf
            refine hc_i (va_runV (C := RX0) (As := [.int x3_25]) (rest := []) ⟨hx, hb, hml, hown, hts⟩ (c_x_inOrder hcall) (cwV 1 hts (lw_V q715 q717 qs21 q48 q718) rfl rfl rfl (by decide +kernel) ⟨(Nat.le_trans (Nat.le_of_ble_eq_true rfl) hRf), (Nat.le_trans (Nat.le_of_ble_eq_true rfl) hRl)⟩) (pre_V (q0 := 26) (ci := 0) NX.calling (fun U _ hW => NX.warm hW hN) hC rfl rfl) rfl rfl hl.1 rfl (lv_room (Nat.le_of_ble_eq_true rfl)) dX0_fewest_55 ⟨hRc, hRs⟩) hA hC (fun H locs hC => ?_)
            have hC : HC D gcl (gty d) A (xw d ad ba ta imgs room work price whom bday units worth due under people askings hangs items many slip became left what which whose place deeds day won lost kept text typed rest bestSet tenths sortWorth sortDays row_55 trace) s H locs := hC
            refine lv_aload_n hx hb dX0_fewest_58 rfl (lv_at hl 1 rfl) ?_
            refine va_get (ci := 0) (v := .ref (ba 0)) (C := RX0) (T := TX0) (N := 13) hx hb hts in_X0 hown hC.1 hC.2.1 (26) rfl rfl 0 (by decide) (hts _ q302) (fun _ h9 => h9) rfl dX0_fewest_59 ?_
            refine va_getN (ci := 1) (v := .int askings) (C := RX1) (T := TX1) (N := 13) (host := "SleeveSlips") hx hb hts in_X1 hown hC.1 hC.2.1 (0) rfl rfl 10 (by decide) (va_Nw.use rfl (hN.1 22)) (fun _ h9 => h9) rfl dX0_fewest_62 ?_
            refine lv_iload hx hb dX0_fewest_65 (lv_at hl 0 rfl) ?_
            refine lv_isub hx hb dX0_fewest_67 ?_
            refine lv_icmp_ne (tgt := 75) hx hb dX0_fewest_68 (by decide) (fun c_68 => ?_) (fun c_68 => ?_)
            · have hf := if_f hf c_68
              refine lv_iload_n hx hb dX0_fewest_75 rfl (lv_at hl 3 rfl) ?_
              refine lv_istore_n (lv' := [(2, .int x2_25), (4, .int r_39), (0, .ref (ad 0)), (1, .int x1), (3, .int x3_25)]) hx hb dX0_fewest_76 rfl hl (by decide) rfl (fun ls hl => ?_)
              refine lv_iinc (v := x3_25 + 1) (lv' := [(3, .int (x3_25 + 1)), (2, .int x2_25), (4, .int r_39), (0, .ref (ad 0)), (1, .int x1)]) hx hb dX0_fewest_77 hl (k := 4) rfl rfl (by decide) rfl (fun ls hl => ?_)
              refine lv_goto (tgt := 25) hx hb dX0_fewest_80 (by decide) ?_
              exact ih _ _ _ hf H locs ls hC (lv_sub hl [3, 4, 1, 0] rfl)
            · have hf := if_t hf c_68
              refine lv_iload_n hx hb dX0_fewest_71 rfl (lv_at hl 4 rfl) ?_
              refine lv_goto (tgt := 76) hx hb dX0_fewest_72 (by decide) ?_
              refine lv_istore_n (lv' := [(2, .int x3_25), (4, .int r_39), (0, .ref (ad 0)), (1, .int x1), (3, .int x3_25)]) hx hb dX0_fewest_76 rfl hl (by decide) rfl (fun ls hl => ?_)
              refine lv_iinc (v := x3_25 + 1) (lv' := [(3, .int (x3_25 + 1)), (2, .int x3_25), (4, .int r_39), (0, .ref (ad 0)), (1, .int x1)]) hx hb dX0_fewest_77 hl (k := 4) rfl rfl (by decide) rfl (fun ls hl => ?_)
              refine lv_goto (tgt := 25) hx hb dX0_fewest_80 (by decide) ?_
              exact ih _ _ _ hf H locs ls hC (lv_sub hl [3, 4, 1, 0] rfl)
    exact L_25 _ _ _ _ hL H locs ls hC (lv_sub hl [2, 3, 1, 0] rfl)
  · have hf := if_t hf c_6
    refine lv_iconst (v := (-1)) hx hb dX0_fewest_9 (by decide) ?_
    obtain ⟨e_1, e_2⟩ := so_2 (Option.some.inj hf)
    subst e_1
    subst e_2
    exact K H locs ls _ rfl hC dX0_fewest_10
set_option maxRecDepth 100000 in
theorem c_x_fewest {l : Launch} {sz : Nat} {D : va_G} {d : Nat → ClassId} {ad : Nat → Nat} {ba : Nat → Nat} {ta : Nat → Nat} {imgs : va_W} {room : Nat → Int32} {work : Nat → Int32} {price : Nat → Int32} {whom : Nat → Int32} {bday : Nat → Int32} {units : Nat → Int32} {worth : Nat → Int32} {due : Nat → Int32} {under : Nat → Int32} {people : Int32} {askings : Int32} {hangs : Int32} {items : Int32} {many : Nat → Int32} {slip : Nat → Nat → Int32} {became : Nat → Int32} {left : Nat → Int32} {what : Nat → Int32} {which : Nat → Int32} {whose : Nat → Int32} {place : Nat → Int32} {deeds : Int32} {day : Int32} {won : Int32} {lost : Int32} {kept : Int32} {text : Nat → Int32} {typed : Int32} {rest : Nat → Int32} {bestSet : Int32} {tenths : Nat → Int32} {sortWorth : Nat → Int32} {sortDays : Nat → Int32} {row : Nat → Int32} {trace : Int64} {x1 : Int32} {r : Int32} {row_r : Nat → Int32} (hf : x_fewest under askings row x1 = some (r, row_r)) : MI l yX0_fewest (ws_ yX0_fewest cX0_fewest 5 (some .int)) { frames := 1, cells := 0, slots := 0, locals := 25 } D gcl (gty d) NX (xw d ad ba ta imgs room work price whom bday units worth due under people askings hangs items many slip became left what which whose place deeds day won lost kept text typed rest bestSet tenths sortWorth sortDays row trace) (xw d ad ba ta imgs room work price whom bday units worth due under people askings hangs items many slip became left what which whose place deeds day won lost kept text typed rest bestSet tenths sortWorth sortDays row_r trace) sz [.ref (ad 0), .int x1] r :=
  MI.of (by decide) [.ref (ad 0), .int x1] [(0, .ref (ad 0)), (1, .int x1)] (Nat.le_of_ble_eq_true rfl) rfl (fun p e s m below meth c ls Q hx hb hml hown hts hN hA hC hl K => w_x_fewest hx hb hml hown hts hN hA (Nat.le_refl _) (Nat.le_refl _) (Nat.le_refl _) (Nat.le_refl _) hf hC hl K)
