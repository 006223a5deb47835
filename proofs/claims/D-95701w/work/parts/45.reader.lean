set_option maxRecDepth 100000

def r_here (text : Nat → Int32) (typed : Int32) (at_ : Int32) : Option (Int32) :=
  if typed ≤ at_ then (some (-1)) else
  ck at_ 300 <| some ((text at_.toNatClampNeg) &&& 255)
set_option maxHeartbeats 4000000 in
set_option maxRecDepth 100000 in
theorem w_r_here {p : Program} {l : Launch} {e : Env} {R : Room} {s : State} {m : MethodId} {args : Array Value} {below : List Frame} {meth : Method} {c : Code} {H : Heap} {locs : List Loc} {cells slots : Nat} {Q : State → Prop} {A : Nat → Prop} {ls : Array Slot} {D : va_G} {d : Nat → ClassId} {ad : Nat → Nat} {ba : Nat → Nat} {ta : Nat → Nat} {ra : Nat} {mb : Nat → Nat} {bestSet : Int32} {trace : Int64} {adK : Nat → Nat} {adV : Nat → Nat} {tW : Nat} {text : Nat → Int32} {typed : Int32} {at_ : Int32} {start : Int32} {sort : Int32} {value : Int32} {room : Nat → Int32} {work : Nat → Int32} {price : Nat → Int32} {whom : Nat → Int32} {bday : Nat → Int32} {units : Nat → Int32} {worth : Nat → Int32} {due : Nat → Int32} {under : Nat → Int32} {people : Int32} {askings : Int32} {hangs : Int32} {items : Int32} {r : Int32} (hx : p.tables.exec = Jvm.exec) (hb : c.code = cX11_here) (hml : c.maxLocals = 1) (hown : s.vm.findClass RX11 = some m.cls) (hts : ∀ w ∈ lw_all, w.before args s = true) (hN : NX s ∧ SX adK adV tW A s s.heap) (hA : ∀ q, s.heap.size ≤ q → A q) (hRf : 0 ≤ R.frames) (hRl : 0 ≤ R.locals) (hRc : cells ≤ R.cells) (hRs : slots ≤ R.slots) (hf : r_here text typed at_ = some r) (hC : HC D gcl (gty d) A (rw_ d ad ba ta ra mb bestSet trace text typed at_ start sort value room work price whom bday units worth due under people askings hangs items) s H locs) (hl : lv_has ls 1 [(0, .ref ra)]) (K : ∀ (H : Heap) (locs : List Loc) (ls : Array Slot) (pc : Nat), narrow .int (.int r) = .int r → HC D gcl (gty d) A (rw_ d ad ba ta ra mb bestSet trace text typed at_ start sort value room work price whom bday units worth due under people askings hangs items) s H locs → decode cX11_here pc = .ok (.ireturn, 1) → W p l e R s m args below meth c H locs cells slots Q (F0 m pc ls [.int r])) : W p l e R s m args below meth c H locs cells slots Q (F0 m 0 ls []) := by
  unfold r_here at hf
  refine lv_aload_n hx hb dX11_here_0 rfl (lv_at hl 0 rfl) ?_
  refine va_get (ci := 11) (v := .int at_) (C := RX11) (T := TX11) (N := 6) hx hb hts in_X11 hown hC.1 hC.2.1 (2) rfl rfl 0 (by decide) (hts _ q378) (fun _ h9 => h9) rfl dX11_here_1 ?_
  refine lv_aload_n hx hb dX11_here_4 rfl (lv_at hl 0 rfl) ?_
  refine va_get (ci := 11) (v := .ref (ad 0)) (C := RX11) (T := TX11) (N := 6) hx hb hts in_X11 hown hC.1 hC.2.1 (2) rfl rfl 5 (by decide) (hts _ q383) (fun _ h9 => h9) rfl dX11_here_5 ?_
  refine va_getN (ci := 0) (v := .int typed) (C := RX0) (T := TX0) (N := 13) (host := "SleeveSlips") hx hb hts in_X0 hown hC.1 hC.2.1 (0) rfl rfl 4 (by decide) (va_Nw.use rfl (hN.1.1 51)) (fun _ h9 => h9) rfl dX11_here_8 ?_
  refine lv_icmp_ge (tgt := 33) hx hb dX11_here_11 (by decide) (fun c_11 => ?_) (fun c_11 => ?_)
  · have hf := if_t hf c_11
    refine lv_iconst (v := (-1)) hx hb dX11_here_33 (by decide) ?_
    have e_1 := (Option.some.inj hf)
    subst e_1
    exact K H locs ls _ rfl hC dX11_here_34
  · have hf := if_f hf c_11
    refine lv_aload_n hx hb dX11_here_14 rfl (lv_at hl 0 rfl) ?_
    refine va_get (ci := 11) (v := .ref (ad 0)) (C := RX11) (T := TX11) (N := 6) hx hb hts in_X11 hown hC.1 hC.2.1 (2) rfl rfl 5 (by decide) (hts _ q383) (fun _ h9 => h9) rfl dX11_here_15 ?_
    refine va_getN (ci := 0) (v := .ref (ad 1)) (C := RX0) (T := TX0) (N := 13) (host := "SleeveSlips") hx hb hts in_X0 hown hC.1 hC.2.1 (0) rfl rfl 3 (by decide) (va_Nw.use rfl (hN.1.1 50)) (fun _ h9 => h9) rfl dX11_here_18 ?_
    refine lv_aload_n hx hb dX11_here_21 rfl (lv_at hl 0 rfl) ?_
    refine va_get (ci := 11) (v := .int at_) (C := RX11) (T := TX11) (N := 6) hx hb hts in_X11 hown hC.1 hC.2.1 (2) rfl rfl 0 (by decide) (hts _ q378) (fun _ h9 => h9) rfl dX11_here_22 ?_
    obtain ⟨hi_25, hf⟩ := ck_some hf
    refine va_bald hx hb hC.1 hC.2.1 (1) 1 rfl rfl hi_25 dX11_here_25 ?_
    refine lv_sipush (v := 255) hx hb dX11_here_26 (by decide) ?_
    refine lv_iand hx hb dX11_here_29 ?_
    refine lv_goto (tgt := 34) hx hb dX11_here_30 (by decide) ?_
    have e_1 := (Option.some.inj hf)
    subst e_1
    exact K H locs ls _ rfl hC dX11_here_34
set_option maxRecDepth 100000 in
theorem c_r_here {l : Launch} {sz : Nat} {D : va_G} {d : Nat → ClassId} {ad : Nat → Nat} {ba : Nat → Nat} {ta : Nat → Nat} {ra : Nat} {mb : Nat → Nat} {bestSet : Int32} {trace : Int64} {adK : Nat → Nat} {adV : Nat → Nat} {tW : Nat} {text : Nat → Int32} {typed : Int32} {at_ : Int32} {start : Int32} {sort : Int32} {value : Int32} {room : Nat → Int32} {work : Nat → Int32} {price : Nat → Int32} {whom : Nat → Int32} {bday : Nat → Int32} {units : Nat → Int32} {worth : Nat → Int32} {due : Nat → Int32} {under : Nat → Int32} {people : Int32} {askings : Int32} {hangs : Int32} {items : Int32} {r : Int32} (hf : r_here text typed at_ = some r) : MI l yX11_here (ws_ yX11_here cX11_here 1 (some .int)) { frames := 0, cells := 0, slots := 0, locals := 0 } D gcl (gty d) (fun U => NX U ∧ SN adK adV tW (rw_ d ad ba ta ra mb bestSet trace text typed at_ start sort value room work price whom bday units worth due under people askings hangs items) U) (rw_ d ad ba ta ra mb bestSet trace text typed at_ start sort value room work price whom bday units worth due under people askings hangs items) (rw_ d ad ba ta ra mb bestSet trace text typed at_ start sort value room work price whom bday units worth due under people askings hangs items) sz [.ref ra] r :=
  MI.of (by decide) [.ref ra] [(0, .ref ra)] (Nat.le_of_ble_eq_true rfl) rfl (fun p e s m below meth c ls Q hx hb hml hown hts hN hA hC hl K => w_r_here hx hb hml hown hts hN hA (Nat.le_refl _) (Nat.le_refl _) (Nat.le_refl _) (Nat.le_refl _) hf hC hl K)

def r_isTold_L24 (text : Nat → Int32) (start : Int32) (k_ : Nat) : Nat → Int32 → Int32 → Option (Int32)
  | 0, _, _ => none
  | n_24 + 1, x2_24, x3_24 =>
  if x2_24 = 0 then (some x2_24) else
  if (Int32.ofNat (SLEN.getD k_ 0)) ≤ x3_24 then (some x2_24) else
  ck (start + x3_24) 300 <| ck x3_24 (SLEN.getD k_ 0) <| if (text (start + x3_24).toNatClampNeg) = ((SBYT.getD k_ []).getD x3_24.toNatClampNeg 0 &&& 255) then (r_isTold_L24 text start k_ n_24 1 (x3_24 + 1) ) else
  r_isTold_L24 text start k_ n_24 0 (x3_24 + 1) 
theorem r_isTold_L24_s (text : Nat → Int32) (start : Int32) (k_ : Nat) (n_24 : Nat) (x2_24 : Int32) (x3_24 : Int32) : r_isTold_L24 text start k_ (n_24 + 1) x2_24 x3_24 = (
  if x2_24 = 0 then (some x2_24) else
  if (Int32.ofNat (SLEN.getD k_ 0)) ≤ x3_24 then (some x2_24) else
  ck (start + x3_24) 300 <| ck x3_24 (SLEN.getD k_ 0) <| if (text (start + x3_24).toNatClampNeg) = ((SBYT.getD k_ []).getD x3_24.toNatClampNeg 0 &&& 255) then (r_isTold_L24 text start k_ n_24 1 (x3_24 + 1) ) else
  r_isTold_L24 text start k_ n_24 0 (x3_24 + 1) ) := rfl
def r_isTold (text : Nat → Int32) (at_ : Int32) (start : Int32) (k_ : Nat) : Option (Int32) :=
  ltv (if (at_ - start) = (Int32.ofNat (SLEN.getD k_ 0)) then (1) else
  0) (fun (t_21 : Int32) =>
  bnd (r_isTold_L24 text start k_ g_fuel t_21 0 ) (fun x2_70 =>
  ckz x2_70 <| some x2_70))
set_option maxHeartbeats 4000000 in
set_option maxRecDepth 100000 in
theorem w_r_isTold {p : Program} {l : Launch} {e : Env} {R : Room} {s : State} {m : MethodId} {args : Array Value} {below : List Frame} {meth : Method} {c : Code} {H : Heap} {locs : List Loc} {cells slots : Nat} {Q : State → Prop} {A : Nat → Prop} {ls : Array Slot} {D : va_G} {d : Nat → ClassId} {ad : Nat → Nat} {ba : Nat → Nat} {ta : Nat → Nat} {ra : Nat} {mb : Nat → Nat} {bestSet : Int32} {trace : Int64} {adK : Nat → Nat} {adV : Nat → Nat} {tW : Nat} {text : Nat → Int32} {typed : Int32} {at_ : Int32} {start : Int32} {sort : Int32} {value : Int32} {room : Nat → Int32} {work : Nat → Int32} {price : Nat → Int32} {whom : Nat → Int32} {bday : Nat → Int32} {units : Nat → Int32} {worth : Nat → Int32} {due : Nat → Int32} {under : Nat → Int32} {people : Int32} {askings : Int32} {hangs : Int32} {items : Int32} {k_ : Nat} {r : Int32} (hx : p.tables.exec = Jvm.exec) (hb : c.code = cX11_isTold) (hml : c.maxLocals = 4) (hown : s.vm.findClass RX11 = some m.cls) (hts : ∀ w ∈ lw_all, w.before args s = true) (hN : NX s ∧ SX adK adV tW A s s.heap) (hk : k_ < 3) (hA : ∀ q, s.heap.size ≤ q → A q) (hRf : 4 ≤ R.frames) (hRl : 85 ≤ R.locals) (hRc : cells ≤ R.cells) (hRs : slots ≤ R.slots) (hf : r_isTold text at_ start k_ = some r) (hC : HC D gcl (gty d) A (rw_ d ad ba ta ra mb bestSet trace text typed at_ start sort value room work price whom bday units worth due under people askings hangs items) s H locs) (hl : lv_has ls 4 [(0, .ref ra), (1, .ref (adK k_))]) (K : ∀ (H : Heap) (locs : List Loc) (ls : Array Slot) (pc : Nat), narrow .boolean (.int r) = .int r → HC D gcl (gty d) A (rw_ d ad ba ta ra mb bestSet trace text typed at_ start sort value room work price whom bday units worth due under people askings hangs items) s H locs → decode cX11_isTold pc = .ok (.ireturn, 1) → W p l e R s m args below meth c H locs cells slots Q (F0 m pc ls [.int r])) : W p l e R s m args below meth c H locs cells slots Q (F0 m 0 ls []) := by
  unfold r_isTold at hf
  refine lv_aload_n hx hb dX11_isTold_0 rfl (lv_at hl 0 rfl) ?_
  refine va_get (ci := 11) (v := .int at_) (C := RX11) (T := TX11) (N := 6) hx hb hts in_X11 hown hC.1 hC.2.1 (2) rfl rfl 0 (by decide) (hts _ q378) (fun _ h9 => h9) rfl dX11_isTold_1 ?_
  refine lv_aload_n hx hb dX11_isTold_4 rfl (lv_at hl 0 rfl) ?_
  refine va_get (ci := 11) (v := .int start) (C := RX11) (T := TX11) (N := 6) hx hb hts in_X11 hown hC.1 hC.2.1 (2) rfl rfl 1 (by decide) (hts _ q379) (fun _ h9 => h9) rfl dX11_isTold_5 ?_
  refine lv_isub hx hb dX11_isTold_8 ?_
  refine lv_aload_n hx hb dX11_isTold_9 rfl (lv_at hl 1 rfl) ?_
  refine hc_i (va_runV (C := "java/lang/String") (As := []) (rest := [.int (at_ - start)]) ⟨hx, hb, hml, hown, hts⟩ (c_j_len hk) (cwV 0 hts (lw_V q416 q417 q418 q61 q419) rfl rfl rfl (by decide +kernel) ⟨Nat.le_trans (Nat.le_of_ble_eq_true rfl) hRf, Nat.le_trans (Nat.le_of_ble_eq_true rfl) hRl⟩) ⟨pre_b SN.calling, vk_recv hN.2.1 hk hC.2.2.2, pre_h (fun U hU hW => SN.warm hN.2 hC.2.2.2 (all_free hC.2.2.1 hC.2.2.2 hA) hU hW) hC.1 hC.2.1 hC.2.2.1⟩ rfl rfl hl.1 rfl (lv_room (Nat.le_of_ble_eq_true rfl)) dX11_isTold_10 ⟨hRc, hRs⟩) hA hC (fun H locs hC => ?_)
  obtain ⟨t_21, hj, hf⟩ := ltv_some hf
  refine wj (g1 := F0 m 21 ls [.int t_21]) ?_ (fun J_21 => ?_)
  · refine lv_istore_n (lv' := [(2, .int t_21), (0, .ref ra), (1, .ref (adK k_))]) hx hb dX11_isTold_21 rfl hl (by decide) rfl (fun ls hl => ?_)
    refine lv_iconst (v := 0) hx hb dX11_isTold_22 (by decide) ?_
    refine lv_istore_n (lv' := [(3, .int 0), (2, .int t_21), (0, .ref ra), (1, .ref (adK k_))]) hx hb dX11_isTold_23 rfl hl (by decide) rfl (fun ls hl => ?_)
    obtain ⟨x2_70, hL, hf⟩ := bnd_some hf
    have X_24 : ∀ (H : Heap) (locs : List Loc) (ls : Array Slot), HC D gcl (gty d) A (rw_ d ad ba ta ra mb bestSet trace text typed at_ start sort value room work price whom bday units worth due under people askings hangs items) s H locs → lv_has ls 4 [(2, .int x2_70)] → W p l e R s m args below meth c H locs cells slots Q (F0 m 70 ls []) := by
      intro H locs ls hC hl
      refine lv_iload_n hx hb dX11_isTold_70 rfl (lv_at hl 0 rfl) ?_
      obtain ⟨hz_71, hf⟩ := ckz_some hf
      have e_1 := (Option.some.inj hf)
      subst e_1
      exact K H locs ls _ (nz_01 hz_71) hC dX11_isTold_71
    have L_24 : ∀ (n_24 : Nat) (x2_24 : Int32) (x3_24 : Int32), r_isTold_L24 text start k_ n_24 x2_24 x3_24 = some x2_70 → ∀ (H : Heap) (locs : List Loc) (ls : Array Slot), HC D gcl (gty d) A (rw_ d ad ba ta ra mb bestSet trace text typed at_ start sort value room work price whom bday units worth due under people askings hangs items) s H locs → lv_has ls 4 [(0, .ref ra), (1, .ref (adK k_)), (2, .int x2_24), (3, .int x3_24)] → W p l e R s m args below meth c H locs cells slots Q (F0 m 24 ls []) := by
      intro n_24
      induction n_24 with
      | zero => intro _ _ hf; cases hf
      | succ n_24 ih =>
        intro x2_24 x3_24 hf H locs ls hC hl
        rw [r_isTold_L24_s] at hf
        refine lv_iload_n hx hb dX11_isTold_24 rfl (lv_at hl 2 rfl) ?_
        refine lv_if_eq (tgt := 70) hx hb dX11_isTold_25 (by decide) (fun c_25 => ?_) (fun c_25 => ?_)
        · have hf := if_t hf c_25
          have e_1 := (Option.some.inj hf)
          subst e_1
          exact X_24 H locs ls hC (lv_sub hl [2] rfl)
        · have hf := if_f hf c_25
          refine lv_iload_n hx hb dX11_isTold_28 rfl (lv_at hl 3 rfl) ?_
          refine lv_aload_n hx hb dX11_isTold_29 rfl (lv_at hl 1 rfl) ?_
          refine hc_i (va_runV (C := "java/lang/String") (As := []) (rest := [.int x3_24]) ⟨hx, hb, hml, hown, hts⟩ (c_j_len hk) (cwV 0 hts (lw_V q416 q417 q418 q61 q419) rfl rfl rfl (by decide +kernel) ⟨Nat.le_trans (Nat.le_of_ble_eq_true rfl) hRf, Nat.le_trans (Nat.le_of_ble_eq_true rfl) hRl⟩) ⟨pre_b SN.calling, vk_recv hN.2.1 hk hC.2.2.2, pre_h (fun U hU hW => SN.warm hN.2 hC.2.2.2 (all_free hC.2.2.1 hC.2.2.2 hA) hU hW) hC.1 hC.2.1 hC.2.2.1⟩ rfl rfl hl.1 rfl (lv_room (Nat.le_of_ble_eq_true rfl)) dX11_isTold_30 ⟨hRc, hRs⟩) hA hC (fun H locs hC => ?_)
          refine lv_icmp_ge (tgt := 70) hx hb dX11_isTold_33 (by decide) (fun c_33 => ?_) (fun c_33 => ?_)
          · have hf := if_t hf c_33
            have e_1 := (Option.some.inj hf)
            subst e_1
            exact X_24 H locs ls hC (lv_sub hl [2] rfl)
          · have hf := if_f hf c_33
            refine lv_aload_n hx hb dX11_isTold_36 rfl (lv_at hl 0 rfl) ?_
            refine va_get (ci := 11) (v := .ref (ad 0)) (C := RX11) (T := TX11) (N := 6) hx hb hts in_X11 hown hC.1 hC.2.1 (2) rfl rfl 5 (by decide) (hts _ q383) (fun _ h9 => h9) rfl dX11_isTold_37 ?_
            refine va_getN (ci := 0) (v := .ref (ad 1)) (C := RX0) (T := TX0) (N := 13) (host := "SleeveSlips") hx hb hts in_X0 hown hC.1 hC.2.1 (0) rfl rfl 3 (by decide) (va_Nw.use rfl (hN.1.1 50)) (fun _ h9 => h9) rfl dX11_isTold_40 ?_
            refine lv_aload_n hx hb dX11_isTold_43 rfl (lv_at hl 0 rfl) ?_
            refine va_get (ci := 11) (v := .int start) (C := RX11) (T := TX11) (N := 6) hx hb hts in_X11 hown hC.1 hC.2.1 (2) rfl rfl 1 (by decide) (hts _ q379) (fun _ h9 => h9) rfl dX11_isTold_44 ?_
            refine lv_iload_n hx hb dX11_isTold_47 rfl (lv_at hl 3 rfl) ?_
            refine lv_iadd hx hb dX11_isTold_48 ?_
            obtain ⟨hi_49, hf⟩ := ck_some hf
            refine va_bald hx hb hC.1 hC.2.1 (1) 1 rfl rfl hi_49 dX11_isTold_49 ?_
            refine lv_aload_n hx hb dX11_isTold_50 rfl (lv_at hl 1 rfl) ?_
            refine lv_iload_n hx hb dX11_isTold_51 rfl (lv_at hl 3 rfl) ?_
            obtain ⟨hi_52, hf⟩ := ck_some hf
            refine hc_i (va_runV (C := "java/lang/String") (As := [.int x3_24]) (rest := [.int (text (start + x3_24).toNatClampNeg)]) ⟨hx, hb, hml, hown, hts⟩ (c_j_char hk hi_52) (cwV 1 hts (lw_V q426 q427 q428 q61 q429) rfl rfl rfl (by decide +kernel) ⟨Nat.le_trans (Nat.le_of_ble_eq_true rfl) hRf, Nat.le_trans (Nat.le_of_ble_eq_true rfl) hRl⟩) ⟨pre_b SN.calling, vk_recv hN.2.1 hk hC.2.2.2, pre_h (fun U hU hW => SN.warm hN.2 hC.2.2.2 (all_free hC.2.2.1 hC.2.2.2 hA) hU hW) hC.1 hC.2.1 hC.2.2.1⟩ rfl rfl hl.1 rfl (lv_room (Nat.le_of_ble_eq_true rfl)) dX11_isTold_52 ⟨hRc, hRs⟩) hA hC (fun H locs hC => ?_)
            refine lv_icmp_ne (tgt := 62) hx hb dX11_isTold_55 (by decide) (fun c_55 => ?_) (fun c_55 => ?_)
            · have hf := if_f hf c_55
              refine lv_iconst (v := 0) hx hb dX11_isTold_62 (by decide) ?_
              refine lv_istore_n (lv' := [(2, .int 0), (0, .ref ra), (1, .ref (adK k_)), (3, .int x3_24)]) hx hb dX11_isTold_63 rfl hl (by decide) rfl (fun ls hl => ?_)
              refine lv_iinc (v := x3_24 + 1) (lv' := [(3, .int (x3_24 + 1)), (2, .int 0), (0, .ref ra), (1, .ref (adK k_))]) hx hb dX11_isTold_64 hl (k := 3) rfl rfl (by decide) rfl (fun ls hl => ?_)
              refine lv_goto (tgt := 24) hx hb dX11_isTold_67 (by decide) ?_
              exact ih _ _ hf H locs ls hC (lv_sub hl [2, 3, 1, 0] rfl)
            · have hf := if_t hf c_55
              refine lv_iconst (v := 1) hx hb dX11_isTold_58 (by decide) ?_
              refine lv_goto (tgt := 63) hx hb dX11_isTold_59 (by decide) ?_
              refine lv_istore_n (lv' := [(2, .int 1), (0, .ref ra), (1, .ref (adK k_)), (3, .int x3_24)]) hx hb dX11_isTold_63 rfl hl (by decide) rfl (fun ls hl => ?_)
              refine lv_iinc (v := x3_24 + 1) (lv' := [(3, .int (x3_24 + 1)), (2, .int 1), (0, .ref ra), (1, .ref (adK k_))]) hx hb dX11_isTold_64 hl (k := 3) rfl rfl (by decide) rfl (fun ls hl => ?_)
              refine lv_goto (tgt := 24) hx hb dX11_isTold_67 (by decide) ?_
              exact ih _ _ hf H locs ls hC (lv_sub hl [2, 3, 1, 0] rfl)
    exact L_24 _ _ _ hL H locs ls hC (lv_sub hl [2, 3, 1, 0] rfl)
  · have hf := hj
    refine lv_icmp_ne (tgt := 20) hx hb dX11_isTold_13 (by decide) (fun c_13 => ?_) (fun c_13 => ?_)
    · have hf := if_f hf c_13
      refine lv_iconst (v := 0) hx hb dX11_isTold_20 (by decide) ?_
      have e_1 := hf
      subst e_1
      exact J_21
    · have hf := if_t hf c_13
      refine lv_iconst (v := 1) hx hb dX11_isTold_16 (by decide) ?_
      refine lv_goto (tgt := 21) hx hb dX11_isTold_17 (by decide) ?_
      have e_1 := hf
      subst e_1
      exact J_21
set_option maxRecDepth 100000 in
theorem c_r_isTold {l : Launch} {sz : Nat} {D : va_G} {d : Nat → ClassId} {ad : Nat → Nat} {ba : Nat → Nat} {ta : Nat → Nat} {ra : Nat} {mb : Nat → Nat} {bestSet : Int32} {trace : Int64} {adK : Nat → Nat} {adV : Nat → Nat} {tW : Nat} {text : Nat → Int32} {typed : Int32} {at_ : Int32} {start : Int32} {sort : Int32} {value : Int32} {room : Nat → Int32} {work : Nat → Int32} {price : Nat → Int32} {whom : Nat → Int32} {bday : Nat → Int32} {units : Nat → Int32} {worth : Nat → Int32} {due : Nat → Int32} {under : Nat → Int32} {people : Int32} {askings : Int32} {hangs : Int32} {items : Int32} {k_ : Nat} {r : Int32} (hk : k_ < 3) (hf : r_isTold text at_ start k_ = some r) : MI l yX11_isTold (ws_ yX11_isTold cX11_isTold 4 (some .boolean)) { frames := 4, cells := 0, slots := 0, locals := 85 } D gcl (gty d) (fun U => NX U ∧ SN adK adV tW (rw_ d ad ba ta ra mb bestSet trace text typed at_ start sort value room work price whom bday units worth due under people askings hangs items) U) (rw_ d ad ba ta ra mb bestSet trace text typed at_ start sort value room work price whom bday units worth due under people askings hangs items) (rw_ d ad ba ta ra mb bestSet trace text typed at_ start sort value room work price whom bday units worth due under people askings hangs items) sz [.ref ra, .ref (adK k_)] r :=
  MI.of (by decide) [.ref ra, .ref (adK k_)] [(0, .ref ra), (1, .ref (adK k_))] (Nat.le_of_ble_eq_true rfl) rfl (fun p e s m below meth c ls Q hx hb hml hown hts hN hA hC hl K => w_r_isTold hx hb hml hown hts hN hk hA (Nat.le_refl _) (Nat.le_refl _) (Nat.le_refl _) (Nat.le_refl _) hf hC hl K)

def r_next_L0 (text : Nat → Int32) (typed : Int32) : Nat → Int32 → Option (Int32)
  | 0, _ => none
  | n_0 + 1, at__0 =>
  bnd (r_here text typed at__0) fun r_1 =>
  if r_1 = 32 then (r_next_L0 text typed n_0 (at__0 + 1)) else
  some at__0
theorem r_next_L0_s (text : Nat → Int32) (typed : Int32) (n_0 : Nat) (at__0 : Int32) : r_next_L0 text typed (n_0 + 1) at__0 = (
  bnd (r_here text typed at__0) fun r_1 =>
  if r_1 = 32 then (r_next_L0 text typed n_0 (at__0 + 1)) else
  some at__0) := rfl
def r_next_L150 (text : Nat → Int32) (typed : Int32) : Nat → Int32 → Int32 → Option (Int32 × Int32)
  | 0, _, _ => none
  | n_150 + 1, at__150, value_150 =>
  bnd (r_here text typed at__150) fun r_151 =>
  bnd (x_in r_151 48 57) fun r_158 =>
  if r_158 = 0 then (some (at__150, value_150)) else
  bnd (r_here text typed at__150) fun r_175 =>
  r_next_L150 text typed n_150 (at__150 + 1) (if ((10 * value_150) + r_175) - 48 < 100 then ((10 * value_150) + r_175) - 48 else 100)
theorem r_next_L150_s (text : Nat → Int32) (typed : Int32) (n_150 : Nat) (at__150 : Int32) (value_150 : Int32) : r_next_L150 text typed (n_150 + 1) at__150 value_150 = (
  bnd (r_here text typed at__150) fun r_151 =>
  bnd (x_in r_151 48 57) fun r_158 =>
  if r_158 = 0 then (some (at__150, value_150)) else
  bnd (r_here text typed at__150) fun r_175 =>
  r_next_L150 text typed n_150 (at__150 + 1) (if ((10 * value_150) + r_175) - 48 < 100 then ((10 * value_150) + r_175) - 48 else 100)) := rfl
def r_next_L63 (text : Nat → Int32) (typed : Int32) : Nat → Int32 → Option (Int32)
  | 0, _ => none
  | n_63 + 1, at__63 =>
  bnd (r_here text typed at__63) fun r_64 =>
  bnd (x_in r_64 97 122) fun r_71 =>
  if r_71 = 0 then (some at__63) else
  r_next_L63 text typed n_63 (at__63 + 1)
theorem r_next_L63_s (text : Nat → Int32) (typed : Int32) (n_63 : Nat) (at__63 : Int32) : r_next_L63 text typed (n_63 + 1) at__63 = (
  bnd (r_here text typed at__63) fun r_64 =>
  bnd (x_in r_64 97 122) fun r_71 =>
  if r_71 = 0 then (some at__63) else
  r_next_L63 text typed n_63 (at__63 + 1)) := rfl
def r_next_L98 (text : Nat → Int32) (at__90 : Int32) (at__22 : Int32) : Nat → Int32 → Int32 → Option (Int32)
  | 0, _, _ => none
  | n_98 + 1, x2_98, sort_98 =>
  if 3 ≤ x2_98 then (some sort_98) else
  ck x2_98 3 <| bnd (r_isTold text at__90 at__22 x2_98.toNatClampNeg) fun r_113 =>
  if r_113 = 0 then (r_next_L98 text at__90 at__22 n_98 (x2_98 + 1) sort_98) else
  r_next_L98 text at__90 at__22 n_98 (x2_98 + 1) x2_98
theorem r_next_L98_s (text : Nat → Int32) (at__90 : Int32) (at__22 : Int32) (n_98 : Nat) (x2_98 : Int32) (sort_98 : Int32) : r_next_L98 text at__90 at__22 (n_98 + 1) x2_98 sort_98 = (
  if 3 ≤ x2_98 then (some sort_98) else
  ck x2_98 3 <| bnd (r_isTold text at__90 at__22 x2_98.toNatClampNeg) fun r_113 =>
  if r_113 = 0 then (r_next_L98 text at__90 at__22 n_98 (x2_98 + 1) sort_98) else
  r_next_L98 text at__90 at__22 n_98 (x2_98 + 1) x2_98) := rfl
def r_next (text : Nat → Int32) (typed : Int32) (at_ : Int32) : Option (Int32 × Int32 × Int32 × Int32) :=
  bnd (r_next_L0 text typed g_fuel at_) (fun at__22 =>
  bnd (r_here text typed at__22) fun r_36 =>
  if 0 ≤ r_36 then (bnd (x_in r_36 97 122) fun r_57 =>
  if r_57 = 0 then (bnd (x_in r_36 48 57) fun r_144 =>
  if r_144 = 0 then (if r_36 = 59 then (some (at__22 + 1, at__22, 4, 0)) else
  some (at__22 + 1, at__22, 6, 0)) else
  bnd2 (r_next_L150 text typed g_fuel at__22 0) (fun at__201 value_201 =>
  if 99 < value_201 then (some (at__201, at__22, 6, value_201)) else
  if r_36 = 48 then (if (at__201 - at__22) ≤ 1 then (some (at__201, at__22, 3, value_201)) else
  some (at__201, at__22, 6, value_201)) else
  some (at__201, at__22, 3, value_201))) else
  bnd (r_next_L63 text typed g_fuel at__22) (fun at__90 =>
  bnd (r_next_L98 text at__90 at__22 g_fuel 0 6) (fun sort_136 =>
  some (at__90, at__22, sort_136, 0)))) else
  some (at__22, at__22, 5, 0))
set_option maxHeartbeats 4000000 in
set_option maxRecDepth 100000 in
theorem w_r_next {p : Program} {l : Launch} {e : Env} {R : Room} {s : State} {m : MethodId} {args : Array Value} {below : List Frame} {meth : Method} {c : Code} {H : Heap} {locs : List Loc} {cells slots : Nat} {Q : State → Prop} {A : Nat → Prop} {ls : Array Slot} {D : va_G} {d : Nat → ClassId} {ad : Nat → Nat} {ba : Nat → Nat} {ta : Nat → Nat} {ra : Nat} {mb : Nat → Nat} {bestSet : Int32} {trace : Int64} {adK : Nat → Nat} {adV : Nat → Nat} {tW : Nat} {text : Nat → Int32} {typed : Int32} {at_ : Int32} {start : Int32} {sort : Int32} {value : Int32} {room : Nat → Int32} {work : Nat → Int32} {price : Nat → Int32} {whom : Nat → Int32} {bday : Nat → Int32} {units : Nat → Int32} {worth : Nat → Int32} {due : Nat → Int32} {under : Nat → Int32} {people : Int32} {askings : Int32} {hangs : Int32} {items : Int32} {at__r : Int32} {start_r : Int32} {sort_r : Int32} {value_r : Int32} (hx : p.tables.exec = Jvm.exec) (hb : c.code = cX11_next) (hml : c.maxLocals = 3) (hown : s.vm.findClass RX11 = some m.cls) (hts : ∀ w ∈ lw_all, w.before args s = true) (hN : NX s ∧ SX adK adV tW A s s.heap) (hA : ∀ q, s.heap.size ≤ q → A q) (hRf : 5 ≤ R.frames) (hRl : 108 ≤ R.locals) (hRc : cells ≤ R.cells) (hRs : slots ≤ R.slots) (hf : r_next text typed at_ = some (at__r, start_r, sort_r, value_r)) (hC : HC D gcl (gty d) A (rw_ d ad ba ta ra mb bestSet trace text typed at_ start sort value room work price whom bday units worth due under people askings hangs items) s H locs) (hl : lv_has ls 3 [(0, .ref ra)]) (K : ∀ (H : Heap) (locs : List Loc) (ls : Array Slot) (pc : Nat), True → HC D gcl (gty d) A (rw_ d ad ba ta ra mb bestSet trace text typed at__r start_r sort_r value_r room work price whom bday units worth due under people askings hangs items) s H locs → decode cX11_next pc = .ok (.return_, 1) → W p l e R s m args below meth c H locs cells slots Q (F0 m pc ls [])) : W p l e R s m args below meth c H locs cells slots Q (F0 m 0 ls []) := by
  unfold r_next at hf
  obtain ⟨at__22, hL, hf⟩ := bnd_some hf
  have X_0 : ∀ (H : Heap) (locs : List Loc) (ls : Array Slot), HC D gcl (gty d) A (rw_ d ad ba ta ra mb bestSet trace text typed at__22 start sort value room work price whom bday units worth due under people askings hangs items) s H locs → lv_has ls 3 [(0, .ref ra)] → W p l e R s m args below meth c H locs cells slots Q (F0 m 22 ls []) := by
    intro H locs ls hC hl
    refine lv_aload_n hx hb dX11_next_22 rfl (lv_at hl 0 rfl) ?_
    refine lv_aload_n hx hb dX11_next_23 rfl (lv_at hl 0 rfl) ?_
    refine va_get (ci := 11) (v := .int at__22) (C := RX11) (T := TX11) (N := 6) hx hb hts in_X11 hown hC.1 hC.2.1 (2) rfl rfl 0 (by decide) (hts _ q378) (fun _ h9 => h9) rfl dX11_next_24 ?_
    refine va_put (ci := 11) (v := .int at__22) (ty := .int) (C := RX11) (T := TX11) (N := 6) hx hb hts in_X11 tyX11 tyX11_ok nmX11 hown hC.1 hC.2.1 hC.2.2.1 hC.2.2.2 (2) rfl rfl 1 (by decide) (hts _ q379) (fun _ h9 => h9) rfl (tyX11_ok 1 (by decide)) rfl rfl (Nat.le_of_ble_eq_true rfl) dX11_next_27 (fun H locs hP hD hS => ?_)
    have hC : HC D gcl (gty d) A (rw_ d ad ba ta ra mb bestSet trace text typed at__22 at__22 sort value room work price whom bday units worth due under people askings hangs items) s H locs := ⟨hC.1, hP, hD, hS⟩
    refine lv_aload_n hx hb dX11_next_30 rfl (lv_at hl 0 rfl) ?_
    refine lv_iconst (v := 0) hx hb dX11_next_31 (by decide) ?_
    refine va_put (ci := 11) (v := .int 0) (ty := .int) (C := RX11) (T := TX11) (N := 6) hx hb hts in_X11 tyX11 tyX11_ok nmX11 hown hC.1 hC.2.1 hC.2.2.1 hC.2.2.2 (2) rfl rfl 3 (by decide) (hts _ q381) (fun _ h9 => h9) rfl (tyX11_ok 3 (by decide)) rfl rfl (Nat.le_of_ble_eq_true rfl) dX11_next_32 (fun H locs hP hD hS => ?_)
    have hC : HC D gcl (gty d) A (rw_ d ad ba ta ra mb bestSet trace text typed at__22 at__22 sort 0 room work price whom bday units worth due under people askings hangs items) s H locs := ⟨hC.1, hP, hD, hS⟩
    refine lv_aload_n hx hb dX11_next_35 rfl (lv_at hl 0 rfl) ?_
    obtain ⟨r_36, hcall, hf⟩ := bnd_some hf
    refine hc_i (va_runV (C := RX11) (As := []) (rest := []) ⟨hx, hb, hml, hown, hts⟩ (c_r_here hcall) (cwV 0 hts (lw_V q405 q407 qs1 q60 q408) rfl rfl rfl (by decide +kernel) ⟨(Nat.le_trans (Nat.le_of_ble_eq_true rfl) hRf), (Nat.le_trans (Nat.le_of_ble_eq_true rfl) hRl)⟩) (pre_V (q0 := 2) (ci := 11) (fun U g mk a h => ⟨NX.calling U g mk a h.1, SN.calling U g mk a h.2⟩) (fun U hU hW => ⟨NX.warm hW hN.1, SN.warm hN.2 hC.2.2.2 (all_free hC.2.2.1 hC.2.2.2 hA) hU hW⟩) hC rfl rfl) rfl rfl hl.1 rfl (lv_room (Nat.le_of_ble_eq_true rfl)) dX11_next_36 ⟨hRc, hRs⟩) hA hC (fun H locs hC => ?_)
    refine lv_istore_n (lv' := [(1, .int r_36), (0, .ref ra)]) hx hb dX11_next_39 rfl hl (by decide) rfl (fun ls hl => ?_)
    refine lv_iload_n hx hb dX11_next_40 rfl (lv_at hl 0 rfl) ?_
    refine lv_if_ge (tgt := 52) hx hb dX11_next_41 (by decide) (fun c_41 => ?_) (fun c_41 => ?_)
    · have hf := if_t hf c_41
      refine lv_iload_n hx hb dX11_next_52 rfl (lv_at hl 0 rfl) ?_
      refine lv_bipush (v := 97) hx hb dX11_next_53 (by decide) ?_
      refine lv_bipush (v := 122) hx hb dX11_next_55 (by decide) ?_
      obtain ⟨r_57, hcall, hf⟩ := bnd_some hf
      refine hc_i (va_runSN (As := [.int r_36, .int 97, .int 122]) (rest := []) ⟨hx, hb, hml, hown, hts⟩ (c_x_in hcall) ⟨va_cnB 3 hts (lw_meth q360) rfl rfl rfl (hN.1.2.1 16) (hts _ q48) (by decide +kernel) ⟨(Nat.le_trans (Nat.le_of_ble_eq_true rfl) hRf), (Nat.le_trans (Nat.le_of_ble_eq_true rfl) hRl)⟩, hts _ q359, trivial⟩ (pre_S (fun _ _ _ _ h => h) (fun _ _ _ => trivial) hC) rfl rfl hl.1 rfl (lv_room (Nat.le_of_ble_eq_true rfl)) dX11_next_57 ⟨hRc, hRs⟩) hA hC (fun H locs hC => ?_)
      refine lv_if_eq (tgt := 139) hx hb dX11_next_60 (by decide) (fun c_60 => ?_) (fun c_60 => ?_)
      · have hf := if_t hf c_60
        refine lv_iload_n hx hb dX11_next_139 rfl (lv_at hl 0 rfl) ?_
        refine lv_bipush (v := 48) hx hb dX11_next_140 (by decide) ?_
        refine lv_bipush (v := 57) hx hb dX11_next_142 (by decide) ?_
        obtain ⟨r_144, hcall, hf⟩ := bnd_some hf
        refine hc_i (va_runSN (As := [.int r_36, .int 48, .int 57]) (rest := []) ⟨hx, hb, hml, hown, hts⟩ (c_x_in hcall) ⟨va_cnB 3 hts (lw_meth q360) rfl rfl rfl (hN.1.2.1 16) (hts _ q48) (by decide +kernel) ⟨(Nat.le_trans (Nat.le_of_ble_eq_true rfl) hRf), (Nat.le_trans (Nat.le_of_ble_eq_true rfl) hRl)⟩, hts _ q359, trivial⟩ (pre_S (fun _ _ _ _ h => h) (fun _ _ _ => trivial) hC) rfl rfl hl.1 rfl (lv_room (Nat.le_of_ble_eq_true rfl)) dX11_next_144 ⟨hRc, hRs⟩) hA hC (fun H locs hC => ?_)
        refine lv_if_eq (tgt := 242) hx hb dX11_next_147 (by decide) (fun c_147 => ?_) (fun c_147 => ?_)
        · have hf := if_t hf c_147
          refine lv_aload_n hx hb dX11_next_242 rfl (lv_at hl 1 rfl) ?_
          refine lv_dup hx hb dX11_next_243 rfl ?_
          refine va_get (ci := 11) (v := .int at__22) (C := RX11) (T := TX11) (N := 6) hx hb hts in_X11 hown hC.1 hC.2.1 (2) rfl rfl 0 (by decide) (hts _ q378) (fun _ h9 => h9) rfl dX11_next_244 ?_
          refine lv_iconst (v := 1) hx hb dX11_next_247 (by decide) ?_
          refine lv_iadd hx hb dX11_next_248 ?_
          refine va_put (ci := 11) (v := .int (at__22 + 1)) (ty := .int) (C := RX11) (T := TX11) (N := 6) hx hb hts in_X11 tyX11 tyX11_ok nmX11 hown hC.1 hC.2.1 hC.2.2.1 hC.2.2.2 (2) rfl rfl 0 (by decide) (hts _ q378) (fun _ h9 => h9) rfl (tyX11_ok 0 (by decide)) rfl rfl (Nat.le_of_ble_eq_true rfl) dX11_next_249 (fun H locs hP hD hS => ?_)
          have hC : HC D gcl (gty d) A (rw_ d ad ba ta ra mb bestSet trace text typed (at__22 + 1) at__22 sort 0 room work price whom bday units worth due under people askings hangs items) s H locs := ⟨hC.1, hP, hD, hS⟩
          refine lv_aload_n hx hb dX11_next_252 rfl (lv_at hl 1 rfl) ?_
          refine lv_iload_n hx hb dX11_next_253 rfl (lv_at hl 0 rfl) ?_
          refine lv_bipush (v := 59) hx hb dX11_next_254 (by decide) ?_
          refine lv_icmp_ne (tgt := 263) hx hb dX11_next_256 (by decide) (fun c_256 => ?_) (fun c_256 => ?_)
          · have hf := if_f hf c_256
            refine lv_bipush (v := 6) hx hb dX11_next_263 (by decide) ?_
            refine va_put (ci := 11) (v := .int 6) (ty := .int) (C := RX11) (T := TX11) (N := 6) hx hb hts in_X11 tyX11 tyX11_ok nmX11 hown hC.1 hC.2.1 hC.2.2.1 hC.2.2.2 (2) rfl rfl 2 (by decide) (hts _ q380) (fun _ h9 => h9) rfl (tyX11_ok 2 (by decide)) rfl rfl (Nat.le_of_ble_eq_true rfl) dX11_next_265 (fun H locs hP hD hS => ?_)
            have hC : HC D gcl (gty d) A (rw_ d ad ba ta ra mb bestSet trace text typed (at__22 + 1) at__22 6 0 room work price whom bday units worth due under people askings hangs items) s H locs := ⟨hC.1, hP, hD, hS⟩
            obtain ⟨e_1, e_2, e_3, e_4⟩ := so_4 (Option.some.inj hf)
            subst e_1
            subst e_2
            subst e_3
            subst e_4
            exact K H locs ls _ trivial hC dX11_next_268
          · have hf := if_t hf c_256
            refine lv_iconst (v := 4) hx hb dX11_next_259 (by decide) ?_
            refine lv_goto (tgt := 265) hx hb dX11_next_260 (by decide) ?_
            refine va_put (ci := 11) (v := .int 4) (ty := .int) (C := RX11) (T := TX11) (N := 6) hx hb hts in_X11 tyX11 tyX11_ok nmX11 hown hC.1 hC.2.1 hC.2.2.1 hC.2.2.2 (2) rfl rfl 2 (by decide) (hts _ q380) (fun _ h9 => h9) rfl (tyX11_ok 2 (by decide)) rfl rfl (Nat.le_of_ble_eq_true rfl) dX11_next_265 (fun H locs hP hD hS => ?_)
            have hC : HC D gcl (gty d) A (rw_ d ad ba ta ra mb bestSet trace text typed (at__22 + 1) at__22 4 0 room work price whom bday units worth due under people askings hangs items) s H locs := ⟨hC.1, hP, hD, hS⟩
            obtain ⟨e_1, e_2, e_3, e_4⟩ := so_4 (Option.some.inj hf)
            subst e_1
            subst e_2
            subst e_3
            subst e_4
            exact K H locs ls _ trivial hC dX11_next_268
        · have hf := if_f hf c_147
          obtain ⟨at__201, value_201, hL, hf⟩ := bnd2_some hf
          have X_150 : ∀ (H : Heap) (locs : List Loc) (ls : Array Slot), HC D gcl (gty d) A (rw_ d ad ba ta ra mb bestSet trace text typed at__201 at__22 sort value_201 room work price whom bday units worth due under people askings hangs items) s H locs → lv_has ls 3 [(0, .ref ra), (1, .int r_36)] → W p l e R s m args below meth c H locs cells slots Q (F0 m 201 ls []) := by
            intro H locs ls hC hl
            refine lv_aload_n hx hb dX11_next_201 rfl (lv_at hl 0 rfl) ?_
            refine lv_aload_n hx hb dX11_next_202 rfl (lv_at hl 0 rfl) ?_
            refine va_get (ci := 11) (v := .int value_201) (C := RX11) (T := TX11) (N := 6) hx hb hts in_X11 hown hC.1 hC.2.1 (2) rfl rfl 3 (by decide) (hts _ q381) (fun _ h9 => h9) rfl dX11_next_203 ?_
            refine lv_bipush (v := 99) hx hb dX11_next_206 (by decide) ?_
            refine lv_icmp_gt (tgt := 230) hx hb dX11_next_208 (by decide) (fun c_208 => ?_) (fun c_208 => ?_)
            · have hf := if_t hf c_208
              refine lv_bipush (v := 6) hx hb dX11_next_230 (by decide) ?_
              refine lv_goto (tgt := 236) hx hb dX11_next_232 (by decide) ?_
              refine va_put (ci := 11) (v := .int 6) (ty := .int) (C := RX11) (T := TX11) (N := 6) hx hb hts in_X11 tyX11 tyX11_ok nmX11 hown hC.1 hC.2.1 hC.2.2.1 hC.2.2.2 (2) rfl rfl 2 (by decide) (hts _ q380) (fun _ h9 => h9) rfl (tyX11_ok 2 (by decide)) rfl rfl (Nat.le_of_ble_eq_true rfl) dX11_next_236 (fun H locs hP hD hS => ?_)
              have hC : HC D gcl (gty d) A (rw_ d ad ba ta ra mb bestSet trace text typed at__201 at__22 6 value_201 room work price whom bday units worth due under people askings hangs items) s H locs := ⟨hC.1, hP, hD, hS⟩
              refine lv_goto (tgt := 268) hx hb dX11_next_239 (by decide) ?_
              obtain ⟨e_1, e_2, e_3, e_4⟩ := so_4 (Option.some.inj hf)
              subst e_1
              subst e_2
              subst e_3
              subst e_4
              exact K H locs ls _ trivial hC dX11_next_268
            · have hf := if_f hf c_208
              refine lv_iload_n hx hb dX11_next_211 rfl (lv_at hl 1 rfl) ?_
              refine lv_bipush (v := 48) hx hb dX11_next_212 (by decide) ?_
              refine lv_icmp_ne (tgt := 235) hx hb dX11_next_214 (by decide) (fun c_214 => ?_) (fun c_214 => ?_)
              · have hf := if_f hf c_214
                refine lv_iconst (v := 3) hx hb dX11_next_235 (by decide) ?_
                refine va_put (ci := 11) (v := .int 3) (ty := .int) (C := RX11) (T := TX11) (N := 6) hx hb hts in_X11 tyX11 tyX11_ok nmX11 hown hC.1 hC.2.1 hC.2.2.1 hC.2.2.2 (2) rfl rfl 2 (by decide) (hts _ q380) (fun _ h9 => h9) rfl (tyX11_ok 2 (by decide)) rfl rfl (Nat.le_of_ble_eq_true rfl) dX11_next_236 (fun H locs hP hD hS => ?_)
                have hC : HC D gcl (gty d) A (rw_ d ad ba ta ra mb bestSet trace text typed at__201 at__22 3 value_201 room work price whom bday units worth due under people askings hangs items) s H locs := ⟨hC.1, hP, hD, hS⟩
                refine lv_goto (tgt := 268) hx hb dX11_next_239 (by decide) ?_
                obtain ⟨e_1, e_2, e_3, e_4⟩ := so_4 (Option.some.inj hf)
                subst e_1
                subst e_2
                subst e_3
                subst e_4
                exact K H locs ls _ trivial hC dX11_next_268
              · have hf := if_t hf c_214
                refine lv_aload_n hx hb dX11_next_217 rfl (lv_at hl 0 rfl) ?_
                refine va_get (ci := 11) (v := .int at__201) (C := RX11) (T := TX11) (N := 6) hx hb hts in_X11 hown hC.1 hC.2.1 (2) rfl rfl 0 (by decide) (hts _ q378) (fun _ h9 => h9) rfl dX11_next_218 ?_
                refine lv_aload_n hx hb dX11_next_221 rfl (lv_at hl 0 rfl) ?_
                refine va_get (ci := 11) (v := .int at__22) (C := RX11) (T := TX11) (N := 6) hx hb hts in_X11 hown hC.1 hC.2.1 (2) rfl rfl 1 (by decide) (hts _ q379) (fun _ h9 => h9) rfl dX11_next_222 ?_
                refine lv_isub hx hb dX11_next_225 ?_
                refine lv_iconst (v := 1) hx hb dX11_next_226 (by decide) ?_
                refine lv_icmp_le (tgt := 235) hx hb dX11_next_227 (by decide) (fun c_227 => ?_) (fun c_227 => ?_)
                · have hf := if_t hf c_227
                  refine lv_iconst (v := 3) hx hb dX11_next_235 (by decide) ?_
                  refine va_put (ci := 11) (v := .int 3) (ty := .int) (C := RX11) (T := TX11) (N := 6) hx hb hts in_X11 tyX11 tyX11_ok nmX11 hown hC.1 hC.2.1 hC.2.2.1 hC.2.2.2 (2) rfl rfl 2 (by decide) (hts _ q380) (fun _ h9 => h9) rfl (tyX11_ok 2 (by decide)) rfl rfl (Nat.le_of_ble_eq_true rfl) dX11_next_236 (fun H locs hP hD hS => ?_)
                  have hC : HC D gcl (gty d) A (rw_ d ad ba ta ra mb bestSet trace text typed at__201 at__22 3 value_201 room work price whom bday units worth due under people askings hangs items) s H locs := ⟨hC.1, hP, hD, hS⟩
                  refine lv_goto (tgt := 268) hx hb dX11_next_239 (by decide) ?_
                  obtain ⟨e_1, e_2, e_3, e_4⟩ := so_4 (Option.some.inj hf)
                  subst e_1
                  subst e_2
                  subst e_3
                  subst e_4
                  exact K H locs ls _ trivial hC dX11_next_268
                · have hf := if_f hf c_227
                  refine lv_bipush (v := 6) hx hb dX11_next_230 (by decide) ?_
                  refine lv_goto (tgt := 236) hx hb dX11_next_232 (by decide) ?_
                  refine va_put (ci := 11) (v := .int 6) (ty := .int) (C := RX11) (T := TX11) (N := 6) hx hb hts in_X11 tyX11 tyX11_ok nmX11 hown hC.1 hC.2.1 hC.2.2.1 hC.2.2.2 (2) rfl rfl 2 (by decide) (hts _ q380) (fun _ h9 => h9) rfl (tyX11_ok 2 (by decide)) rfl rfl (Nat.le_of_ble_eq_true rfl) dX11_next_236 (fun H locs hP hD hS => ?_)
                  have hC : HC D gcl (gty d) A (rw_ d ad ba ta ra mb bestSet trace text typed at__201 at__22 6 value_201 room work price whom bday units worth due under people askings hangs items) s H locs := ⟨hC.1, hP, hD, hS⟩
                  refine lv_goto (tgt := 268) hx hb dX11_next_239 (by decide) ?_
                  obtain ⟨e_1, e_2, e_3, e_4⟩ := so_4 (Option.some.inj hf)
                  subst e_1
                  subst e_2
                  subst e_3
                  subst e_4
                  exact K H locs ls _ trivial hC dX11_next_268
          have L_150 : ∀ (n_150 : Nat) (at__150 : Int32) (value_150 : Int32), r_next_L150 text typed n_150 at__150 value_150 = some (at__201, value_201) → ∀ (H : Heap) (locs : List Loc) (ls : Array Slot), HC D gcl (gty d) A (rw_ d ad ba ta ra mb bestSet trace text typed at__150 at__22 sort value_150 room work price whom bday units worth due under people askings hangs items) s H locs → lv_has ls 3 [(0, .ref ra), (1, .int r_36)] → W p l e R s m args below meth c H locs cells slots Q (F0 m 150 ls []) := by
            intro n_150
            induction n_150 with
            | zero => intro _ _ hf; cases hf
            | succ n_150 ih =>
              intro at__150 value_150 hf H locs ls hC hl
              rw [r_next_L150_s] at hf
              refine lv_aload_n hx hb dX11_next_150 rfl (lv_at hl 0 rfl) ?_
              obtain ⟨r_151, hcall, hf⟩ := bnd_some hf
              refine hc_i (va_runV (C := RX11) (As := []) (rest := []) ⟨hx, hb, hml, hown, hts⟩ (c_r_here hcall) (cwV 0 hts (lw_V q405 q407 qs1 q60 q408) rfl rfl rfl (by decide +kernel) ⟨(Nat.le_trans (Nat.le_of_ble_eq_true rfl) hRf), (Nat.le_trans (Nat.le_of_ble_eq_true rfl) hRl)⟩) (pre_V (q0 := 2) (ci := 11) (fun U g mk a h => ⟨NX.calling U g mk a h.1, SN.calling U g mk a h.2⟩) (fun U hU hW => ⟨NX.warm hW hN.1, SN.warm hN.2 hC.2.2.2 (all_free hC.2.2.1 hC.2.2.2 hA) hU hW⟩) hC rfl rfl) rfl rfl hl.1 rfl (lv_room (Nat.le_of_ble_eq_true rfl)) dX11_next_151 ⟨hRc, hRs⟩) hA hC (fun H locs hC => ?_)
              refine lv_bipush (v := 48) hx hb dX11_next_154 (by decide) ?_
              refine lv_bipush (v := 57) hx hb dX11_next_156 (by decide) ?_
              obtain ⟨r_158, hcall, hf⟩ := bnd_some hf
              refine hc_i (va_runSN (As := [.int r_151, .int 48, .int 57]) (rest := []) ⟨hx, hb, hml, hown, hts⟩ (c_x_in hcall) ⟨va_cnB 3 hts (lw_meth q360) rfl rfl rfl (hN.1.2.1 16) (hts _ q48) (by decide +kernel) ⟨(Nat.le_trans (Nat.le_of_ble_eq_true rfl) hRf), (Nat.le_trans (Nat.le_of_ble_eq_true rfl) hRl)⟩, hts _ q359, trivial⟩ (pre_S (fun _ _ _ _ h => h) (fun _ _ _ => trivial) hC) rfl rfl hl.1 rfl (lv_room (Nat.le_of_ble_eq_true rfl)) dX11_next_158 ⟨hRc, hRs⟩) hA hC (fun H locs hC => ?_)
              refine lv_if_eq (tgt := 201) hx hb dX11_next_161 (by decide) (fun c_161 => ?_) (fun c_161 => ?_)
              · have hf := if_t hf c_161
                obtain ⟨e_1, e_2⟩ := so_2 (Option.some.inj hf)
                subst e_1
                subst e_2
                exact X_150 H locs ls hC (lv_sub hl [0, 1] rfl)
              · have hf := if_f hf c_161
                refine lv_aload_n hx hb dX11_next_164 rfl (lv_at hl 0 rfl) ?_
                refine lv_bipush (v := 100) hx hb dX11_next_165 (by decide) ?_
                refine lv_bipush (v := 10) hx hb dX11_next_167 (by decide) ?_
                refine lv_aload_n hx hb dX11_next_169 rfl (lv_at hl 0 rfl) ?_
                refine va_get (ci := 11) (v := .int value_150) (C := RX11) (T := TX11) (N := 6) hx hb hts in_X11 hown hC.1 hC.2.1 (2) rfl rfl 3 (by decide) (hts _ q381) (fun _ h9 => h9) rfl dX11_next_170 ?_
                refine lv_imul hx hb dX11_next_173 ?_
                refine lv_aload_n hx hb dX11_next_174 rfl (lv_at hl 0 rfl) ?_
                obtain ⟨r_175, hcall, hf⟩ := bnd_some hf
                refine hc_i (va_runV (C := RX11) (As := []) (rest := [.int (10 * value_150), .int 100, .ref ra]) ⟨hx, hb, hml, hown, hts⟩ (c_r_here hcall) (cwV 0 hts (lw_V q405 q407 qs1 q60 q408) rfl rfl rfl (by decide +kernel) ⟨(Nat.le_trans (Nat.le_of_ble_eq_true rfl) hRf), (Nat.le_trans (Nat.le_of_ble_eq_true rfl) hRl)⟩) (pre_V (q0 := 2) (ci := 11) (fun U g mk a h => ⟨NX.calling U g mk a h.1, SN.calling U g mk a h.2⟩) (fun U hU hW => ⟨NX.warm hW hN.1, SN.warm hN.2 hC.2.2.2 (all_free hC.2.2.1 hC.2.2.2 hA) hU hW⟩) hC rfl rfl) rfl rfl hl.1 rfl (lv_room (Nat.le_of_ble_eq_true rfl)) dX11_next_175 ⟨hRc, hRs⟩) hA hC (fun H locs hC => ?_)
                refine lv_iadd hx hb dX11_next_178 ?_
                refine lv_bipush (v := 48) hx hb dX11_next_179 (by decide) ?_
                refine lv_isub hx hb dX11_next_181 ?_
                refine va_mmin hx hb (by rw [hml]; exact hl.1.symm) hown (hts _ q464) (hts _ q465) (hts _ q65) (hts _ q466) (Nat.le_trans (Nat.le_of_ble_eq_true rfl) hRf) (Nat.le_trans (Nat.le_of_ble_eq_true rfl) hRl) hRc hRs dX11_next_182 ?_
                refine va_put (ci := 11) (v := .int (if ((10 * value_150) + r_175) - 48 < 100 then ((10 * value_150) + r_175) - 48 else 100)) (ty := .int) (C := RX11) (T := TX11) (N := 6) hx hb hts in_X11 tyX11 tyX11_ok nmX11 hown hC.1 hC.2.1 hC.2.2.1 hC.2.2.2 (2) rfl rfl 3 (by decide) (hts _ q381) (fun _ h9 => h9) rfl (tyX11_ok 3 (by decide)) rfl rfl (Nat.le_of_ble_eq_true rfl) dX11_next_185 (fun H locs hP hD hS => ?_)
                have hC : HC D gcl (gty d) A (rw_ d ad ba ta ra mb bestSet trace text typed at__150 at__22 sort (if ((10 * value_150) + r_175) - 48 < 100 then ((10 * value_150) + r_175) - 48 else 100) room work price whom bday units worth due under people askings hangs items) s H locs := ⟨hC.1, hP, hD, hS⟩
                refine lv_aload_n hx hb dX11_next_188 rfl (lv_at hl 0 rfl) ?_
                refine lv_dup hx hb dX11_next_189 rfl ?_
                refine va_get (ci := 11) (v := .int at__150) (C := RX11) (T := TX11) (N := 6) hx hb hts in_X11 hown hC.1 hC.2.1 (2) rfl rfl 0 (by decide) (hts _ q378) (fun _ h9 => h9) rfl dX11_next_190 ?_
                refine lv_iconst (v := 1) hx hb dX11_next_193 (by decide) ?_
                refine lv_iadd hx hb dX11_next_194 ?_
                refine va_put (ci := 11) (v := .int (at__150 + 1)) (ty := .int) (C := RX11) (T := TX11) (N := 6) hx hb hts in_X11 tyX11 tyX11_ok nmX11 hown hC.1 hC.2.1 hC.2.2.1 hC.2.2.2 (2) rfl rfl 0 (by decide) (hts _ q378) (fun _ h9 => h9) rfl (tyX11_ok 0 (by decide)) rfl rfl (Nat.le_of_ble_eq_true rfl) dX11_next_195 (fun H locs hP hD hS => ?_)
                have hC : HC D gcl (gty d) A (rw_ d ad ba ta ra mb bestSet trace text typed (at__150 + 1) at__22 sort (if ((10 * value_150) + r_175) - 48 < 100 then ((10 * value_150) + r_175) - 48 else 100) room work price whom bday units worth due under people askings hangs items) s H locs := ⟨hC.1, hP, hD, hS⟩
                refine lv_goto (tgt := 150) hx hb dX11_next_198 (by decide) ?_
                exact ih _ _ hf H locs ls hC (lv_sub hl [0, 1] rfl)
          exact L_150 _ _ _ hL H locs ls hC (lv_sub hl [1, 0] rfl)
      · have hf := if_f hf c_60
        obtain ⟨at__90, hL, hf⟩ := bnd_some hf
        have X_63 : ∀ (H : Heap) (locs : List Loc) (ls : Array Slot), HC D gcl (gty d) A (rw_ d ad ba ta ra mb bestSet trace text typed at__90 at__22 sort 0 room work price whom bday units worth due under people askings hangs items) s H locs → lv_has ls 3 [(0, .ref ra)] → W p l e R s m args below meth c H locs cells slots Q (F0 m 90 ls []) := by
          intro H locs ls hC hl
          refine lv_aload_n hx hb dX11_next_90 rfl (lv_at hl 0 rfl) ?_
          refine lv_bipush (v := 6) hx hb dX11_next_91 (by decide) ?_
          refine va_put (ci := 11) (v := .int 6) (ty := .int) (C := RX11) (T := TX11) (N := 6) hx hb hts in_X11 tyX11 tyX11_ok nmX11 hown hC.1 hC.2.1 hC.2.2.1 hC.2.2.2 (2) rfl rfl 2 (by decide) (hts _ q380) (fun _ h9 => h9) rfl (tyX11_ok 2 (by decide)) rfl rfl (Nat.le_of_ble_eq_true rfl) dX11_next_93 (fun H locs hP hD hS => ?_)
          have hC : HC D gcl (gty d) A (rw_ d ad ba ta ra mb bestSet trace text typed at__90 at__22 6 0 room work price whom bday units worth due under people askings hangs items) s H locs := ⟨hC.1, hP, hD, hS⟩
          refine lv_iconst (v := 0) hx hb dX11_next_96 (by decide) ?_
          refine lv_istore_n (lv' := [(2, .int 0), (0, .ref ra)]) hx hb dX11_next_97 rfl hl (by decide) rfl (fun ls hl => ?_)
          obtain ⟨sort_136, hL, hf⟩ := bnd_some hf
          have X_98 : ∀ (H : Heap) (locs : List Loc) (ls : Array Slot), HC D gcl (gty d) A (rw_ d ad ba ta ra mb bestSet trace text typed at__90 at__22 sort_136 0 room work price whom bday units worth due under people askings hangs items) s H locs → lv_has ls 3 [] → W p l e R s m args below meth c H locs cells slots Q (F0 m 136 ls []) := by
            intro H locs ls hC hl
            refine lv_goto (tgt := 268) hx hb dX11_next_136 (by decide) ?_
            obtain ⟨e_1, e_2, e_3, e_4⟩ := so_4 (Option.some.inj hf)
            subst e_1
            subst e_2
            subst e_3
            subst e_4
            exact K H locs ls _ trivial hC dX11_next_268
          have L_98 : ∀ (n_98 : Nat) (x2_98 : Int32) (sort_98 : Int32), r_next_L98 text at__90 at__22 n_98 x2_98 sort_98 = some sort_136 → ∀ (H : Heap) (locs : List Loc) (ls : Array Slot), HC D gcl (gty d) A (rw_ d ad ba ta ra mb bestSet trace text typed at__90 at__22 sort_98 0 room work price whom bday units worth due under people askings hangs items) s H locs → lv_has ls 3 [(0, .ref ra), (2, .int x2_98)] → W p l e R s m args below meth c H locs cells slots Q (F0 m 98 ls []) := by
            intro n_98
            induction n_98 with
            | zero => intro _ _ hf; cases hf
            | succ n_98 ih =>
              intro x2_98 sort_98 hf H locs ls hC hl
              rw [r_next_L98_s] at hf
              refine lv_iload_n hx hb dX11_next_98 rfl (lv_at hl 1 rfl) ?_
              refine va_getsN (host := "SleeveSlips") hx hb hN.2.2.2.2.1 hC.2.2.2 hown (va_Nw.use rfl (hN.1.1 58)) (fun _ h => h) dX11_next_99 ?_
              refine va_tlen (v := 3) hx hb hN.2.2.2.2.2.1 hC.2.2.2 rfl dX11_next_102 ?_
              refine lv_icmp_ge (tgt := 136) hx hb dX11_next_103 (by decide) (fun c_103 => ?_) (fun c_103 => ?_)
              · have hf := if_t hf c_103
                have e_1 := (Option.some.inj hf)
                subst e_1
                exact X_98 H locs ls hC (lv_sub hl [] rfl)
              · have hf := if_f hf c_103
                refine lv_aload_n hx hb dX11_next_106 rfl (lv_at hl 0 rfl) ?_
                refine lv_aload_n hx hb dX11_next_107 rfl (lv_at hl 0 rfl) ?_
                refine va_getsN (host := "SleeveSlips") hx hb hN.2.2.2.2.1 hC.2.2.2 hown (va_Nw.use rfl (hN.1.1 58)) (fun _ h => h) dX11_next_108 ?_
                refine lv_iload_n hx hb dX11_next_111 rfl (lv_at hl 1 rfl) ?_
                obtain ⟨hi_112, hf⟩ := ck_some hf
                refine vb_tq hx hb hN.2.2.2.2.2.1 hC.2.2.2 hi_112 rfl dX11_next_112 ?_
                obtain ⟨r_113, hcall, hf⟩ := bnd_some hf
                refine hc_i (va_runV (C := RX11) (As := [.ref (adK x2_98.toNatClampNeg)]) (rest := [.ref ra]) ⟨hx, hb, hml, hown, hts⟩ (c_r_isTold (vp_lt hi_112) hcall) (cwV 1 hts (lw_V q412 q414 qs2 q60 q415) rfl rfl rfl (by decide +kernel) ⟨(Nat.le_trans (Nat.le_of_ble_eq_true rfl) hRf), (Nat.le_trans (Nat.le_of_ble_eq_true rfl) hRl)⟩) (pre_V (q0 := 2) (ci := 11) (fun U g mk a h => ⟨NX.calling U g mk a h.1, SN.calling U g mk a h.2⟩) (fun U hU hW => ⟨NX.warm hW hN.1, SN.warm hN.2 hC.2.2.2 (all_free hC.2.2.1 hC.2.2.2 hA) hU hW⟩) hC rfl rfl) rfl rfl hl.1 rfl (lv_room (Nat.le_of_ble_eq_true rfl)) dX11_next_113 ⟨hRc, hRs⟩) hA hC (fun H locs hC => ?_)
                refine lv_if_eq (tgt := 123) hx hb dX11_next_116 (by decide) (fun c_116 => ?_) (fun c_116 => ?_)
                · have hf := if_t hf c_116
                  refine lv_aload_n hx hb dX11_next_123 rfl (lv_at hl 0 rfl) ?_
                  refine va_get (ci := 11) (v := .int sort_98) (C := RX11) (T := TX11) (N := 6) hx hb hts in_X11 hown hC.1 hC.2.1 (2) rfl rfl 2 (by decide) (hts _ q380) (fun _ h9 => h9) rfl dX11_next_124 ?_
                  refine va_put (ci := 11) (v := .int sort_98) (ty := .int) (C := RX11) (T := TX11) (N := 6) hx hb hts in_X11 tyX11 tyX11_ok nmX11 hown hC.1 hC.2.1 hC.2.2.1 hC.2.2.2 (2) rfl rfl 2 (by decide) (hts _ q380) (fun _ h9 => h9) rfl (tyX11_ok 2 (by decide)) rfl rfl (Nat.le_of_ble_eq_true rfl) dX11_next_127 (fun H locs hP hD hS => ?_)
                  have hC : HC D gcl (gty d) A (rw_ d ad ba ta ra mb bestSet trace text typed at__90 at__22 sort_98 0 room work price whom bday units worth due under people askings hangs items) s H locs := ⟨hC.1, hP, hD, hS⟩
                  refine lv_iinc (v := x2_98 + 1) (lv' := [(2, .int (x2_98 + 1)), (0, .ref ra)]) hx hb dX11_next_130 hl (k := 1) rfl rfl (by decide) rfl (fun ls hl => ?_)
                  refine lv_goto (tgt := 98) hx hb dX11_next_133 (by decide) ?_
                  exact ih _ _ hf H locs ls hC (lv_sub hl [1, 0] rfl)
                · have hf := if_f hf c_116
                  refine lv_iload_n hx hb dX11_next_119 rfl (lv_at hl 1 rfl) ?_
                  refine lv_goto (tgt := 127) hx hb dX11_next_120 (by decide) ?_
                  refine va_put (ci := 11) (v := .int x2_98) (ty := .int) (C := RX11) (T := TX11) (N := 6) hx hb hts in_X11 tyX11 tyX11_ok nmX11 hown hC.1 hC.2.1 hC.2.2.1 hC.2.2.2 (2) rfl rfl 2 (by decide) (hts _ q380) (fun _ h9 => h9) rfl (tyX11_ok 2 (by decide)) rfl rfl (Nat.le_of_ble_eq_true rfl) dX11_next_127 (fun H locs hP hD hS => ?_)
                  have hC : HC D gcl (gty d) A (rw_ d ad ba ta ra mb bestSet trace text typed at__90 at__22 x2_98 0 room work price whom bday units worth due under people askings hangs items) s H locs := ⟨hC.1, hP, hD, hS⟩
                  refine lv_iinc (v := x2_98 + 1) (lv' := [(2, .int (x2_98 + 1)), (0, .ref ra)]) hx hb dX11_next_130 hl (k := 1) rfl rfl (by decide) rfl (fun ls hl => ?_)
                  refine lv_goto (tgt := 98) hx hb dX11_next_133 (by decide) ?_
                  exact ih _ _ hf H locs ls hC (lv_sub hl [1, 0] rfl)
          exact L_98 _ _ _ hL H locs ls hC (lv_sub hl [1, 0] rfl)
        have L_63 : ∀ (n_63 : Nat) (at__63 : Int32), r_next_L63 text typed n_63 at__63 = some at__90 → ∀ (H : Heap) (locs : List Loc) (ls : Array Slot), HC D gcl (gty d) A (rw_ d ad ba ta ra mb bestSet trace text typed at__63 at__22 sort 0 room work price whom bday units worth due under people askings hangs items) s H locs → lv_has ls 3 [(0, .ref ra)] → W p l e R s m args below meth c H locs cells slots Q (F0 m 63 ls []) := by
          intro n_63
          induction n_63 with
          | zero => intro _ hf; cases hf
          | succ n_63 ih =>
            intro at__63 hf H locs ls hC hl
            rw [r_next_L63_s] at hf
            refine lv_aload_n hx hb dX11_next_63 rfl (lv_at hl 0 rfl) ?_
            obtain ⟨r_64, hcall, hf⟩ := bnd_some hf
            refine hc_i (va_runV (C := RX11) (As := []) (rest := []) ⟨hx, hb, hml, hown, hts⟩ (c_r_here hcall) (cwV 0 hts (lw_V q405 q407 qs1 q60 q408) rfl rfl rfl (by decide +kernel) ⟨(Nat.le_trans (Nat.le_of_ble_eq_true rfl) hRf), (Nat.le_trans (Nat.le_of_ble_eq_true rfl) hRl)⟩) (pre_V (q0 := 2) (ci := 11) (fun U g mk a h => ⟨NX.calling U g mk a h.1, SN.calling U g mk a h.2⟩) (fun U hU hW => ⟨NX.warm hW hN.1, SN.warm hN.2 hC.2.2.2 (all_free hC.2.2.1 hC.2.2.2 hA) hU hW⟩) hC rfl rfl) rfl rfl hl.1 rfl (lv_room (Nat.le_of_ble_eq_true rfl)) dX11_next_64 ⟨hRc, hRs⟩) hA hC (fun H locs hC => ?_)
            refine lv_bipush (v := 97) hx hb dX11_next_67 (by decide) ?_
            refine lv_bipush (v := 122) hx hb dX11_next_69 (by decide) ?_
            obtain ⟨r_71, hcall, hf⟩ := bnd_some hf
            refine hc_i (va_runSN (As := [.int r_64, .int 97, .int 122]) (rest := []) ⟨hx, hb, hml, hown, hts⟩ (c_x_in hcall) ⟨va_cnB 3 hts (lw_meth q360) rfl rfl rfl (hN.1.2.1 16) (hts _ q48) (by decide +kernel) ⟨(Nat.le_trans (Nat.le_of_ble_eq_true rfl) hRf), (Nat.le_trans (Nat.le_of_ble_eq_true rfl) hRl)⟩, hts _ q359, trivial⟩ (pre_S (fun _ _ _ _ h => h) (fun _ _ _ => trivial) hC) rfl rfl hl.1 rfl (lv_room (Nat.le_of_ble_eq_true rfl)) dX11_next_71 ⟨hRc, hRs⟩) hA hC (fun H locs hC => ?_)
            refine lv_if_eq (tgt := 90) hx hb dX11_next_74 (by decide) (fun c_74 => ?_) (fun c_74 => ?_)
            · have hf := if_t hf c_74
              have e_1 := (Option.some.inj hf)
              subst e_1
              exact X_63 H locs ls hC (lv_sub hl [0] rfl)
            · have hf := if_f hf c_74
              refine lv_aload_n hx hb dX11_next_77 rfl (lv_at hl 0 rfl) ?_
              refine lv_dup hx hb dX11_next_78 rfl ?_
              refine va_get (ci := 11) (v := .int at__63) (C := RX11) (T := TX11) (N := 6) hx hb hts in_X11 hown hC.1 hC.2.1 (2) rfl rfl 0 (by decide) (hts _ q378) (fun _ h9 => h9) rfl dX11_next_79 ?_
              refine lv_iconst (v := 1) hx hb dX11_next_82 (by decide) ?_
              refine lv_iadd hx hb dX11_next_83 ?_
              refine va_put (ci := 11) (v := .int (at__63 + 1)) (ty := .int) (C := RX11) (T := TX11) (N := 6) hx hb hts in_X11 tyX11 tyX11_ok nmX11 hown hC.1 hC.2.1 hC.2.2.1 hC.2.2.2 (2) rfl rfl 0 (by decide) (hts _ q378) (fun _ h9 => h9) rfl (tyX11_ok 0 (by decide)) rfl rfl (Nat.le_of_ble_eq_true rfl) dX11_next_84 (fun H locs hP hD hS => ?_)
              have hC : HC D gcl (gty d) A (rw_ d ad ba ta ra mb bestSet trace text typed (at__63 + 1) at__22 sort 0 room work price whom bday units worth due under people askings hangs items) s H locs := ⟨hC.1, hP, hD, hS⟩
              refine lv_goto (tgt := 63) hx hb dX11_next_87 (by decide) ?_
              exact ih _ hf H locs ls hC (lv_sub hl [0] rfl)
        exact L_63 _ _ hL H locs ls hC (lv_sub hl [1] rfl)
    · have hf := if_f hf c_41
      refine lv_aload_n hx hb dX11_next_44 rfl (lv_at hl 1 rfl) ?_
      refine lv_iconst (v := 5) hx hb dX11_next_45 (by decide) ?_
      refine va_put (ci := 11) (v := .int 5) (ty := .int) (C := RX11) (T := TX11) (N := 6) hx hb hts in_X11 tyX11 tyX11_ok nmX11 hown hC.1 hC.2.1 hC.2.2.1 hC.2.2.2 (2) rfl rfl 2 (by decide) (hts _ q380) (fun _ h9 => h9) rfl (tyX11_ok 2 (by decide)) rfl rfl (Nat.le_of_ble_eq_true rfl) dX11_next_46 (fun H locs hP hD hS => ?_)
      have hC : HC D gcl (gty d) A (rw_ d ad ba ta ra mb bestSet trace text typed at__22 at__22 5 0 room work price whom bday units worth due under people askings hangs items) s H locs := ⟨hC.1, hP, hD, hS⟩
      refine lv_goto (tgt := 268) hx hb dX11_next_49 (by decide) ?_
      obtain ⟨e_1, e_2, e_3, e_4⟩ := so_4 (Option.some.inj hf)
      subst e_1
      subst e_2
      subst e_3
      subst e_4
      exact K H locs ls _ trivial hC dX11_next_268
  have L_0 : ∀ (n_0 : Nat) (at__0 : Int32), r_next_L0 text typed n_0 at__0 = some at__22 → ∀ (H : Heap) (locs : List Loc) (ls : Array Slot), HC D gcl (gty d) A (rw_ d ad ba ta ra mb bestSet trace text typed at__0 start sort value room work price whom bday units worth due under people askings hangs items) s H locs → lv_has ls 3 [(0, .ref ra)] → W p l e R s m args below meth c H locs cells slots Q (F0 m 0 ls []) := by
    intro n_0
    induction n_0 with
    | zero => intro _ hf; cases hf
    | succ n_0 ih =>
      intro at__0 hf H locs ls hC hl
      rw [r_next_L0_s] at hf
      refine lv_aload_n hx hb dX11_next_0 rfl (lv_at hl 0 rfl) ?_
      obtain ⟨r_1, hcall, hf⟩ := bnd_some hf
      refine hc_i (va_runV (C := RX11) (As := []) (rest := []) ⟨hx, hb, hml, hown, hts⟩ (c_r_here hcall) (cwV 0 hts (lw_V q405 q407 qs1 q60 q408) rfl rfl rfl (by decide +kernel) ⟨(Nat.le_trans (Nat.le_of_ble_eq_true rfl) hRf), (Nat.le_trans (Nat.le_of_ble_eq_true rfl) hRl)⟩) (pre_V (q0 := 2) (ci := 11) (fun U g mk a h => ⟨NX.calling U g mk a h.1, SN.calling U g mk a h.2⟩) (fun U hU hW => ⟨NX.warm hW hN.1, SN.warm hN.2 hC.2.2.2 (all_free hC.2.2.1 hC.2.2.2 hA) hU hW⟩) hC rfl rfl) rfl rfl hl.1 rfl (lv_room (Nat.le_of_ble_eq_true rfl)) dX11_next_1 ⟨hRc, hRs⟩) hA hC (fun H locs hC => ?_)
      refine lv_bipush (v := 32) hx hb dX11_next_4 (by decide) ?_
      refine lv_icmp_ne (tgt := 22) hx hb dX11_next_6 (by decide) (fun c_6 => ?_) (fun c_6 => ?_)
      · have hf := if_f hf c_6
        have e_1 := (Option.some.inj hf)
        subst e_1
        exact X_0 H locs ls hC (lv_sub hl [0] rfl)
      · have hf := if_t hf c_6
        refine lv_aload_n hx hb dX11_next_9 rfl (lv_at hl 0 rfl) ?_
        refine lv_dup hx hb dX11_next_10 rfl ?_
        refine va_get (ci := 11) (v := .int at__0) (C := RX11) (T := TX11) (N := 6) hx hb hts in_X11 hown hC.1 hC.2.1 (2) rfl rfl 0 (by decide) (hts _ q378) (fun _ h9 => h9) rfl dX11_next_11 ?_
        refine lv_iconst (v := 1) hx hb dX11_next_14 (by decide) ?_
        refine lv_iadd hx hb dX11_next_15 ?_
        refine va_put (ci := 11) (v := .int (at__0 + 1)) (ty := .int) (C := RX11) (T := TX11) (N := 6) hx hb hts in_X11 tyX11 tyX11_ok nmX11 hown hC.1 hC.2.1 hC.2.2.1 hC.2.2.2 (2) rfl rfl 0 (by decide) (hts _ q378) (fun _ h9 => h9) rfl (tyX11_ok 0 (by decide)) rfl rfl (Nat.le_of_ble_eq_true rfl) dX11_next_16 (fun H locs hP hD hS => ?_)
        have hC : HC D gcl (gty d) A (rw_ d ad ba ta ra mb bestSet trace text typed (at__0 + 1) start sort value room work price whom bday units worth due under people askings hangs items) s H locs := ⟨hC.1, hP, hD, hS⟩
        refine lv_goto (tgt := 0) hx hb dX11_next_19 (by decide) ?_
        exact ih _ hf H locs ls hC (lv_sub hl [0] rfl)
  exact L_0 _ _ hL H locs ls hC (lv_sub hl [0] rfl)
set_option maxRecDepth 100000 in
theorem c_r_next {l : Launch} {sz : Nat} {D : va_G} {d : Nat → ClassId} {ad : Nat → Nat} {ba : Nat → Nat} {ta : Nat → Nat} {ra : Nat} {mb : Nat → Nat} {bestSet : Int32} {trace : Int64} {adK : Nat → Nat} {adV : Nat → Nat} {tW : Nat} {text : Nat → Int32} {typed : Int32} {at_ : Int32} {start : Int32} {sort : Int32} {value : Int32} {room : Nat → Int32} {work : Nat → Int32} {price : Nat → Int32} {whom : Nat → Int32} {bday : Nat → Int32} {units : Nat → Int32} {worth : Nat → Int32} {due : Nat → Int32} {under : Nat → Int32} {people : Int32} {askings : Int32} {hangs : Int32} {items : Int32} {at__r : Int32} {start_r : Int32} {sort_r : Int32} {value_r : Int32} (hf : r_next text typed at_ = some (at__r, start_r, sort_r, value_r)) : MV l yX11_next (ws_ yX11_next cX11_next 3 none) { frames := 5, cells := 0, slots := 0, locals := 108 } D gcl (gty d) (fun U => NX U ∧ SN adK adV tW (rw_ d ad ba ta ra mb bestSet trace text typed at_ start sort value room work price whom bday units worth due under people askings hangs items) U) (rw_ d ad ba ta ra mb bestSet trace text typed at_ start sort value room work price whom bday units worth due under people askings hangs items) (rw_ d ad ba ta ra mb bestSet trace text typed at__r start_r sort_r value_r room work price whom bday units worth due under people askings hangs items) sz [.ref ra] :=
  MV.of (by decide) [.ref ra] [(0, .ref ra)] (Nat.le_of_ble_eq_true rfl) rfl (fun p e s m below meth c ls Q hx hb hml hown hts hN hA hC hl K => w_r_next hx hb hml hown hts hN hA (Nat.le_refl _) (Nat.le_refl _) (Nat.le_refl _) (Nat.le_refl _) hf hC hl K)

def r_may (people : Int32) (askings : Int32) (hangs : Int32) (x1 : Int32) : Option (Int32) :=
  if x1 = 0 then (if 4 ≤ people then (some 0) else
  some 1) else
  if x1 = 1 then (if 8 ≤ askings then (some 0) else
  some 1) else
  if x1 = 2 then (if 8 ≤ hangs then (some 0) else
  some 1) else
  some 0
set_option maxHeartbeats 4000000 in
set_option maxRecDepth 100000 in
theorem w_r_may {p : Program} {l : Launch} {e : Env} {R : Room} {s : State} {m : MethodId} {args : Array Value} {below : List Frame} {meth : Method} {c : Code} {H : Heap} {locs : List Loc} {cells slots : Nat} {Q : State → Prop} {A : Nat → Prop} {ls : Array Slot} {D : va_G} {d : Nat → ClassId} {ad : Nat → Nat} {ba : Nat → Nat} {ta : Nat → Nat} {ra : Nat} {mb : Nat → Nat} {bestSet : Int32} {trace : Int64} {adK : Nat → Nat} {adV : Nat → Nat} {tW : Nat} {text : Nat → Int32} {typed : Int32} {at_ : Int32} {start : Int32} {sort : Int32} {value : Int32} {room : Nat → Int32} {work : Nat → Int32} {price : Nat → Int32} {whom : Nat → Int32} {bday : Nat → Int32} {units : Nat → Int32} {worth : Nat → Int32} {due : Nat → Int32} {under : Nat → Int32} {people : Int32} {askings : Int32} {hangs : Int32} {items : Int32} {x1 : Int32} {r : Int32} (hx : p.tables.exec = Jvm.exec) (hb : c.code = cX11_may) (hml : c.maxLocals = 2) (hown : s.vm.findClass RX11 = some m.cls) (hts : ∀ w ∈ lw_all, w.before args s = true) (hN : NX s ∧ SX adK adV tW A s s.heap) (hA : ∀ q, s.heap.size ≤ q → A q) (hRf : 0 ≤ R.frames) (hRl : 0 ≤ R.locals) (hRc : cells ≤ R.cells) (hRs : slots ≤ R.slots) (hf : r_may people askings hangs x1 = some r) (hC : HC D gcl (gty d) A (rw_ d ad ba ta ra mb bestSet trace text typed at_ start sort value room work price whom bday units worth due under people askings hangs items) s H locs) (hl : lv_has ls 2 [(0, .ref ra), (1, .int x1)]) (K : ∀ (H : Heap) (locs : List Loc) (ls : Array Slot) (pc : Nat), narrow .boolean (.int r) = .int r → HC D gcl (gty d) A (rw_ d ad ba ta ra mb bestSet trace text typed at_ start sort value room work price whom bday units worth due under people askings hangs items) s H locs → decode cX11_may pc = .ok (.ireturn, 1) → W p l e R s m args below meth c H locs cells slots Q (F0 m pc ls [.int r])) : W p l e R s m args below meth c H locs cells slots Q (F0 m 0 ls []) := by
  unfold r_may at hf
  refine lv_iload_n hx hb dX11_may_0 rfl (lv_at hl 1 rfl) ?_
  refine lv_if_ne (tgt := 23) hx hb dX11_may_1 (by decide) (fun c_1 => ?_) (fun c_1 => ?_)
  · have hf := if_f hf c_1
    refine lv_iload_n hx hb dX11_may_23 rfl (lv_at hl 1 rfl) ?_
    refine lv_iconst (v := 1) hx hb dX11_may_24 (by decide) ?_
    refine lv_icmp_ne (tgt := 48) hx hb dX11_may_25 (by decide) (fun c_25 => ?_) (fun c_25 => ?_)
    · have hf := if_f hf c_25
      refine lv_iload_n hx hb dX11_may_48 rfl (lv_at hl 1 rfl) ?_
      refine lv_iconst (v := 2) hx hb dX11_may_49 (by decide) ?_
      refine lv_icmp_ne (tgt := 69) hx hb dX11_may_50 (by decide) (fun c_50 => ?_) (fun c_50 => ?_)
      · have hf := if_f hf c_50
        refine lv_iconst (v := 0) hx hb dX11_may_69 (by decide) ?_
        have e_1 := (Option.some.inj hf)
        subst e_1
        exact K H locs ls _ rfl hC dX11_may_70
      · have hf := if_t hf c_50
        refine lv_aload_n hx hb dX11_may_53 rfl (lv_at hl 0 rfl) ?_
        refine va_get (ci := 11) (v := .ref (mb 0)) (C := RX11) (T := TX11) (N := 6) hx hb hts in_X11 hown hC.1 hC.2.1 (2) rfl rfl 4 (by decide) (hts _ q382) (fun _ h9 => h9) rfl dX11_may_54 ?_
        refine va_getN (ci := 1) (v := .int hangs) (C := RX1) (T := TX1) (N := 13) (host := "SleeveSlips") hx hb hts in_X1 hown hC.1 hC.2.1 (3) rfl rfl 11 (by decide) (va_Nw.use rfl (hN.1.1 24)) (fun _ h9 => h9) rfl dX11_may_57 ?_
        refine lv_bipush (v := 8) hx hb dX11_may_60 (by decide) ?_
        refine lv_icmp_ge (tgt := 69) hx hb dX11_may_62 (by decide) (fun c_62 => ?_) (fun c_62 => ?_)
        · have hf := if_t hf c_62
          refine lv_iconst (v := 0) hx hb dX11_may_69 (by decide) ?_
          have e_1 := (Option.some.inj hf)
          subst e_1
          exact K H locs ls _ rfl hC dX11_may_70
        · have hf := if_f hf c_62
          refine lv_iconst (v := 1) hx hb dX11_may_65 (by decide) ?_
          refine lv_goto (tgt := 70) hx hb dX11_may_66 (by decide) ?_
          have e_1 := (Option.some.inj hf)
          subst e_1
          exact K H locs ls _ rfl hC dX11_may_70
    · have hf := if_t hf c_25
      refine lv_aload_n hx hb dX11_may_28 rfl (lv_at hl 0 rfl) ?_
      refine va_get (ci := 11) (v := .ref (mb 0)) (C := RX11) (T := TX11) (N := 6) hx hb hts in_X11 hown hC.1 hC.2.1 (2) rfl rfl 4 (by decide) (hts _ q382) (fun _ h9 => h9) rfl dX11_may_29 ?_
      refine va_getN (ci := 1) (v := .int askings) (C := RX1) (T := TX1) (N := 13) (host := "SleeveSlips") hx hb hts in_X1 hown hC.1 hC.2.1 (3) rfl rfl 10 (by decide) (va_Nw.use rfl (hN.1.1 23)) (fun _ h9 => h9) rfl dX11_may_32 ?_
      refine lv_bipush (v := 8) hx hb dX11_may_35 (by decide) ?_
      refine lv_icmp_ge (tgt := 44) hx hb dX11_may_37 (by decide) (fun c_37 => ?_) (fun c_37 => ?_)
      · have hf := if_t hf c_37
        refine lv_iconst (v := 0) hx hb dX11_may_44 (by decide) ?_
        refine lv_goto (tgt := 70) hx hb dX11_may_45 (by decide) ?_
        have e_1 := (Option.some.inj hf)
        subst e_1
        exact K H locs ls _ rfl hC dX11_may_70
      · have hf := if_f hf c_37
        refine lv_iconst (v := 1) hx hb dX11_may_40 (by decide) ?_
        refine lv_goto (tgt := 70) hx hb dX11_may_41 (by decide) ?_
        have e_1 := (Option.some.inj hf)
        subst e_1
        exact K H locs ls _ rfl hC dX11_may_70
  · have hf := if_t hf c_1
    refine lv_aload_n hx hb dX11_may_4 rfl (lv_at hl 0 rfl) ?_
    refine va_get (ci := 11) (v := .ref (mb 0)) (C := RX11) (T := TX11) (N := 6) hx hb hts in_X11 hown hC.1 hC.2.1 (2) rfl rfl 4 (by decide) (hts _ q382) (fun _ h9 => h9) rfl dX11_may_5 ?_
    refine va_getN (ci := 1) (v := .int people) (C := RX1) (T := TX1) (N := 13) (host := "SleeveSlips") hx hb hts in_X1 hown hC.1 hC.2.1 (3) rfl rfl 9 (by decide) (va_Nw.use rfl (hN.1.1 21)) (fun _ h9 => h9) rfl dX11_may_8 ?_
    refine lv_iconst (v := 4) hx hb dX11_may_11 (by decide) ?_
    refine lv_icmp_ge (tgt := 19) hx hb dX11_may_12 (by decide) (fun c_12 => ?_) (fun c_12 => ?_)
    · have hf := if_t hf c_12
      refine lv_iconst (v := 0) hx hb dX11_may_19 (by decide) ?_
      refine lv_goto (tgt := 70) hx hb dX11_may_20 (by decide) ?_
      have e_1 := (Option.some.inj hf)
      subst e_1
      exact K H locs ls _ rfl hC dX11_may_70
    · have hf := if_f hf c_12
      refine lv_iconst (v := 1) hx hb dX11_may_15 (by decide) ?_
      refine lv_goto (tgt := 70) hx hb dX11_may_16 (by decide) ?_
      have e_1 := (Option.some.inj hf)
      subst e_1
      exact K H locs ls _ rfl hC dX11_may_70
set_option maxRecDepth 100000 in
theorem c_r_may {l : Launch} {sz : Nat} {D : va_G} {d : Nat → ClassId} {ad : Nat → Nat} {ba : Nat → Nat} {ta : Nat → Nat} {ra : Nat} {mb : Nat → Nat} {bestSet : Int32} {trace : Int64} {adK : Nat → Nat} {adV : Nat → Nat} {tW : Nat} {text : Nat → Int32} {typed : Int32} {at_ : Int32} {start : Int32} {sort : Int32} {value : Int32} {room : Nat → Int32} {work : Nat → Int32} {price : Nat → Int32} {whom : Nat → Int32} {bday : Nat → Int32} {units : Nat → Int32} {worth : Nat → Int32} {due : Nat → Int32} {under : Nat → Int32} {people : Int32} {askings : Int32} {hangs : Int32} {items : Int32} {x1 : Int32} {r : Int32} (hf : r_may people askings hangs x1 = some r) : MI l yX11_may (ws_ yX11_may cX11_may 2 (some .boolean)) { frames := 0, cells := 0, slots := 0, locals := 0 } D gcl (gty d) (fun U => NX U ∧ SN adK adV tW (rw_ d ad ba ta ra mb bestSet trace text typed at_ start sort value room work price whom bday units worth due under people askings hangs items) U) (rw_ d ad ba ta ra mb bestSet trace text typed at_ start sort value room work price whom bday units worth due under people askings hangs items) (rw_ d ad ba ta ra mb bestSet trace text typed at_ start sort value room work price whom bday units worth due under people askings hangs items) sz [.ref ra, .int x1] r :=
  MI.of (by decide) [.ref ra, .int x1] [(0, .ref ra), (1, .int x1)] (Nat.le_of_ble_eq_true rfl) rfl (fun p e s m below meth c ls Q hx hb hml hown hts hN hA hC hl K => w_r_may hx hb hml hown hts hN hA (Nat.le_refl _) (Nat.le_refl _) (Nat.le_refl _) (Nat.le_refl _) hf hC hl K)

def r_due (text : Nat → Int32) (typed : Int32) (at_ : Int32) (start : Int32) (value : Int32) (x1 : Int32) : Option (Int32 ⊕ (Int32 × Int32 × Int32 × Int32 × Int32)) :=
  if x1 = 0 then (some (.inl start)) else
  bnd4 (r_next text typed at_) fun at__22 start_22 sort_22 value_22 =>
  some (.inr (value, at__22, start_22, sort_22, value_22))
set_option maxHeartbeats 4000000 in
set_option maxRecDepth 100000 in
theorem w_r_due {p : Program} {l : Launch} {e : Env} {R : Room} {s : State} {m : MethodId} {args : Array Value} {below : List Frame} {meth : Method} {c : Code} {H : Heap} {locs : List Loc} {cells slots : Nat} {Q : State → Prop} {A : Nat → Prop} {ls : Array Slot} {D : va_G} {d : Nat → ClassId} {ad : Nat → Nat} {ba : Nat → Nat} {ta : Nat → Nat} {ra : Nat} {mb : Nat → Nat} {bestSet : Int32} {trace : Int64} {adK : Nat → Nat} {adV : Nat → Nat} {tW : Nat} {text : Nat → Int32} {typed : Int32} {at_ : Int32} {start : Int32} {sort : Int32} {value : Int32} {room : Nat → Int32} {work : Nat → Int32} {price : Nat → Int32} {whom : Nat → Int32} {bday : Nat → Int32} {units : Nat → Int32} {worth : Nat → Int32} {due : Nat → Int32} {under : Nat → Int32} {people : Int32} {askings : Int32} {hangs : Int32} {items : Int32} {x1 : Int32} {r : Int32} {at__r : Int32} {start_r : Int32} {sort_r : Int32} {value_r : Int32} (hx : p.tables.exec = Jvm.exec) (hb : c.code = cX11_due) (hml : c.maxLocals = 3) (hown : s.vm.findClass RX11 = some m.cls) (hts : ∀ w ∈ lw_all, w.before args s = true) (hN : NX s ∧ SX adK adV tW A s s.heap) (hA : ∀ q, s.heap.size ≤ q → A q) (hRf : 6 ≤ R.frames) (hRl : 130 ≤ R.locals) (hRc : cells ≤ R.cells) (hRs : slots ≤ R.slots) (hf : r_due text typed at_ start value x1 = some (.inr (r, at__r, start_r, sort_r, value_r))) (hC : HC D gcl (gty d) A (rw_ d ad ba ta ra mb bestSet trace text typed at_ start sort value room work price whom bday units worth due under people askings hangs items) s H locs) (hl : lv_has ls 3 [(0, .ref ra), (1, .int x1)]) (K : ∀ (H : Heap) (locs : List Loc) (ls : Array Slot) (pc : Nat), narrow .int (.int r) = .int r → HC D gcl (gty d) A (rw_ d ad ba ta ra mb bestSet trace text typed at__r start_r sort_r value_r room work price whom bday units worth due under people askings hangs items) s H locs → decode cX11_due pc = .ok (.ireturn, 1) → W p l e R s m args below meth c H locs cells slots Q (F0 m pc ls [.int r])) : W p l e R s m args below meth c H locs cells slots Q (F0 m 0 ls []) := by
  unfold r_due at hf
  refine lv_iload_n hx hb dX11_due_0 rfl (lv_at hl 1 rfl) ?_
  refine lv_if_ne (tgt := 16) hx hb dX11_due_1 (by decide) (fun c_1 => ?_) (fun c_1 => ?_)
  · have hf := if_f hf c_1
    refine lv_aload_n hx hb dX11_due_16 rfl (lv_at hl 0 rfl) ?_
    refine va_get (ci := 11) (v := .int value) (C := RX11) (T := TX11) (N := 6) hx hb hts in_X11 hown hC.1 hC.2.1 (2) rfl rfl 3 (by decide) (hts _ q381) (fun _ h9 => h9) rfl dX11_due_17 ?_
    refine lv_istore_n (lv' := [(2, .int value), (0, .ref ra), (1, .int x1)]) hx hb dX11_due_20 rfl hl (by decide) rfl (fun ls hl => ?_)
    refine lv_aload_n hx hb dX11_due_21 rfl (lv_at hl 1 rfl) ?_
    obtain ⟨at__22, start_22, sort_22, value_22, hcall, hf⟩ := bnd4_some hf
    refine hc_v (va_runV (C := RX11) (As := []) (rest := []) ⟨hx, hb, hml, hown, hts⟩ (c_r_next hcall) (cwV 0 hts (lw_V q401 q403 qs0 q60 q404) rfl rfl rfl (by decide +kernel) ⟨(Nat.le_trans (Nat.le_of_ble_eq_true rfl) hRf), (Nat.le_trans (Nat.le_of_ble_eq_true rfl) hRl)⟩) (pre_V (q0 := 2) (ci := 11) (fun U g mk a h => ⟨NX.calling U g mk a h.1, SN.calling U g mk a h.2⟩) (fun U hU hW => ⟨NX.warm hW hN.1, SN.warm hN.2 hC.2.2.2 (all_free hC.2.2.1 hC.2.2.2 hA) hU hW⟩) hC rfl rfl) rfl rfl hl.1 rfl (lv_room (Nat.le_of_ble_eq_true rfl)) dX11_due_22 ⟨hRc, hRs⟩) hA hC (fun H locs hC => ?_)
    have hC : HC D gcl (gty d) A (rw_ d ad ba ta ra mb bestSet trace text typed at__22 start_22 sort_22 value_22 room work price whom bday units worth due under people askings hangs items) s H locs := hC
    refine lv_iload_n hx hb dX11_due_25 rfl (lv_at hl 0 rfl) ?_
    have hf := congrArg some (Sum.inr.inj (Option.some.inj hf))
    obtain ⟨e_1, e_2, e_3, e_4, e_5⟩ := so_5 (Option.some.inj hf)
    subst e_1
    subst e_2
    subst e_3
    subst e_4
    subst e_5
    exact K H locs ls _ rfl hC dX11_due_26
  · have hf := if_t hf c_1
    cases hf
set_option maxRecDepth 100000 in
theorem c_r_due {l : Launch} {sz : Nat} {D : va_G} {d : Nat → ClassId} {ad : Nat → Nat} {ba : Nat → Nat} {ta : Nat → Nat} {ra : Nat} {mb : Nat → Nat} {bestSet : Int32} {trace : Int64} {adK : Nat → Nat} {adV : Nat → Nat} {tW : Nat} {text : Nat → Int32} {typed : Int32} {at_ : Int32} {start : Int32} {sort : Int32} {value : Int32} {room : Nat → Int32} {work : Nat → Int32} {price : Nat → Int32} {whom : Nat → Int32} {bday : Nat → Int32} {units : Nat → Int32} {worth : Nat → Int32} {due : Nat → Int32} {under : Nat → Int32} {people : Int32} {askings : Int32} {hangs : Int32} {items : Int32} {x1 : Int32} {r : Int32} {at__r : Int32} {start_r : Int32} {sort_r : Int32} {value_r : Int32} (hf : r_due text typed at_ start value x1 = some (.inr (r, at__r, start_r, sort_r, value_r))) : MI l yX11_due (ws_ yX11_due cX11_due 3 (some .int)) { frames := 6, cells := 0, slots := 0, locals := 130 } D gcl (gty d) (fun U => NX U ∧ SN adK adV tW (rw_ d ad ba ta ra mb bestSet trace text typed at_ start sort value room work price whom bday units worth due under people askings hangs items) U) (rw_ d ad ba ta ra mb bestSet trace text typed at_ start sort value room work price whom bday units worth due under people askings hangs items) (rw_ d ad ba ta ra mb bestSet trace text typed at__r start_r sort_r value_r room work price whom bday units worth due under people askings hangs items) sz [.ref ra, .int x1] r :=
  MI.of (by decide) [.ref ra, .int x1] [(0, .ref ra), (1, .int x1)] (Nat.le_of_ble_eq_true rfl) rfl (fun p e s m below meth c ls Q hx hb hml hown hts hN hA hC hl K => w_r_due hx hb hml hown hts hN hA (Nat.le_refl _) (Nat.le_refl _) (Nat.le_refl _) (Nat.le_refl _) hf hC hl K)
set_option maxHeartbeats 4000000 in
set_option maxRecDepth 100000 in
theorem wt_r_due {p : Program} {l : Launch} {e : Env} {R : Room} {s : State} {m : MethodId} {args : Array Value} {below : List Frame} {meth : Method} {c : Code} {H : Heap} {locs : List Loc} {cells slots : Nat} {Q : State → Prop} {A : Nat → Prop} {ls : Array Slot} {D : va_G} {d : Nat → ClassId} {ad : Nat → Nat} {ba : Nat → Nat} {ta : Nat → Nat} {ra : Nat} {mb : Nat → Nat} {bestSet : Int32} {trace : Int64} {adK : Nat → Nat} {adV : Nat → Nat} {tW : Nat} {text : Nat → Int32} {typed : Int32} {at_ : Int32} {start : Int32} {sort : Int32} {value : Int32} {room : Nat → Int32} {work : Nat → Int32} {price : Nat → Int32} {whom : Nat → Int32} {bday : Nat → Int32} {units : Nat → Int32} {worth : Nat → Int32} {due : Nat → Int32} {under : Nat → Int32} {people : Int32} {askings : Int32} {hangs : Int32} {items : Int32} {x1 : Int32} {st_ : Int32} (hx : p.tables.exec = Jvm.exec) (hb : c.code = cX11_due) (hml : c.maxLocals = 3) (hown : s.vm.findClass RX11 = some m.cls) (hts : ∀ w ∈ lw_all, w.before args s = true) (hN : NX s ∧ SX adK adV tW A s s.heap) (hA : ∀ q, s.heap.size ≤ q → A q) (hne : c.exceptionTable.toList = []) (hlocks : meth.locks = false) (hRf : 6 ≤ R.frames) (hRl : 130 ≤ R.locals) (hRc1 : cells + 1 ≤ R.cells) (hRs1 : slots + 7 ≤ R.slots) (hf : r_due text typed at_ start value x1 = some (.inl st_)) (hC : HC D gcl (gty d) A (rw_ d ad ba ta ra mb bestSet trace text typed at_ start sort value room work price whom bday units worth due under people askings hangs items) s H locs) (hl : lv_has ls 3 [(0, .ref ra), (1, .int x1)]) (KT : ∀ (H : Heap) (locs : List Loc) (x : Addr), HC D gcl (gty d) A (rwt d ad ba ta bestSet trace text typed st_ x) s H locs → WT p l e R s m args below meth c H locs (cells + 1) (slots + 7) Q x) : W p l e R s m args below meth c H locs cells slots Q (F0 m 0 ls []) := by
  have hRc : cells ≤ R.cells := Nat.le_trans (Nat.le_add_right _ _) hRc1
  have hRs : slots ≤ R.slots := Nat.le_trans (Nat.le_add_right _ _) hRs1
  unfold r_due at hf
  refine lv_iload_n hx hb dX11_due_0 rfl (lv_at hl 1 rfl) ?_
  refine lv_if_ne (tgt := 16) hx hb dX11_due_1 (by decide) (fun c_1 => ?_) (fun c_1 => ?_)
  · have hf := if_f hf c_1
    refine lv_aload_n hx hb dX11_due_16 rfl (lv_at hl 0 rfl) ?_
    refine va_get (ci := 11) (v := .int value) (C := RX11) (T := TX11) (N := 6) hx hb hts in_X11 hown hC.1 hC.2.1 (2) rfl rfl 3 (by decide) (hts _ q381) (fun _ h9 => h9) rfl dX11_due_17 ?_
    refine lv_istore_n (lv' := [(2, .int value), (0, .ref ra), (1, .int x1)]) hx hb dX11_due_20 rfl hl (by decide) rfl (fun ls hl => ?_)
    refine lv_aload_n hx hb dX11_due_21 rfl (lv_at hl 1 rfl) ?_
    obtain ⟨at__22, start_22, sort_22, value_22, hcall, hf⟩ := bnd4_some hf
    refine hc_v (va_runV (C := RX11) (As := []) (rest := []) ⟨hx, hb, hml, hown, hts⟩ (c_r_next hcall) (cwV 0 hts (lw_V q401 q403 qs0 q60 q404) rfl rfl rfl (by decide +kernel) ⟨(Nat.le_trans (Nat.le_of_ble_eq_true rfl) hRf), (Nat.le_trans (Nat.le_of_ble_eq_true rfl) hRl)⟩) (pre_V (q0 := 2) (ci := 11) (fun U g mk a h => ⟨NX.calling U g mk a h.1, SN.calling U g mk a h.2⟩) (fun U hU hW => ⟨NX.warm hW hN.1, SN.warm hN.2 hC.2.2.2 (all_free hC.2.2.1 hC.2.2.2 hA) hU hW⟩) hC rfl rfl) rfl rfl hl.1 rfl (lv_room (Nat.le_of_ble_eq_true rfl)) dX11_due_22 ⟨hRc, hRs⟩) hA hC (fun H locs hC => ?_)
    have hC : HC D gcl (gty d) A (rw_ d ad ba ta ra mb bestSet trace text typed at__22 start_22 sort_22 value_22 room work price whom bday units worth due under people askings hangs items) s H locs := hC
    refine lv_iload_n hx hb dX11_due_25 rfl (lv_at hl 0 rfl) ?_
    cases hf
  · have hf := if_t hf c_1
    have e_1 := Sum.inl.inj (Option.some.inj hf)
    subst e_1
    refine va_new (ci := 12) (fs := [.null, .null, .null, .null, .null, .int 0, .int 0]) (C := RX12) (T := TX12) (N := 7) hx hb hts in_X12 tyX12 tyX12_ok hown (hts _ q475) (hts _ q476) (hts _ q69) hC.1 hC.2.1 hC.2.2.1 hC.2.2.2 hA rfl (fun j hj => match j, hj with | 0, _ => rfl | 1, _ => rfl | 2, _ => rfl | 3, _ => rfl | 4, _ => rfl | 5, _ => rfl | 6, _ => rfl) hRc1 hRs1 dX11_due_4 (fun q H hP hD hS => ?_)
    have hC : HC D gcl (gty d) A ((rw_ d ad ba ta ra mb bestSet trace text typed at_ start sort value room work price whom bday units worth due under people askings hangs items) ++ ([wrw q 0] ++ [])) s H locs := ⟨hC.1, hP, hD, hS⟩
    refine lv_dup hx hb dX11_due_7 rfl ?_
    refine lv_aload_n hx hb dX11_due_8 rfl (lv_at hl 0 rfl) ?_
    refine va_get (ci := 11) (v := .int start) (C := RX11) (T := TX11) (N := 6) hx hb hts in_X11 hown hC.1 hC.2.1 2 rfl rfl 1 (by decide) (hts _ q379) (fun _ h9 => h9) rfl dX11_due_9 ?_
    refine hs_v (va_runI (As := [.int start]) (rest := [.ref q]) ⟨hx, hb, hml, hown, hts⟩ c_x_wrong (cwI 1 hts (lw_meth q516) rfl rfl rfl (hts _ q69) (hts _ q514) (hts _ q515) rfl (by decide +kernel) ⟨Nat.le_trans (Nat.le_of_ble_eq_true rfl) hRf, Nat.le_trans (Nat.le_of_ble_eq_true rfl) hRl⟩) (pre_SG SN.calling (fun U hU hW => SN.warm hN.2 hC.2.2.2 (seg_free hC.2.2.1 hC.2.2.2 hA) hU hW) hC) rfl rfl hl.1 rfl (lv_room (Nat.le_of_ble_eq_true rfl)) dX11_due_12 ⟨hRc1, hRs1⟩) hA hC (fun H locs hC => ?_)
    exact w_athrow hx hb hne hlocks dX11_due_15 (KT H locs q (hC.perm [0, 1, 13] rfl (by decide) rfl))
set_option maxRecDepth 100000 in
theorem ct_r_due {l : Launch} {sz : Nat} {D : va_G} {d : Nat → ClassId} {ad : Nat → Nat} {ba : Nat → Nat} {ta : Nat → Nat} {ra : Nat} {mb : Nat → Nat} {bestSet : Int32} {trace : Int64} {adK : Nat → Nat} {adV : Nat → Nat} {tW : Nat} {text : Nat → Int32} {typed : Int32} {at_ : Int32} {start : Int32} {sort : Int32} {value : Int32} {room : Nat → Int32} {work : Nat → Int32} {price : Nat → Int32} {whom : Nat → Int32} {bday : Nat → Int32} {units : Nat → Int32} {worth : Nat → Int32} {due : Nat → Int32} {under : Nat → Int32} {people : Int32} {askings : Int32} {hangs : Int32} {items : Int32} {x1 : Int32} {st_ : Int32} (hf : r_due text typed at_ start value x1 = some (.inl st_)) : MT l yX11_due (ws_ yX11_due cX11_due 3 (some .int)) { frames := 6, cells := 1, slots := 7, locals := 130 } D gcl (gty d) (fun U => NX U ∧ SN adK adV tW (rw_ d ad ba ta ra mb bestSet trace text typed at_ start sort value room work price whom bday units worth due under people askings hangs items) U) (rw_ d ad ba ta ra mb bestSet trace text typed at_ start sort value room work price whom bday units worth due under people askings hangs items) (fun x => rwt d ad ba ta bestSet trace text typed st_ x) sz [.ref ra, .int x1] 1 7 :=
  MT.of (by decide) [.ref ra, .int x1] [(0, .ref ra), (1, .int x1)] (Nat.le_of_ble_eq_true rfl) rfl (fun p e s m below meth c ls Q hx hb hml hown hts hN hA hne hlocks hC hl KT => wt_r_due hx hb hml hown hts hN hA hne hlocks (Nat.le_refl _) (Nat.le_refl _) (Nat.le_refl _) (Nat.le_refl _) hf hC hl KT)

def r_number (text : Nat → Int32) (typed : Int32) (at_ : Int32) (start : Int32) (sort : Int32) (value : Int32) (x1 : Int32) (x2 : Int32) : Option (Int32 ⊕ (Int32 × Int32 × Int32 × Int32 × Int32)) :=
  bnd (if sort = 3 then (bnd (x_in value x1 x2) fun r_15 =>
  if r_15 = 0 then (some (0)) else
  some (1)) else
  some (0)) (fun (t_26 : Int32) =>
  bndE5 (r_due text typed at_ start value t_26) fun r_26 at__26 start_26 sort_26 value_26 =>
  some (.inr (r_26, at__26, start_26, sort_26, value_26)))
set_option maxHeartbeats 4000000 in
set_option maxRecDepth 100000 in
theorem w_r_number {p : Program} {l : Launch} {e : Env} {R : Room} {s : State} {m : MethodId} {args : Array Value} {below : List Frame} {meth : Method} {c : Code} {H : Heap} {locs : List Loc} {cells slots : Nat} {Q : State → Prop} {A : Nat → Prop} {ls : Array Slot} {D : va_G} {d : Nat → ClassId} {ad : Nat → Nat} {ba : Nat → Nat} {ta : Nat → Nat} {ra : Nat} {mb : Nat → Nat} {bestSet : Int32} {trace : Int64} {adK : Nat → Nat} {adV : Nat → Nat} {tW : Nat} {text : Nat → Int32} {typed : Int32} {at_ : Int32} {start : Int32} {sort : Int32} {value : Int32} {room : Nat → Int32} {work : Nat → Int32} {price : Nat → Int32} {whom : Nat → Int32} {bday : Nat → Int32} {units : Nat → Int32} {worth : Nat → Int32} {due : Nat → Int32} {under : Nat → Int32} {people : Int32} {askings : Int32} {hangs : Int32} {items : Int32} {x1 : Int32} {x2 : Int32} {r : Int32} {at__r : Int32} {start_r : Int32} {sort_r : Int32} {value_r : Int32} (hx : p.tables.exec = Jvm.exec) (hb : c.code = cX11_number) (hml : c.maxLocals = 3) (hown : s.vm.findClass RX11 = some m.cls) (hts : ∀ w ∈ lw_all, w.before args s = true) (hN : NX s ∧ SX adK adV tW A s s.heap) (hA : ∀ q, s.heap.size ≤ q → A q) (hRf : 7 ≤ R.frames) (hRl : 152 ≤ R.locals) (hRc : cells ≤ R.cells) (hRs : slots ≤ R.slots) (hf : r_number text typed at_ start sort value x1 x2 = some (.inr (r, at__r, start_r, sort_r, value_r))) (hC : HC D gcl (gty d) A (rw_ d ad ba ta ra mb bestSet trace text typed at_ start sort value room work price whom bday units worth due under people askings hangs items) s H locs) (hl : lv_has ls 3 [(0, .ref ra), (1, .int x1), (2, .int x2)]) (K : ∀ (H : Heap) (locs : List Loc) (ls : Array Slot) (pc : Nat), narrow .int (.int r) = .int r → HC D gcl (gty d) A (rw_ d ad ba ta ra mb bestSet trace text typed at__r start_r sort_r value_r room work price whom bday units worth due under people askings hangs items) s H locs → decode cX11_number pc = .ok (.ireturn, 1) → W p l e R s m args below meth c H locs cells slots Q (F0 m pc ls [.int r])) : W p l e R s m args below meth c H locs cells slots Q (F0 m 0 ls []) := by
  unfold r_number at hf
  refine lv_aload_n hx hb dX11_number_0 rfl (lv_at hl 0 rfl) ?_
  refine lv_aload_n hx hb dX11_number_1 rfl (lv_at hl 0 rfl) ?_
  refine va_get (ci := 11) (v := .int sort) (C := RX11) (T := TX11) (N := 6) hx hb hts in_X11 hown hC.1 hC.2.1 (2) rfl rfl 2 (by decide) (hts _ q380) (fun _ h9 => h9) rfl dX11_number_2 ?_
  refine lv_iconst (v := 3) hx hb dX11_number_5 (by decide) ?_
  obtain ⟨t_26, hj, hf⟩ := bnd_some hf
  have J_26 : ∀ (H : Heap) (locs : List Loc) (ls : Array Slot), HC D gcl (gty d) A (rw_ d ad ba ta ra mb bestSet trace text typed at_ start sort value room work price whom bday units worth due under people askings hangs items) s H locs → lv_has ls 3 [] → W p l e R s m args below meth c H locs cells slots Q (F0 m 26 ls [.int t_26, .ref ra]) := by
    intro H locs ls hC hl
    obtain ⟨r_26, at__26, start_26, sort_26, value_26, hcall, hf⟩ := bndE5_some hf
    refine hc_i (va_runV (C := RX11) (As := [.int t_26]) (rest := []) ⟨hx, hb, hml, hown, hts⟩ (c_r_due hcall) (cwV 1 hts (lw_V q471 q473 qs4 q60 q474) rfl rfl rfl (by decide +kernel) ⟨(Nat.le_trans (Nat.le_of_ble_eq_true rfl) hRf), (Nat.le_trans (Nat.le_of_ble_eq_true rfl) hRl)⟩) (pre_V (q0 := 2) (ci := 11) (fun U g mk a h => ⟨NX.calling U g mk a h.1, SN.calling U g mk a h.2⟩) (fun U hU hW => ⟨NX.warm hW hN.1, SN.warm hN.2 hC.2.2.2 (all_free hC.2.2.1 hC.2.2.2 hA) hU hW⟩) hC rfl rfl) rfl rfl hl.1 rfl (lv_room (Nat.le_of_ble_eq_true rfl)) dX11_number_26 ⟨hRc, hRs⟩) hA hC (fun H locs hC => ?_)
    have hC : HC D gcl (gty d) A (rw_ d ad ba ta ra mb bestSet trace text typed at__26 start_26 sort_26 value_26 room work price whom bday units worth due under people askings hangs items) s H locs := hC
    have hf := congrArg some (Sum.inr.inj (Option.some.inj hf))
    obtain ⟨e_1, e_2, e_3, e_4, e_5⟩ := so_5 (Option.some.inj hf)
    subst e_1
    subst e_2
    subst e_3
    subst e_4
    subst e_5
    exact K H locs ls _ rfl hC dX11_number_29
  have hf := hj
  refine lv_icmp_ne (tgt := 25) hx hb dX11_number_6 (by decide) (fun c_6 => ?_) (fun c_6 => ?_)
  · have hf := if_f hf c_6
    refine lv_iconst (v := 0) hx hb dX11_number_25 (by decide) ?_
    have e_1 := (Option.some.inj hf)
    subst e_1
    exact J_26 H locs ls hC (lv_sub hl [] rfl)
  · have hf := if_t hf c_6
    refine lv_aload_n hx hb dX11_number_9 rfl (lv_at hl 0 rfl) ?_
    refine va_get (ci := 11) (v := .int value) (C := RX11) (T := TX11) (N := 6) hx hb hts in_X11 hown hC.1 hC.2.1 (2) rfl rfl 3 (by decide) (hts _ q381) (fun _ h9 => h9) rfl dX11_number_10 ?_
    refine lv_iload_n hx hb dX11_number_13 rfl (lv_at hl 1 rfl) ?_
    refine lv_iload_n hx hb dX11_number_14 rfl (lv_at hl 2 rfl) ?_
    obtain ⟨r_15, hcall, hf⟩ := bnd_some hf
    refine hc_i (va_runSN (As := [.int value, .int x1, .int x2]) (rest := [.ref ra]) ⟨hx, hb, hml, hown, hts⟩ (c_x_in hcall) ⟨va_cnB 3 hts (lw_meth q360) rfl rfl rfl (hN.1.2.1 16) (hts _ q48) (by decide +kernel) ⟨(Nat.le_trans (Nat.le_of_ble_eq_true rfl) hRf), (Nat.le_trans (Nat.le_of_ble_eq_true rfl) hRl)⟩, hts _ q359, trivial⟩ (pre_S (fun _ _ _ _ h => h) (fun _ _ _ => trivial) hC) rfl rfl hl.1 rfl (lv_room (Nat.le_of_ble_eq_true rfl)) dX11_number_15 ⟨hRc, hRs⟩) hA hC (fun H locs hC => ?_)
    refine lv_if_eq (tgt := 25) hx hb dX11_number_18 (by decide) (fun c_18 => ?_) (fun c_18 => ?_)
    · have hf := if_t hf c_18
      refine lv_iconst (v := 0) hx hb dX11_number_25 (by decide) ?_
      have e_1 := (Option.some.inj hf)
      subst e_1
      exact J_26 H locs ls hC (lv_sub hl [] rfl)
    · have hf := if_f hf c_18
      refine lv_iconst (v := 1) hx hb dX11_number_21 (by decide) ?_
      refine lv_goto (tgt := 26) hx hb dX11_number_22 (by decide) ?_
      have e_1 := (Option.some.inj hf)
      subst e_1
      exact J_26 H locs ls hC (lv_sub hl [] rfl)
set_option maxRecDepth 100000 in
theorem c_r_number {l : Launch} {sz : Nat} {D : va_G} {d : Nat → ClassId} {ad : Nat → Nat} {ba : Nat → Nat} {ta : Nat → Nat} {ra : Nat} {mb : Nat → Nat} {bestSet : Int32} {trace : Int64} {adK : Nat → Nat} {adV : Nat → Nat} {tW : Nat} {text : Nat → Int32} {typed : Int32} {at_ : Int32} {start : Int32} {sort : Int32} {value : Int32} {room : Nat → Int32} {work : Nat → Int32} {price : Nat → Int32} {whom : Nat → Int32} {bday : Nat → Int32} {units : Nat → Int32} {worth : Nat → Int32} {due : Nat → Int32} {under : Nat → Int32} {people : Int32} {askings : Int32} {hangs : Int32} {items : Int32} {x1 : Int32} {x2 : Int32} {r : Int32} {at__r : Int32} {start_r : Int32} {sort_r : Int32} {value_r : Int32} (hf : r_number text typed at_ start sort value x1 x2 = some (.inr (r, at__r, start_r, sort_r, value_r))) : MI l yX11_number (ws_ yX11_number cX11_number 3 (some .int)) { frames := 7, cells := 0, slots := 0, locals := 152 } D gcl (gty d) (fun U => NX U ∧ SN adK adV tW (rw_ d ad ba ta ra mb bestSet trace text typed at_ start sort value room work price whom bday units worth due under people askings hangs items) U) (rw_ d ad ba ta ra mb bestSet trace text typed at_ start sort value room work price whom bday units worth due under people askings hangs items) (rw_ d ad ba ta ra mb bestSet trace text typed at__r start_r sort_r value_r room work price whom bday units worth due under people askings hangs items) sz [.ref ra, .int x1, .int x2] r :=
  MI.of (by decide) [.ref ra, .int x1, .int x2] [(0, .ref ra), (1, .int x1), (2, .int x2)] (Nat.le_of_ble_eq_true rfl) rfl (fun p e s m below meth c ls Q hx hb hml hown hts hN hA hC hl K => w_r_number hx hb hml hown hts hN hA (Nat.le_refl _) (Nat.le_refl _) (Nat.le_refl _) (Nat.le_refl _) hf hC hl K)
set_option maxHeartbeats 4000000 in
set_option maxRecDepth 100000 in
theorem wt_r_number {p : Program} {l : Launch} {e : Env} {R : Room} {s : State} {m : MethodId} {args : Array Value} {below : List Frame} {meth : Method} {c : Code} {H : Heap} {locs : List Loc} {cells slots : Nat} {Q : State → Prop} {A : Nat → Prop} {ls : Array Slot} {D : va_G} {d : Nat → ClassId} {ad : Nat → Nat} {ba : Nat → Nat} {ta : Nat → Nat} {ra : Nat} {mb : Nat → Nat} {bestSet : Int32} {trace : Int64} {adK : Nat → Nat} {adV : Nat → Nat} {tW : Nat} {text : Nat → Int32} {typed : Int32} {at_ : Int32} {start : Int32} {sort : Int32} {value : Int32} {room : Nat → Int32} {work : Nat → Int32} {price : Nat → Int32} {whom : Nat → Int32} {bday : Nat → Int32} {units : Nat → Int32} {worth : Nat → Int32} {due : Nat → Int32} {under : Nat → Int32} {people : Int32} {askings : Int32} {hangs : Int32} {items : Int32} {x1 : Int32} {x2 : Int32} {st_ : Int32} (hx : p.tables.exec = Jvm.exec) (hb : c.code = cX11_number) (hml : c.maxLocals = 3) (hown : s.vm.findClass RX11 = some m.cls) (hts : ∀ w ∈ lw_all, w.before args s = true) (hN : NX s ∧ SX adK adV tW A s s.heap) (hA : ∀ q, s.heap.size ≤ q → A q) (hne : c.exceptionTable.toList = []) (hlocks : meth.locks = false) (hRf : 7 ≤ R.frames) (hRl : 152 ≤ R.locals) (hRc1 : cells + 1 ≤ R.cells) (hRs1 : slots + 7 ≤ R.slots) (hf : r_number text typed at_ start sort value x1 x2 = some (.inl st_)) (hC : HC D gcl (gty d) A (rw_ d ad ba ta ra mb bestSet trace text typed at_ start sort value room work price whom bday units worth due under people askings hangs items) s H locs) (hl : lv_has ls 3 [(0, .ref ra), (1, .int x1), (2, .int x2)]) (KT : ∀ (H : Heap) (locs : List Loc) (x : Addr), HC D gcl (gty d) A (rwt d ad ba ta bestSet trace text typed st_ x) s H locs → WT p l e R s m args below meth c H locs (cells + 1) (slots + 7) Q x) : W p l e R s m args below meth c H locs cells slots Q (F0 m 0 ls []) := by
  have hRc : cells ≤ R.cells := Nat.le_trans (Nat.le_add_right _ _) hRc1
  have hRs : slots ≤ R.slots := Nat.le_trans (Nat.le_add_right _ _) hRs1
  unfold r_number at hf
  refine lv_aload_n hx hb dX11_number_0 rfl (lv_at hl 0 rfl) ?_
  refine lv_aload_n hx hb dX11_number_1 rfl (lv_at hl 0 rfl) ?_
  refine va_get (ci := 11) (v := .int sort) (C := RX11) (T := TX11) (N := 6) hx hb hts in_X11 hown hC.1 hC.2.1 (2) rfl rfl 2 (by decide) (hts _ q380) (fun _ h9 => h9) rfl dX11_number_2 ?_
  refine lv_iconst (v := 3) hx hb dX11_number_5 (by decide) ?_
  obtain ⟨t_26, hj, hf⟩ := bnd_some hf
  have J_26 : ∀ (H : Heap) (locs : List Loc) (ls : Array Slot), HC D gcl (gty d) A (rw_ d ad ba ta ra mb bestSet trace text typed at_ start sort value room work price whom bday units worth due under people askings hangs items) s H locs → lv_has ls 3 [] → W p l e R s m args below meth c H locs cells slots Q (F0 m 26 ls [.int t_26, .ref ra]) := by
    intro H locs ls hC hl
    rcases bndE5_or hf with hcall | ⟨r_26, at__26, start_26, sort_26, value_26, hcall, hf⟩
    · exact ht_out (runVT (C := RX11) (As := [.int t_26]) (rest := []) ⟨hx, hb, hml, hown, hts⟩ (ct_r_due hcall) (cwV 1 hts (lw_V q471 q473 qs4 q60 q474) rfl rfl rfl (by decide +kernel) ⟨(Nat.le_trans (Nat.le_of_ble_eq_true rfl) hRf), (Nat.le_trans (Nat.le_of_ble_eq_true rfl) hRl)⟩) (pre_V (q0 := 2) (ci := 11) (fun U g mk a h => ⟨NX.calling U g mk a h.1, SN.calling U g mk a h.2⟩) (fun U hU hW => ⟨NX.warm hW hN.1, SN.warm hN.2 hC.2.2.2 (all_free hC.2.2.1 hC.2.2.2 hA) hU hW⟩) hC rfl rfl) rfl rfl hl.1 rfl (lv_room (Nat.le_of_ble_eq_true rfl)) dX11_number_26 ⟨hRc1, hRs1⟩) hne hlocks hA hC KT
    refine hc_i (va_runV (C := RX11) (As := [.int t_26]) (rest := []) ⟨hx, hb, hml, hown, hts⟩ (c_r_due hcall) (cwV 1 hts (lw_V q471 q473 qs4 q60 q474) rfl rfl rfl (by decide +kernel) ⟨(Nat.le_trans (Nat.le_of_ble_eq_true rfl) hRf), (Nat.le_trans (Nat.le_of_ble_eq_true rfl) hRl)⟩) (pre_V (q0 := 2) (ci := 11) (fun U g mk a h => ⟨NX.calling U g mk a h.1, SN.calling U g mk a h.2⟩) (fun U hU hW => ⟨NX.warm hW hN.1, SN.warm hN.2 hC.2.2.2 (all_free hC.2.2.1 hC.2.2.2 hA) hU hW⟩) hC rfl rfl) rfl rfl hl.1 rfl (lv_room (Nat.le_of_ble_eq_true rfl)) dX11_number_26 ⟨hRc, hRs⟩) hA hC (fun H locs hC => ?_)
    have hC : HC D gcl (gty d) A (rw_ d ad ba ta ra mb bestSet trace text typed at__26 start_26 sort_26 value_26 room work price whom bday units worth due under people askings hangs items) s H locs := hC
    cases hf
  have hf := hj
  refine lv_icmp_ne (tgt := 25) hx hb dX11_number_6 (by decide) (fun c_6 => ?_) (fun c_6 => ?_)
  · have hf := if_f hf c_6
    refine lv_iconst (v := 0) hx hb dX11_number_25 (by decide) ?_
    have e_1 := (Option.some.inj hf)
    subst e_1
    exact J_26 H locs ls hC (lv_sub hl [] rfl)
  · have hf := if_t hf c_6
    refine lv_aload_n hx hb dX11_number_9 rfl (lv_at hl 0 rfl) ?_
    refine va_get (ci := 11) (v := .int value) (C := RX11) (T := TX11) (N := 6) hx hb hts in_X11 hown hC.1 hC.2.1 (2) rfl rfl 3 (by decide) (hts _ q381) (fun _ h9 => h9) rfl dX11_number_10 ?_
    refine lv_iload_n hx hb dX11_number_13 rfl (lv_at hl 1 rfl) ?_
    refine lv_iload_n hx hb dX11_number_14 rfl (lv_at hl 2 rfl) ?_
    obtain ⟨r_15, hcall, hf⟩ := bnd_some hf
    refine hc_i (va_runSN (As := [.int value, .int x1, .int x2]) (rest := [.ref ra]) ⟨hx, hb, hml, hown, hts⟩ (c_x_in hcall) ⟨va_cnB 3 hts (lw_meth q360) rfl rfl rfl (hN.1.2.1 16) (hts _ q48) (by decide +kernel) ⟨(Nat.le_trans (Nat.le_of_ble_eq_true rfl) hRf), (Nat.le_trans (Nat.le_of_ble_eq_true rfl) hRl)⟩, hts _ q359, trivial⟩ (pre_S (fun _ _ _ _ h => h) (fun _ _ _ => trivial) hC) rfl rfl hl.1 rfl (lv_room (Nat.le_of_ble_eq_true rfl)) dX11_number_15 ⟨hRc, hRs⟩) hA hC (fun H locs hC => ?_)
    refine lv_if_eq (tgt := 25) hx hb dX11_number_18 (by decide) (fun c_18 => ?_) (fun c_18 => ?_)
    · have hf := if_t hf c_18
      refine lv_iconst (v := 0) hx hb dX11_number_25 (by decide) ?_
      have e_1 := (Option.some.inj hf)
      subst e_1
      exact J_26 H locs ls hC (lv_sub hl [] rfl)
    · have hf := if_f hf c_18
      refine lv_iconst (v := 1) hx hb dX11_number_21 (by decide) ?_
      refine lv_goto (tgt := 26) hx hb dX11_number_22 (by decide) ?_
      have e_1 := (Option.some.inj hf)
      subst e_1
      exact J_26 H locs ls hC (lv_sub hl [] rfl)
set_option maxRecDepth 100000 in
theorem ct_r_number {l : Launch} {sz : Nat} {D : va_G} {d : Nat → ClassId} {ad : Nat → Nat} {ba : Nat → Nat} {ta : Nat → Nat} {ra : Nat} {mb : Nat → Nat} {bestSet : Int32} {trace : Int64} {adK : Nat → Nat} {adV : Nat → Nat} {tW : Nat} {text : Nat → Int32} {typed : Int32} {at_ : Int32} {start : Int32} {sort : Int32} {value : Int32} {room : Nat → Int32} {work : Nat → Int32} {price : Nat → Int32} {whom : Nat → Int32} {bday : Nat → Int32} {units : Nat → Int32} {worth : Nat → Int32} {due : Nat → Int32} {under : Nat → Int32} {people : Int32} {askings : Int32} {hangs : Int32} {items : Int32} {x1 : Int32} {x2 : Int32} {st_ : Int32} (hf : r_number text typed at_ start sort value x1 x2 = some (.inl st_)) : MT l yX11_number (ws_ yX11_number cX11_number 3 (some .int)) { frames := 7, cells := 1, slots := 7, locals := 152 } D gcl (gty d) (fun U => NX U ∧ SN adK adV tW (rw_ d ad ba ta ra mb bestSet trace text typed at_ start sort value room work price whom bday units worth due under people askings hangs items) U) (rw_ d ad ba ta ra mb bestSet trace text typed at_ start sort value room work price whom bday units worth due under people askings hangs items) (fun x => rwt d ad ba ta bestSet trace text typed st_ x) sz [.ref ra, .int x1, .int x2] 1 7 :=
  MT.of (by decide) [.ref ra, .int x1, .int x2] [(0, .ref ra), (1, .int x1), (2, .int x2)] (Nat.le_of_ble_eq_true rfl) rfl (fun p e s m below meth c ls Q hx hb hml hown hts hN hA hne hlocks hC hl KT => wt_r_number hx hb hml hown hts hN hA hne hlocks (Nat.le_refl _) (Nat.le_refl _) (Nat.le_refl _) (Nat.le_refl _) hf hC hl KT)

def r_item (text : Nat → Int32) (typed : Int32) (at_ : Int32) (start : Int32) (sort : Int32) (value : Int32) (room : Nat → Int32) (work : Nat → Int32) (price : Nat → Int32) (whom : Nat → Int32) (bday : Nat → Int32) (units : Nat → Int32) (worth : Nat → Int32) (due : Nat → Int32) (under : Nat → Int32) (people : Int32) (askings : Int32) (hangs : Int32) (x1 : Int32) : Option (Int32 ⊕ (Int32 × Int32 × Int32 × Int32 × (Nat → Int32) × (Nat → Int32) × (Nat → Int32) × (Nat → Int32) × (Nat → Int32) × (Nat → Int32) × (Nat → Int32) × (Nat → Int32) × (Nat → Int32) × Int32 × Int32 × Int32)) :=
  if x1 = 0 then (bndE5 (r_number text typed at_ start sort value 1 5) fun r_45 at__45 start_45 sort_45 value_45 =>
  ck people 4 <| bndE5 (r_number text typed at__45 start_45 sort_45 value_45 1 3) fun r_66 at__66 start_66 sort_66 value_66 =>
  ck people 4 <| bndE5 (r_number text typed at__66 start_66 sort_66 value_66 0 9) fun r_88 at__88 start_88 sort_88 value_88 =>
  ck people 4 <| some (.inr (at__88, start_88, sort_88, value_88, upd room people.toNatClampNeg r_45, upd work people.toNatClampNeg r_66, upd price people.toNatClampNeg r_88, whom, bday, units, worth, due, under, people + 1, askings, hangs))) else
  if x1 = 1 then (bndE5 (r_number text typed at_ start sort value 0 (people - 1)) fun r_135 at__135 start_135 sort_135 value_135 =>
  ck askings 8 <| bndE5 (r_number text typed at__135 start_135 sort_135 value_135 0 9) fun r_151 at__151 start_151 sort_151 value_151 =>
  ck askings 8 <| bndE5 (r_number text typed at__151 start_151 sort_151 value_151 1 9) fun r_167 at__167 start_167 sort_167 value_167 =>
  ck askings 8 <| bndE5 (r_number text typed at__167 start_167 sort_167 value_167 1 99) fun r_183 at__183 start_183 sort_183 value_183 =>
  ck askings 8 <| ck askings 8 <| bndE5 (r_number text typed at__183 start_183 sort_183 value_183 ((upd bday askings.toNatClampNeg r_151) askings.toNatClampNeg) 9) fun r_207 at__207 start_207 sort_207 value_207 =>
  ck askings 8 <| some (.inr (at__207, start_207, sort_207, value_207, room, work, price, upd whom askings.toNatClampNeg r_135, upd bday askings.toNatClampNeg r_151, upd units askings.toNatClampNeg r_167, upd worth askings.toNatClampNeg r_183, upd due askings.toNatClampNeg r_207, under, people, askings + 1, hangs))) else
  bndE5 (r_number text typed at_ start sort value 0 (askings - 1)) fun r_238 at__238 start_238 sort_238 value_238 =>
  ltv (if sort_238 = 3 then (if askings ≤ value_238 then (0) else
  if value_238 = r_238 then (0) else
  1) else
  0) (fun (t_278 : Int32) =>
  bndE5 (r_due text typed at__238 start_238 value_238 t_278) fun r_278 at__278 start_278 sort_278 value_278 =>
  ck r_238 8 <| ck r_238 8 <| some (.inr (at__278, start_278, sort_278, value_278, room, work, price, whom, bday, units, worth, due, upd under r_238.toNatClampNeg ((under r_238.toNatClampNeg) ||| (1 <<< (r_278 &&& 31))), people, askings, hangs + 1)))
set_option maxHeartbeats 4000000 in
set_option maxRecDepth 100000 in
theorem w_r_item {p : Program} {l : Launch} {e : Env} {R : Room} {s : State} {m : MethodId} {args : Array Value} {below : List Frame} {meth : Method} {c : Code} {H : Heap} {locs : List Loc} {cells slots : Nat} {Q : State → Prop} {A : Nat → Prop} {ls : Array Slot} {D : va_G} {d : Nat → ClassId} {ad : Nat → Nat} {ba : Nat → Nat} {ta : Nat → Nat} {ra : Nat} {mb : Nat → Nat} {bestSet : Int32} {trace : Int64} {adK : Nat → Nat} {adV : Nat → Nat} {tW : Nat} {text : Nat → Int32} {typed : Int32} {at_ : Int32} {start : Int32} {sort : Int32} {value : Int32} {room : Nat → Int32} {work : Nat → Int32} {price : Nat → Int32} {whom : Nat → Int32} {bday : Nat → Int32} {units : Nat → Int32} {worth : Nat → Int32} {due : Nat → Int32} {under : Nat → Int32} {people : Int32} {askings : Int32} {hangs : Int32} {items : Int32} {x1 : Int32} {at__r : Int32} {start_r : Int32} {sort_r : Int32} {value_r : Int32} {room_r : Nat → Int32} {work_r : Nat → Int32} {price_r : Nat → Int32} {whom_r : Nat → Int32} {bday_r : Nat → Int32} {units_r : Nat → Int32} {worth_r : Nat → Int32} {due_r : Nat → Int32} {under_r : Nat → Int32} {people_r : Int32} {askings_r : Int32} {hangs_r : Int32} (hx : p.tables.exec = Jvm.exec) (hb : c.code = cX11_item) (hml : c.maxLocals = 5) (hown : s.vm.findClass RX11 = some m.cls) (hts : ∀ w ∈ lw_all, w.before args s = true) (hN : NX s ∧ SX adK adV tW A s s.heap) (hA : ∀ q, s.heap.size ≤ q → A q) (hRf : 8 ≤ R.frames) (hRl : 174 ≤ R.locals) (hRc : cells ≤ R.cells) (hRs : slots ≤ R.slots) (hf : r_item text typed at_ start sort value room work price whom bday units worth due under people askings hangs x1 = some (.inr (at__r, start_r, sort_r, value_r, room_r, work_r, price_r, whom_r, bday_r, units_r, worth_r, due_r, under_r, people_r, askings_r, hangs_r))) (hC : HC D gcl (gty d) A (rw_ d ad ba ta ra mb bestSet trace text typed at_ start sort value room work price whom bday units worth due under people askings hangs items) s H locs) (hl : lv_has ls 5 [(0, .ref ra), (1, .int x1)]) (K : ∀ (H : Heap) (locs : List Loc) (ls : Array Slot) (pc : Nat), True → HC D gcl (gty d) A (rw_ d ad ba ta ra mb bestSet trace text typed at__r start_r sort_r value_r room_r work_r price_r whom_r bday_r units_r worth_r due_r under_r people_r askings_r hangs_r items) s H locs → decode cX11_item pc = .ok (.return_, 1) → W p l e R s m args below meth c H locs cells slots Q (F0 m pc ls [])) : W p l e R s m args below meth c H locs cells slots Q (F0 m 0 ls []) := by
  unfold r_item at hf
  refine lv_iload_n hx hb dX11_item_0 rfl (lv_at hl 1 rfl) ?_
  by_cases c_1_0 : x1 = 0
  · have hf := if_t hf c_1_0
    refine lv_lookup (tgt := 28) (off := 27) hx hb dX11_item_1 (by decide) (by rw [c_1_0]; decide) (by decide) ?_
    refine lv_aload_n hx hb dX11_item_28 rfl (lv_at hl 0 rfl) ?_
    refine va_get (ci := 11) (v := .ref (mb 0)) (C := RX11) (T := TX11) (N := 6) hx hb hts in_X11 hown hC.1 hC.2.1 (2) rfl rfl 4 (by decide) (hts _ q382) (fun _ h9 => h9) rfl dX11_item_29 ?_
    refine va_getN (ci := 1) (v := .ref (mb 1)) (C := RX1) (T := TX1) (N := 13) (host := "SleeveSlips") hx hb hts in_X1 hown hC.1 hC.2.1 (3) rfl rfl 0 (by decide) (va_Nw.use rfl (hN.1.1 1)) (fun _ h9 => h9) rfl dX11_item_32 ?_
    refine lv_aload_n hx hb dX11_item_35 rfl (lv_at hl 0 rfl) ?_
    refine va_get (ci := 11) (v := .ref (mb 0)) (C := RX11) (T := TX11) (N := 6) hx hb hts in_X11 hown hC.1 hC.2.1 (2) rfl rfl 4 (by decide) (hts _ q382) (fun _ h9 => h9) rfl dX11_item_36 ?_
    refine va_getN (ci := 1) (v := .int people) (C := RX1) (T := TX1) (N := 13) (host := "SleeveSlips") hx hb hts in_X1 hown hC.1 hC.2.1 (3) rfl rfl 9 (by decide) (va_Nw.use rfl (hN.1.1 21)) (fun _ h9 => h9) rfl dX11_item_39 ?_
    refine lv_aload_n hx hb dX11_item_42 rfl (lv_at hl 0 rfl) ?_
    refine lv_iconst (v := 1) hx hb dX11_item_43 (by decide) ?_
    refine lv_iconst (v := 5) hx hb dX11_item_44 (by decide) ?_
    obtain ⟨r_45, at__45, start_45, sort_45, value_45, hcall, hf⟩ := bndE5_some hf
    refine hc_i (va_runV (C := RX11) (As := [.int 1, .int 5]) (rest := [.int people, .ref (mb 1)]) ⟨hx, hb, hml, hown, hts⟩ (c_r_number hcall) (cwV 2 hts (lw_V q547 q549 qs7 q60 q550) rfl rfl rfl (by decide +kernel) ⟨(Nat.le_trans (Nat.le_of_ble_eq_true rfl) hRf), (Nat.le_trans (Nat.le_of_ble_eq_true rfl) hRl)⟩) (pre_V (q0 := 2) (ci := 11) (fun U g mk a h => ⟨NX.calling U g mk a h.1, SN.calling U g mk a h.2⟩) (fun U hU hW => ⟨NX.warm hW hN.1, SN.warm hN.2 hC.2.2.2 (all_free hC.2.2.1 hC.2.2.2 hA) hU hW⟩) hC rfl rfl) rfl rfl hl.1 rfl (lv_room (Nat.le_of_ble_eq_true rfl)) dX11_item_45 ⟨hRc, hRs⟩) hA hC (fun H locs hC => ?_)
    have hC : HC D gcl (gty d) A (rw_ d ad ba ta ra mb bestSet trace text typed at__45 start_45 sort_45 value_45 room work price whom bday units worth due under people askings hangs items) s H locs := hC
    obtain ⟨hi_48, hf⟩ := ck_some hf
    refine va_iast hx hb hC.1 hC.2.1 hC.2.2.1 hC.2.2.2 (4) 0 rfl rfl hi_48 dX11_item_48 (fun H locs hP hD hS => ?_)
    have hC : HC D gcl (gty d) A (rw_ d ad ba ta ra mb bestSet trace text typed at__45 start_45 sort_45 value_45 (upd room people.toNatClampNeg r_45) work price whom bday units worth due under people askings hangs items) s H locs := ⟨hC.1, hP, hD, hS⟩
    refine lv_aload_n hx hb dX11_item_49 rfl (lv_at hl 0 rfl) ?_
    refine va_get (ci := 11) (v := .ref (mb 0)) (C := RX11) (T := TX11) (N := 6) hx hb hts in_X11 hown hC.1 hC.2.1 (2) rfl rfl 4 (by decide) (hts _ q382) (fun _ h9 => h9) rfl dX11_item_50 ?_
    refine va_getN (ci := 1) (v := .ref (mb 2)) (C := RX1) (T := TX1) (N := 13) (host := "SleeveSlips") hx hb hts in_X1 hown hC.1 hC.2.1 (3) rfl rfl 1 (by decide) (va_Nw.use rfl (hN.1.1 4)) (fun _ h9 => h9) rfl dX11_item_53 ?_
    refine lv_aload_n hx hb dX11_item_56 rfl (lv_at hl 0 rfl) ?_
    refine va_get (ci := 11) (v := .ref (mb 0)) (C := RX11) (T := TX11) (N := 6) hx hb hts in_X11 hown hC.1 hC.2.1 (2) rfl rfl 4 (by decide) (hts _ q382) (fun _ h9 => h9) rfl dX11_item_57 ?_
    refine va_getN (ci := 1) (v := .int people) (C := RX1) (T := TX1) (N := 13) (host := "SleeveSlips") hx hb hts in_X1 hown hC.1 hC.2.1 (3) rfl rfl 9 (by decide) (va_Nw.use rfl (hN.1.1 21)) (fun _ h9 => h9) rfl dX11_item_60 ?_
    refine lv_aload_n hx hb dX11_item_63 rfl (lv_at hl 0 rfl) ?_
    refine lv_iconst (v := 1) hx hb dX11_item_64 (by decide) ?_
    refine lv_iconst (v := 3) hx hb dX11_item_65 (by decide) ?_
    obtain ⟨r_66, at__66, start_66, sort_66, value_66, hcall, hf⟩ := bndE5_some hf
    refine hc_i (va_runV (C := RX11) (As := [.int 1, .int 3]) (rest := [.int people, .ref (mb 2)]) ⟨hx, hb, hml, hown, hts⟩ (c_r_number hcall) (cwV 2 hts (lw_V q547 q549 qs7 q60 q550) rfl rfl rfl (by decide +kernel) ⟨(Nat.le_trans (Nat.le_of_ble_eq_true rfl) hRf), (Nat.le_trans (Nat.le_of_ble_eq_true rfl) hRl)⟩) (pre_V (q0 := 2) (ci := 11) (fun U g mk a h => ⟨NX.calling U g mk a h.1, SN.calling U g mk a h.2⟩) (fun U hU hW => ⟨NX.warm hW hN.1, SN.warm hN.2 hC.2.2.2 (all_free hC.2.2.1 hC.2.2.2 hA) hU hW⟩) hC rfl rfl) rfl rfl hl.1 rfl (lv_room (Nat.le_of_ble_eq_true rfl)) dX11_item_66 ⟨hRc, hRs⟩) hA hC (fun H locs hC => ?_)
    have hC : HC D gcl (gty d) A (rw_ d ad ba ta ra mb bestSet trace text typed at__66 start_66 sort_66 value_66 (upd room people.toNatClampNeg r_45) work price whom bday units worth due under people askings hangs items) s H locs := hC
    obtain ⟨hi_69, hf⟩ := ck_some hf
    refine va_iast hx hb hC.1 hC.2.1 hC.2.2.1 hC.2.2.2 (5) 0 rfl rfl hi_69 dX11_item_69 (fun H locs hP hD hS => ?_)
    have hC : HC D gcl (gty d) A (rw_ d ad ba ta ra mb bestSet trace text typed at__66 start_66 sort_66 value_66 (upd room people.toNatClampNeg r_45) (upd work people.toNatClampNeg r_66) price whom bday units worth due under people askings hangs items) s H locs := ⟨hC.1, hP, hD, hS⟩
    refine lv_aload_n hx hb dX11_item_70 rfl (lv_at hl 0 rfl) ?_
    refine va_get (ci := 11) (v := .ref (mb 0)) (C := RX11) (T := TX11) (N := 6) hx hb hts in_X11 hown hC.1 hC.2.1 (2) rfl rfl 4 (by decide) (hts _ q382) (fun _ h9 => h9) rfl dX11_item_71 ?_
    refine va_getN (ci := 1) (v := .ref (mb 3)) (C := RX1) (T := TX1) (N := 13) (host := "SleeveSlips") hx hb hts in_X1 hown hC.1 hC.2.1 (3) rfl rfl 2 (by decide) (va_Nw.use rfl (hN.1.1 6)) (fun _ h9 => h9) rfl dX11_item_74 ?_
    refine lv_aload_n hx hb dX11_item_77 rfl (lv_at hl 0 rfl) ?_
    refine va_get (ci := 11) (v := .ref (mb 0)) (C := RX11) (T := TX11) (N := 6) hx hb hts in_X11 hown hC.1 hC.2.1 (2) rfl rfl 4 (by decide) (hts _ q382) (fun _ h9 => h9) rfl dX11_item_78 ?_
    refine va_getN (ci := 1) (v := .int people) (C := RX1) (T := TX1) (N := 13) (host := "SleeveSlips") hx hb hts in_X1 hown hC.1 hC.2.1 (3) rfl rfl 9 (by decide) (va_Nw.use rfl (hN.1.1 21)) (fun _ h9 => h9) rfl dX11_item_81 ?_
    refine lv_aload_n hx hb dX11_item_84 rfl (lv_at hl 0 rfl) ?_
    refine lv_iconst (v := 0) hx hb dX11_item_85 (by decide) ?_
    refine lv_bipush (v := 9) hx hb dX11_item_86 (by decide) ?_
    obtain ⟨r_88, at__88, start_88, sort_88, value_88, hcall, hf⟩ := bndE5_some hf
    refine hc_i (va_runV (C := RX11) (As := [.int 0, .int 9]) (rest := [.int people, .ref (mb 3)]) ⟨hx, hb, hml, hown, hts⟩ (c_r_number hcall) (cwV 2 hts (lw_V q547 q549 qs7 q60 q550) rfl rfl rfl (by decide +kernel) ⟨(Nat.le_trans (Nat.le_of_ble_eq_true rfl) hRf), (Nat.le_trans (Nat.le_of_ble_eq_true rfl) hRl)⟩) (pre_V (q0 := 2) (ci := 11) (fun U g mk a h => ⟨NX.calling U g mk a h.1, SN.calling U g mk a h.2⟩) (fun U hU hW => ⟨NX.warm hW hN.1, SN.warm hN.2 hC.2.2.2 (all_free hC.2.2.1 hC.2.2.2 hA) hU hW⟩) hC rfl rfl) rfl rfl hl.1 rfl (lv_room (Nat.le_of_ble_eq_true rfl)) dX11_item_88 ⟨hRc, hRs⟩) hA hC (fun H locs hC => ?_)
    have hC : HC D gcl (gty d) A (rw_ d ad ba ta ra mb bestSet trace text typed at__88 start_88 sort_88 value_88 (upd room people.toNatClampNeg r_45) (upd work people.toNatClampNeg r_66) price whom bday units worth due under people askings hangs items) s H locs := hC
    obtain ⟨hi_91, hf⟩ := ck_some hf
    refine va_iast hx hb hC.1 hC.2.1 hC.2.2.1 hC.2.2.2 (6) 0 rfl rfl hi_91 dX11_item_91 (fun H locs hP hD hS => ?_)
    have hC : HC D gcl (gty d) A (rw_ d ad ba ta ra mb bestSet trace text typed at__88 start_88 sort_88 value_88 (upd room people.toNatClampNeg r_45) (upd work people.toNatClampNeg r_66) (upd price people.toNatClampNeg r_88) whom bday units worth due under people askings hangs items) s H locs := ⟨hC.1, hP, hD, hS⟩
    refine lv_aload_n hx hb dX11_item_92 rfl (lv_at hl 0 rfl) ?_
    refine va_get (ci := 11) (v := .ref (mb 0)) (C := RX11) (T := TX11) (N := 6) hx hb hts in_X11 hown hC.1 hC.2.1 (2) rfl rfl 4 (by decide) (hts _ q382) (fun _ h9 => h9) rfl dX11_item_93 ?_
    refine lv_dup hx hb dX11_item_96 rfl ?_
    refine va_getN (ci := 1) (v := .int people) (C := RX1) (T := TX1) (N := 13) (host := "SleeveSlips") hx hb hts in_X1 hown hC.1 hC.2.1 (3) rfl rfl 9 (by decide) (va_Nw.use rfl (hN.1.1 21)) (fun _ h9 => h9) rfl dX11_item_97 ?_
    refine lv_iconst (v := 1) hx hb dX11_item_100 (by decide) ?_
    refine lv_iadd hx hb dX11_item_101 ?_
    refine va_putN (ci := 1) (v := .int (people + 1)) (ty := .int) (C := RX1) (T := TX1) (N := 13) (host := "SleeveSlips") hx hb hts in_X1 tyX1 tyX1_ok nmX1 hown hC.1 hC.2.1 hC.2.2.1 hC.2.2.2 (3) rfl rfl 9 (by decide) (va_Nw.use rfl (hN.1.1 21)) (fun _ h9 => h9) rfl (tyX1_ok 9 (by decide)) rfl rfl (Nat.le_of_ble_eq_true rfl) dX11_item_102 (fun H locs hP hD hS => ?_)
    have hC : HC D gcl (gty d) A (rw_ d ad ba ta ra mb bestSet trace text typed at__88 start_88 sort_88 value_88 (upd room people.toNatClampNeg r_45) (upd work people.toNatClampNeg r_66) (upd price people.toNatClampNeg r_88) whom bday units worth due under (people + 1) askings hangs items) s H locs := ⟨hC.1, hP, hD, hS⟩
    refine lv_goto (tgt := 312) hx hb dX11_item_105 (by decide) ?_
    have hf := congrArg some (Sum.inr.inj (Option.some.inj hf))
    obtain ⟨e_1, e_2, e_3, e_4, e_5, e_6, e_7, e_8, e_9, e_10, e_11, e_12, e_13, e_14, e_15, e_16⟩ := so_16 (Option.some.inj hf)
    subst e_1
    subst e_2
    subst e_3
    subst e_4
    subst e_5
    subst e_6
    subst e_7
    subst e_8
    subst e_9
    subst e_10
    subst e_11
    subst e_12
    subst e_13
    subst e_14
    subst e_15
    subst e_16
    exact K H locs ls _ trivial hC dX11_item_312
  · have hf := if_f hf c_1_0
    by_cases c_1_1 : x1 = 1
    · have hf := if_t hf c_1_1
      refine lv_lookup (tgt := 108) (off := 107) hx hb dX11_item_1 (by decide) (by rw [c_1_1]; decide) (by decide) ?_
      refine lv_aload_n hx hb dX11_item_108 rfl (lv_at hl 0 rfl) ?_
      refine va_get (ci := 11) (v := .ref (mb 0)) (C := RX11) (T := TX11) (N := 6) hx hb hts in_X11 hown hC.1 hC.2.1 (2) rfl rfl 4 (by decide) (hts _ q382) (fun _ h9 => h9) rfl dX11_item_109 ?_
      refine va_getN (ci := 1) (v := .int askings) (C := RX1) (T := TX1) (N := 13) (host := "SleeveSlips") hx hb hts in_X1 hown hC.1 hC.2.1 (3) rfl rfl 10 (by decide) (va_Nw.use rfl (hN.1.1 23)) (fun _ h9 => h9) rfl dX11_item_112 ?_
      refine lv_istore_n (lv' := [(2, .int askings), (0, .ref ra), (1, .int x1)]) hx hb dX11_item_115 rfl hl (by decide) rfl (fun ls hl => ?_)
      refine lv_aload_n hx hb dX11_item_116 rfl (lv_at hl 1 rfl) ?_
      refine va_get (ci := 11) (v := .ref (mb 0)) (C := RX11) (T := TX11) (N := 6) hx hb hts in_X11 hown hC.1 hC.2.1 (2) rfl rfl 4 (by decide) (hts _ q382) (fun _ h9 => h9) rfl dX11_item_117 ?_
      refine va_getN (ci := 1) (v := .ref (mb 4)) (C := RX1) (T := TX1) (N := 13) (host := "SleeveSlips") hx hb hts in_X1 hown hC.1 hC.2.1 (3) rfl rfl 3 (by decide) (va_Nw.use rfl (hN.1.1 8)) (fun _ h9 => h9) rfl dX11_item_120 ?_
      refine lv_iload_n hx hb dX11_item_123 rfl (lv_at hl 0 rfl) ?_
      refine lv_aload_n hx hb dX11_item_124 rfl (lv_at hl 1 rfl) ?_
      refine lv_iconst (v := 0) hx hb dX11_item_125 (by decide) ?_
      refine lv_aload_n hx hb dX11_item_126 rfl (lv_at hl 1 rfl) ?_
      refine va_get (ci := 11) (v := .ref (mb 0)) (C := RX11) (T := TX11) (N := 6) hx hb hts in_X11 hown hC.1 hC.2.1 (2) rfl rfl 4 (by decide) (hts _ q382) (fun _ h9 => h9) rfl dX11_item_127 ?_
      refine va_getN (ci := 1) (v := .int people) (C := RX1) (T := TX1) (N := 13) (host := "SleeveSlips") hx hb hts in_X1 hown hC.1 hC.2.1 (3) rfl rfl 9 (by decide) (va_Nw.use rfl (hN.1.1 21)) (fun _ h9 => h9) rfl dX11_item_130 ?_
      refine lv_iconst (v := 1) hx hb dX11_item_133 (by decide) ?_
      refine lv_isub hx hb dX11_item_134 ?_
      obtain ⟨r_135, at__135, start_135, sort_135, value_135, hcall, hf⟩ := bndE5_some hf
      refine hc_i (va_runV (C := RX11) (As := [.int 0, .int (people - 1)]) (rest := [.int askings, .ref (mb 4)]) ⟨hx, hb, hml, hown, hts⟩ (c_r_number hcall) (cwV 2 hts (lw_V q547 q549 qs7 q60 q550) rfl rfl rfl (by decide +kernel) ⟨(Nat.le_trans (Nat.le_of_ble_eq_true rfl) hRf), (Nat.le_trans (Nat.le_of_ble_eq_true rfl) hRl)⟩) (pre_V (q0 := 2) (ci := 11) (fun U g mk a h => ⟨NX.calling U g mk a h.1, SN.calling U g mk a h.2⟩) (fun U hU hW => ⟨NX.warm hW hN.1, SN.warm hN.2 hC.2.2.2 (all_free hC.2.2.1 hC.2.2.2 hA) hU hW⟩) hC rfl rfl) rfl rfl hl.1 rfl (lv_room (Nat.le_of_ble_eq_true rfl)) dX11_item_135 ⟨hRc, hRs⟩) hA hC (fun H locs hC => ?_)
      have hC : HC D gcl (gty d) A (rw_ d ad ba ta ra mb bestSet trace text typed at__135 start_135 sort_135 value_135 room work price whom bday units worth due under people askings hangs items) s H locs := hC
      obtain ⟨hi_138, hf⟩ := ck_some hf
      refine va_iast hx hb hC.1 hC.2.1 hC.2.2.1 hC.2.2.2 (7) 0 rfl rfl hi_138 dX11_item_138 (fun H locs hP hD hS => ?_)
      have hC : HC D gcl (gty d) A (rw_ d ad ba ta ra mb bestSet trace text typed at__135 start_135 sort_135 value_135 room work price (upd whom askings.toNatClampNeg r_135) bday units worth due under people askings hangs items) s H locs := ⟨hC.1, hP, hD, hS⟩
      refine lv_aload_n hx hb dX11_item_139 rfl (lv_at hl 1 rfl) ?_
      refine va_get (ci := 11) (v := .ref (mb 0)) (C := RX11) (T := TX11) (N := 6) hx hb hts in_X11 hown hC.1 hC.2.1 (2) rfl rfl 4 (by decide) (hts _ q382) (fun _ h9 => h9) rfl dX11_item_140 ?_
      refine va_getN (ci := 1) (v := .ref (mb 5)) (C := RX1) (T := TX1) (N := 13) (host := "SleeveSlips") hx hb hts in_X1 hown hC.1 hC.2.1 (3) rfl rfl 4 (by decide) (va_Nw.use rfl (hN.1.1 10)) (fun _ h9 => h9) rfl dX11_item_143 ?_
      refine lv_iload_n hx hb dX11_item_146 rfl (lv_at hl 0 rfl) ?_
      refine lv_aload_n hx hb dX11_item_147 rfl (lv_at hl 1 rfl) ?_
      refine lv_iconst (v := 0) hx hb dX11_item_148 (by decide) ?_
      refine lv_bipush (v := 9) hx hb dX11_item_149 (by decide) ?_
      obtain ⟨r_151, at__151, start_151, sort_151, value_151, hcall, hf⟩ := bndE5_some hf
      refine hc_i (va_runV (C := RX11) (As := [.int 0, .int 9]) (rest := [.int askings, .ref (mb 5)]) ⟨hx, hb, hml, hown, hts⟩ (c_r_number hcall) (cwV 2 hts (lw_V q547 q549 qs7 q60 q550) rfl rfl rfl (by decide +kernel) ⟨(Nat.le_trans (Nat.le_of_ble_eq_true rfl) hRf), (Nat.le_trans (Nat.le_of_ble_eq_true rfl) hRl)⟩) (pre_V (q0 := 2) (ci := 11) (fun U g mk a h => ⟨NX.calling U g mk a h.1, SN.calling U g mk a h.2⟩) (fun U hU hW => ⟨NX.warm hW hN.1, SN.warm hN.2 hC.2.2.2 (all_free hC.2.2.1 hC.2.2.2 hA) hU hW⟩) hC rfl rfl) rfl rfl hl.1 rfl (lv_room (Nat.le_of_ble_eq_true rfl)) dX11_item_151 ⟨hRc, hRs⟩) hA hC (fun H locs hC => ?_)
      have hC : HC D gcl (gty d) A (rw_ d ad ba ta ra mb bestSet trace text typed at__151 start_151 sort_151 value_151 room work price (upd whom askings.toNatClampNeg r_135) bday units worth due under people askings hangs items) s H locs := hC
      obtain ⟨hi_154, hf⟩ := ck_some hf
      refine va_iast hx hb hC.1 hC.2.1 hC.2.2.1 hC.2.2.2 (8) 0 rfl rfl hi_154 dX11_item_154 (fun H locs hP hD hS => ?_)
      have hC : HC D gcl (gty d) A (rw_ d ad ba ta ra mb bestSet trace text typed at__151 start_151 sort_151 value_151 room work price (upd whom askings.toNatClampNeg r_135) (upd bday askings.toNatClampNeg r_151) units worth due under people askings hangs items) s H locs := ⟨hC.1, hP, hD, hS⟩
      refine lv_aload_n hx hb dX11_item_155 rfl (lv_at hl 1 rfl) ?_
      refine va_get (ci := 11) (v := .ref (mb 0)) (C := RX11) (T := TX11) (N := 6) hx hb hts in_X11 hown hC.1 hC.2.1 (2) rfl rfl 4 (by decide) (hts _ q382) (fun _ h9 => h9) rfl dX11_item_156 ?_
      refine va_getN (ci := 1) (v := .ref (mb 6)) (C := RX1) (T := TX1) (N := 13) (host := "SleeveSlips") hx hb hts in_X1 hown hC.1 hC.2.1 (3) rfl rfl 5 (by decide) (va_Nw.use rfl (hN.1.1 12)) (fun _ h9 => h9) rfl dX11_item_159 ?_
      refine lv_iload_n hx hb dX11_item_162 rfl (lv_at hl 0 rfl) ?_
      refine lv_aload_n hx hb dX11_item_163 rfl (lv_at hl 1 rfl) ?_
      refine lv_iconst (v := 1) hx hb dX11_item_164 (by decide) ?_
      refine lv_bipush (v := 9) hx hb dX11_item_165 (by decide) ?_
      obtain ⟨r_167, at__167, start_167, sort_167, value_167, hcall, hf⟩ := bndE5_some hf
      refine hc_i (va_runV (C := RX11) (As := [.int 1, .int 9]) (rest := [.int askings, .ref (mb 6)]) ⟨hx, hb, hml, hown, hts⟩ (c_r_number hcall) (cwV 2 hts (lw_V q547 q549 qs7 q60 q550) rfl rfl rfl (by decide +kernel) ⟨(Nat.le_trans (Nat.le_of_ble_eq_true rfl) hRf), (Nat.le_trans (Nat.le_of_ble_eq_true rfl) hRl)⟩) (pre_V (q0 := 2) (ci := 11) (fun U g mk a h => ⟨NX.calling U g mk a h.1, SN.calling U g mk a h.2⟩) (fun U hU hW => ⟨NX.warm hW hN.1, SN.warm hN.2 hC.2.2.2 (all_free hC.2.2.1 hC.2.2.2 hA) hU hW⟩) hC rfl rfl) rfl rfl hl.1 rfl (lv_room (Nat.le_of_ble_eq_true rfl)) dX11_item_167 ⟨hRc, hRs⟩) hA hC (fun H locs hC => ?_)
      have hC : HC D gcl (gty d) A (rw_ d ad ba ta ra mb bestSet trace text typed at__167 start_167 sort_167 value_167 room work price (upd whom askings.toNatClampNeg r_135) (upd bday askings.toNatClampNeg r_151) units worth due under people askings hangs items) s H locs := hC
      obtain ⟨hi_170, hf⟩ := ck_some hf
      refine va_iast hx hb hC.1 hC.2.1 hC.2.2.1 hC.2.2.2 (9) 0 rfl rfl hi_170 dX11_item_170 (fun H locs hP hD hS => ?_)
      have hC : HC D gcl (gty d) A (rw_ d ad ba ta ra mb bestSet trace text typed at__167 start_167 sort_167 value_167 room work price (upd whom askings.toNatClampNeg r_135) (upd bday askings.toNatClampNeg r_151) (upd units askings.toNatClampNeg r_167) worth due under people askings hangs items) s H locs := ⟨hC.1, hP, hD, hS⟩
      refine lv_aload_n hx hb dX11_item_171 rfl (lv_at hl 1 rfl) ?_
      refine va_get (ci := 11) (v := .ref (mb 0)) (C := RX11) (T := TX11) (N := 6) hx hb hts in_X11 hown hC.1 hC.2.1 (2) rfl rfl 4 (by decide) (hts _ q382) (fun _ h9 => h9) rfl dX11_item_172 ?_
      refine va_getN (ci := 1) (v := .ref (mb 7)) (C := RX1) (T := TX1) (N := 13) (host := "SleeveSlips") hx hb hts in_X1 hown hC.1 hC.2.1 (3) rfl rfl 6 (by decide) (va_Nw.use rfl (hN.1.1 14)) (fun _ h9 => h9) rfl dX11_item_175 ?_
      refine lv_iload_n hx hb dX11_item_178 rfl (lv_at hl 0 rfl) ?_
      refine lv_aload_n hx hb dX11_item_179 rfl (lv_at hl 1 rfl) ?_
      refine lv_iconst (v := 1) hx hb dX11_item_180 (by decide) ?_
      refine lv_bipush (v := 99) hx hb dX11_item_181 (by decide) ?_
      obtain ⟨r_183, at__183, start_183, sort_183, value_183, hcall, hf⟩ := bndE5_some hf
      refine hc_i (va_runV (C := RX11) (As := [.int 1, .int 99]) (rest := [.int askings, .ref (mb 7)]) ⟨hx, hb, hml, hown, hts⟩ (c_r_number hcall) (cwV 2 hts (lw_V q547 q549 qs7 q60 q550) rfl rfl rfl (by decide +kernel) ⟨(Nat.le_trans (Nat.le_of_ble_eq_true rfl) hRf), (Nat.le_trans (Nat.le_of_ble_eq_true rfl) hRl)⟩) (pre_V (q0 := 2) (ci := 11) (fun U g mk a h => ⟨NX.calling U g mk a h.1, SN.calling U g mk a h.2⟩) (fun U hU hW => ⟨NX.warm hW hN.1, SN.warm hN.2 hC.2.2.2 (all_free hC.2.2.1 hC.2.2.2 hA) hU hW⟩) hC rfl rfl) rfl rfl hl.1 rfl (lv_room (Nat.le_of_ble_eq_true rfl)) dX11_item_183 ⟨hRc, hRs⟩) hA hC (fun H locs hC => ?_)
      have hC : HC D gcl (gty d) A (rw_ d ad ba ta ra mb bestSet trace text typed at__183 start_183 sort_183 value_183 room work price (upd whom askings.toNatClampNeg r_135) (upd bday askings.toNatClampNeg r_151) (upd units askings.toNatClampNeg r_167) worth due under people askings hangs items) s H locs := hC
      obtain ⟨hi_186, hf⟩ := ck_some hf
      refine va_iast hx hb hC.1 hC.2.1 hC.2.2.1 hC.2.2.2 (10) 0 rfl rfl hi_186 dX11_item_186 (fun H locs hP hD hS => ?_)
      have hC : HC D gcl (gty d) A (rw_ d ad ba ta ra mb bestSet trace text typed at__183 start_183 sort_183 value_183 room work price (upd whom askings.toNatClampNeg r_135) (upd bday askings.toNatClampNeg r_151) (upd units askings.toNatClampNeg r_167) (upd worth askings.toNatClampNeg r_183) due under people askings hangs items) s H locs := ⟨hC.1, hP, hD, hS⟩
      refine lv_aload_n hx hb dX11_item_187 rfl (lv_at hl 1 rfl) ?_
      refine va_get (ci := 11) (v := .ref (mb 0)) (C := RX11) (T := TX11) (N := 6) hx hb hts in_X11 hown hC.1 hC.2.1 (2) rfl rfl 4 (by decide) (hts _ q382) (fun _ h9 => h9) rfl dX11_item_188 ?_
      refine va_getN (ci := 1) (v := .ref (mb 8)) (C := RX1) (T := TX1) (N := 13) (host := "SleeveSlips") hx hb hts in_X1 hown hC.1 hC.2.1 (3) rfl rfl 7 (by decide) (va_Nw.use rfl (hN.1.1 16)) (fun _ h9 => h9) rfl dX11_item_191 ?_
      refine lv_iload_n hx hb dX11_item_194 rfl (lv_at hl 0 rfl) ?_
      refine lv_aload_n hx hb dX11_item_195 rfl (lv_at hl 1 rfl) ?_
      refine lv_aload_n hx hb dX11_item_196 rfl (lv_at hl 1 rfl) ?_
      refine va_get (ci := 11) (v := .ref (mb 0)) (C := RX11) (T := TX11) (N := 6) hx hb hts in_X11 hown hC.1 hC.2.1 (2) rfl rfl 4 (by decide) (hts _ q382) (fun _ h9 => h9) rfl dX11_item_197 ?_
      refine va_getN (ci := 1) (v := .ref (mb 5)) (C := RX1) (T := TX1) (N := 13) (host := "SleeveSlips") hx hb hts in_X1 hown hC.1 hC.2.1 (3) rfl rfl 4 (by decide) (va_Nw.use rfl (hN.1.1 10)) (fun _ h9 => h9) rfl dX11_item_200 ?_
      refine lv_iload_n hx hb dX11_item_203 rfl (lv_at hl 0 rfl) ?_
      obtain ⟨hi_204, hf⟩ := ck_some hf
      refine va_iald hx hb hC.1 hC.2.1 (8) 0 rfl rfl hi_204 dX11_item_204 ?_
      refine lv_bipush (v := 9) hx hb dX11_item_205 (by decide) ?_
      obtain ⟨r_207, at__207, start_207, sort_207, value_207, hcall, hf⟩ := bndE5_some hf
      refine hc_i (va_runV (C := RX11) (As := [.int ((upd bday askings.toNatClampNeg r_151) askings.toNatClampNeg), .int 9]) (rest := [.int askings, .ref (mb 8)]) ⟨hx, hb, hml, hown, hts⟩ (c_r_number hcall) (cwV 2 hts (lw_V q547 q549 qs7 q60 q550) rfl rfl rfl (by decide +kernel) ⟨(Nat.le_trans (Nat.le_of_ble_eq_true rfl) hRf), (Nat.le_trans (Nat.le_of_ble_eq_true rfl) hRl)⟩) (pre_V (q0 := 2) (ci := 11) (fun U g mk a h => ⟨NX.calling U g mk a h.1, SN.calling U g mk a h.2⟩) (fun U hU hW => ⟨NX.warm hW hN.1, SN.warm hN.2 hC.2.2.2 (all_free hC.2.2.1 hC.2.2.2 hA) hU hW⟩) hC rfl rfl) rfl rfl hl.1 rfl (lv_room (Nat.le_of_ble_eq_true rfl)) dX11_item_207 ⟨hRc, hRs⟩) hA hC (fun H locs hC => ?_)
      have hC : HC D gcl (gty d) A (rw_ d ad ba ta ra mb bestSet trace text typed at__207 start_207 sort_207 value_207 room work price (upd whom askings.toNatClampNeg r_135) (upd bday askings.toNatClampNeg r_151) (upd units askings.toNatClampNeg r_167) (upd worth askings.toNatClampNeg r_183) due under people askings hangs items) s H locs := hC
      obtain ⟨hi_210, hf⟩ := ck_some hf
      refine va_iast hx hb hC.1 hC.2.1 hC.2.2.1 hC.2.2.2 (11) 0 rfl rfl hi_210 dX11_item_210 (fun H locs hP hD hS => ?_)
      have hC : HC D gcl (gty d) A (rw_ d ad ba ta ra mb bestSet trace text typed at__207 start_207 sort_207 value_207 room work price (upd whom askings.toNatClampNeg r_135) (upd bday askings.toNatClampNeg r_151) (upd units askings.toNatClampNeg r_167) (upd worth askings.toNatClampNeg r_183) (upd due askings.toNatClampNeg r_207) under people askings hangs items) s H locs := ⟨hC.1, hP, hD, hS⟩
      refine lv_aload_n hx hb dX11_item_211 rfl (lv_at hl 1 rfl) ?_
      refine va_get (ci := 11) (v := .ref (mb 0)) (C := RX11) (T := TX11) (N := 6) hx hb hts in_X11 hown hC.1 hC.2.1 (2) rfl rfl 4 (by decide) (hts _ q382) (fun _ h9 => h9) rfl dX11_item_212 ?_
      refine lv_dup hx hb dX11_item_215 rfl ?_
      refine va_getN (ci := 1) (v := .int askings) (C := RX1) (T := TX1) (N := 13) (host := "SleeveSlips") hx hb hts in_X1 hown hC.1 hC.2.1 (3) rfl rfl 10 (by decide) (va_Nw.use rfl (hN.1.1 23)) (fun _ h9 => h9) rfl dX11_item_216 ?_
      refine lv_iconst (v := 1) hx hb dX11_item_219 (by decide) ?_
      refine lv_iadd hx hb dX11_item_220 ?_
      refine va_putN (ci := 1) (v := .int (askings + 1)) (ty := .int) (C := RX1) (T := TX1) (N := 13) (host := "SleeveSlips") hx hb hts in_X1 tyX1 tyX1_ok nmX1 hown hC.1 hC.2.1 hC.2.2.1 hC.2.2.2 (3) rfl rfl 10 (by decide) (va_Nw.use rfl (hN.1.1 23)) (fun _ h9 => h9) rfl (tyX1_ok 10 (by decide)) rfl rfl (Nat.le_of_ble_eq_true rfl) dX11_item_221 (fun H locs hP hD hS => ?_)
      have hC : HC D gcl (gty d) A (rw_ d ad ba ta ra mb bestSet trace text typed at__207 start_207 sort_207 value_207 room work price (upd whom askings.toNatClampNeg r_135) (upd bday askings.toNatClampNeg r_151) (upd units askings.toNatClampNeg r_167) (upd worth askings.toNatClampNeg r_183) (upd due askings.toNatClampNeg r_207) under people (askings + 1) hangs items) s H locs := ⟨hC.1, hP, hD, hS⟩
      refine lv_goto (tgt := 312) hx hb dX11_item_224 (by decide) ?_
      have hf := congrArg some (Sum.inr.inj (Option.some.inj hf))
      obtain ⟨e_1, e_2, e_3, e_4, e_5, e_6, e_7, e_8, e_9, e_10, e_11, e_12, e_13, e_14, e_15, e_16⟩ := so_16 (Option.some.inj hf)
      subst e_1
      subst e_2
      subst e_3
      subst e_4
      subst e_5
      subst e_6
      subst e_7
      subst e_8
      subst e_9
      subst e_10
      subst e_11
      subst e_12
      subst e_13
      subst e_14
      subst e_15
      subst e_16
      exact K H locs ls _ trivial hC dX11_item_312
    · have hf := if_f hf c_1_1
      refine lv_lookup (tgt := 227) (off := 226) hx hb dX11_item_1 (by decide) (by show Op.lookupswitch.offset [(0, 27), (1, 107)] 226 _ = _; rw [lv_osw c_1_0 (show (0 : Int32).toInt = 0 by decide), lv_osw c_1_1 (show (1 : Int32).toInt = 1 by decide)]; rfl) (by decide) ?_
      refine lv_aload_n hx hb dX11_item_227 rfl (lv_at hl 0 rfl) ?_
      refine lv_iconst (v := 0) hx hb dX11_item_228 (by decide) ?_
      refine lv_aload_n hx hb dX11_item_229 rfl (lv_at hl 0 rfl) ?_
      refine va_get (ci := 11) (v := .ref (mb 0)) (C := RX11) (T := TX11) (N := 6) hx hb hts in_X11 hown hC.1 hC.2.1 (2) rfl rfl 4 (by decide) (hts _ q382) (fun _ h9 => h9) rfl dX11_item_230 ?_
      refine va_getN (ci := 1) (v := .int askings) (C := RX1) (T := TX1) (N := 13) (host := "SleeveSlips") hx hb hts in_X1 hown hC.1 hC.2.1 (3) rfl rfl 10 (by decide) (va_Nw.use rfl (hN.1.1 23)) (fun _ h9 => h9) rfl dX11_item_233 ?_
      refine lv_iconst (v := 1) hx hb dX11_item_236 (by decide) ?_
      refine lv_isub hx hb dX11_item_237 ?_
      obtain ⟨r_238, at__238, start_238, sort_238, value_238, hcall, hf⟩ := bndE5_some hf
      refine hc_i (va_runV (C := RX11) (As := [.int 0, .int (askings - 1)]) (rest := []) ⟨hx, hb, hml, hown, hts⟩ (c_r_number hcall) (cwV 2 hts (lw_V q547 q549 qs7 q60 q550) rfl rfl rfl (by decide +kernel) ⟨(Nat.le_trans (Nat.le_of_ble_eq_true rfl) hRf), (Nat.le_trans (Nat.le_of_ble_eq_true rfl) hRl)⟩) (pre_V (q0 := 2) (ci := 11) (fun U g mk a h => ⟨NX.calling U g mk a h.1, SN.calling U g mk a h.2⟩) (fun U hU hW => ⟨NX.warm hW hN.1, SN.warm hN.2 hC.2.2.2 (all_free hC.2.2.1 hC.2.2.2 hA) hU hW⟩) hC rfl rfl) rfl rfl hl.1 rfl (lv_room (Nat.le_of_ble_eq_true rfl)) dX11_item_238 ⟨hRc, hRs⟩) hA hC (fun H locs hC => ?_)
      have hC : HC D gcl (gty d) A (rw_ d ad ba ta ra mb bestSet trace text typed at__238 start_238 sort_238 value_238 room work price whom bday units worth due under people askings hangs items) s H locs := hC
      refine lv_istore_n (lv' := [(3, .int r_238), (0, .ref ra), (1, .int x1)]) hx hb dX11_item_241 rfl hl (by decide) rfl (fun ls hl => ?_)
      refine lv_aload_n hx hb dX11_item_242 rfl (lv_at hl 1 rfl) ?_
      refine lv_aload_n hx hb dX11_item_243 rfl (lv_at hl 1 rfl) ?_
      refine va_get (ci := 11) (v := .int sort_238) (C := RX11) (T := TX11) (N := 6) hx hb hts in_X11 hown hC.1 hC.2.1 (2) rfl rfl 2 (by decide) (hts _ q380) (fun _ h9 => h9) rfl dX11_item_244 ?_
      refine lv_iconst (v := 3) hx hb dX11_item_247 (by decide) ?_
      obtain ⟨t_278, hj, hf⟩ := ltv_some hf
      refine wj (g1 := F0 m 278 ls [.int t_278, .ref ra]) ?_ (fun J_278 => ?_)
      · obtain ⟨r_278, at__278, start_278, sort_278, value_278, hcall, hf⟩ := bndE5_some hf
        refine hc_i (va_runV (C := RX11) (As := [.int t_278]) (rest := []) ⟨hx, hb, hml, hown, hts⟩ (c_r_due hcall) (cwV 1 hts (lw_V q471 q473 qs4 q60 q474) rfl rfl rfl (by decide +kernel) ⟨(Nat.le_trans (Nat.le_of_ble_eq_true rfl) hRf), (Nat.le_trans (Nat.le_of_ble_eq_true rfl) hRl)⟩) (pre_V (q0 := 2) (ci := 11) (fun U g mk a h => ⟨NX.calling U g mk a h.1, SN.calling U g mk a h.2⟩) (fun U hU hW => ⟨NX.warm hW hN.1, SN.warm hN.2 hC.2.2.2 (all_free hC.2.2.1 hC.2.2.2 hA) hU hW⟩) hC rfl rfl) rfl rfl hl.1 rfl (lv_room (Nat.le_of_ble_eq_true rfl)) dX11_item_278 ⟨hRc, hRs⟩) hA hC (fun H locs hC => ?_)
        have hC : HC D gcl (gty d) A (rw_ d ad ba ta ra mb bestSet trace text typed at__278 start_278 sort_278 value_278 room work price whom bday units worth due under people askings hangs items) s H locs := hC
        refine lv_istore (lv' := [(4, .int r_278), (3, .int r_238), (0, .ref ra), (1, .int x1)]) hx hb dX11_item_281 hl (by decide) rfl (fun ls hl => ?_)
        refine lv_aload_n hx hb dX11_item_283 rfl (lv_at hl 2 rfl) ?_
        refine va_get (ci := 11) (v := .ref (mb 0)) (C := RX11) (T := TX11) (N := 6) hx hb hts in_X11 hown hC.1 hC.2.1 (2) rfl rfl 4 (by decide) (hts _ q382) (fun _ h9 => h9) rfl dX11_item_284 ?_
        refine va_getN (ci := 1) (v := .ref (mb 9)) (C := RX1) (T := TX1) (N := 13) (host := "SleeveSlips") hx hb hts in_X1 hown hC.1 hC.2.1 (3) rfl rfl 8 (by decide) (va_Nw.use rfl (hN.1.1 18)) (fun _ h9 => h9) rfl dX11_item_287 ?_
        refine lv_iload_n hx hb dX11_item_290 rfl (lv_at hl 1 rfl) ?_
        refine lv_dup2_11 hx hb dX11_item_291 rfl rfl ?_
        obtain ⟨hi_292, hf⟩ := ck_some hf
        refine va_iald hx hb hC.1 hC.2.1 (12) 0 rfl rfl hi_292 dX11_item_292 ?_
        refine lv_iconst (v := 1) hx hb dX11_item_293 (by decide) ?_
        refine lv_iload hx hb dX11_item_294 (lv_at hl 0 rfl) ?_
        refine lv_ishl hx hb dX11_item_296 ?_
        refine lv_ior hx hb dX11_item_297 ?_
        obtain ⟨hi_298, hf⟩ := ck_some hf
        refine va_iast hx hb hC.1 hC.2.1 hC.2.2.1 hC.2.2.2 (12) 0 rfl rfl hi_298 dX11_item_298 (fun H locs hP hD hS => ?_)
        have hC : HC D gcl (gty d) A (rw_ d ad ba ta ra mb bestSet trace text typed at__278 start_278 sort_278 value_278 room work price whom bday units worth due (upd under r_238.toNatClampNeg ((under r_238.toNatClampNeg) ||| (1 <<< (r_278 &&& 31)))) people askings hangs items) s H locs := ⟨hC.1, hP, hD, hS⟩
        refine lv_aload_n hx hb dX11_item_299 rfl (lv_at hl 2 rfl) ?_
        refine va_get (ci := 11) (v := .ref (mb 0)) (C := RX11) (T := TX11) (N := 6) hx hb hts in_X11 hown hC.1 hC.2.1 (2) rfl rfl 4 (by decide) (hts _ q382) (fun _ h9 => h9) rfl dX11_item_300 ?_
        refine lv_dup hx hb dX11_item_303 rfl ?_
        refine va_getN (ci := 1) (v := .int hangs) (C := RX1) (T := TX1) (N := 13) (host := "SleeveSlips") hx hb hts in_X1 hown hC.1 hC.2.1 (3) rfl rfl 11 (by decide) (va_Nw.use rfl (hN.1.1 24)) (fun _ h9 => h9) rfl dX11_item_304 ?_
        refine lv_iconst (v := 1) hx hb dX11_item_307 (by decide) ?_
        refine lv_iadd hx hb dX11_item_308 ?_
        refine va_putN (ci := 1) (v := .int (hangs + 1)) (ty := .int) (C := RX1) (T := TX1) (N := 13) (host := "SleeveSlips") hx hb hts in_X1 tyX1 tyX1_ok nmX1 hown hC.1 hC.2.1 hC.2.2.1 hC.2.2.2 (3) rfl rfl 11 (by decide) (va_Nw.use rfl (hN.1.1 24)) (fun _ h9 => h9) rfl (tyX1_ok 11 (by decide)) rfl rfl (Nat.le_of_ble_eq_true rfl) dX11_item_309 (fun H locs hP hD hS => ?_)
        have hC : HC D gcl (gty d) A (rw_ d ad ba ta ra mb bestSet trace text typed at__278 start_278 sort_278 value_278 room work price whom bday units worth due (upd under r_238.toNatClampNeg ((under r_238.toNatClampNeg) ||| (1 <<< (r_278 &&& 31)))) people askings (hangs + 1) items) s H locs := ⟨hC.1, hP, hD, hS⟩
        have hf := congrArg some (Sum.inr.inj (Option.some.inj hf))
        obtain ⟨e_1, e_2, e_3, e_4, e_5, e_6, e_7, e_8, e_9, e_10, e_11, e_12, e_13, e_14, e_15, e_16⟩ := so_16 (Option.some.inj hf)
        subst e_1
        subst e_2
        subst e_3
        subst e_4
        subst e_5
        subst e_6
        subst e_7
        subst e_8
        subst e_9
        subst e_10
        subst e_11
        subst e_12
        subst e_13
        subst e_14
        subst e_15
        subst e_16
        exact K H locs ls _ trivial hC dX11_item_312
      · have hf := hj
        refine lv_icmp_ne (tgt := 277) hx hb dX11_item_248 (by decide) (fun c_248 => ?_) (fun c_248 => ?_)
        · have hf := if_f hf c_248
          refine lv_iconst (v := 0) hx hb dX11_item_277 (by decide) ?_
          have e_1 := hf
          subst e_1
          exact J_278
        · have hf := if_t hf c_248
          refine lv_aload_n hx hb dX11_item_251 rfl (lv_at hl 1 rfl) ?_
          refine va_get (ci := 11) (v := .int value_238) (C := RX11) (T := TX11) (N := 6) hx hb hts in_X11 hown hC.1 hC.2.1 (2) rfl rfl 3 (by decide) (hts _ q381) (fun _ h9 => h9) rfl dX11_item_252 ?_
          refine lv_aload_n hx hb dX11_item_255 rfl (lv_at hl 1 rfl) ?_
          refine va_get (ci := 11) (v := .ref (mb 0)) (C := RX11) (T := TX11) (N := 6) hx hb hts in_X11 hown hC.1 hC.2.1 (2) rfl rfl 4 (by decide) (hts _ q382) (fun _ h9 => h9) rfl dX11_item_256 ?_
          refine va_getN (ci := 1) (v := .int askings) (C := RX1) (T := TX1) (N := 13) (host := "SleeveSlips") hx hb hts in_X1 hown hC.1 hC.2.1 (3) rfl rfl 10 (by decide) (va_Nw.use rfl (hN.1.1 23)) (fun _ h9 => h9) rfl dX11_item_259 ?_
          refine lv_icmp_ge (tgt := 277) hx hb dX11_item_262 (by decide) (fun c_262 => ?_) (fun c_262 => ?_)
          · have hf := if_t hf c_262
            refine lv_iconst (v := 0) hx hb dX11_item_277 (by decide) ?_
            have e_1 := hf
            subst e_1
            exact J_278
          · have hf := if_f hf c_262
            refine lv_aload_n hx hb dX11_item_265 rfl (lv_at hl 1 rfl) ?_
            refine va_get (ci := 11) (v := .int value_238) (C := RX11) (T := TX11) (N := 6) hx hb hts in_X11 hown hC.1 hC.2.1 (2) rfl rfl 3 (by decide) (hts _ q381) (fun _ h9 => h9) rfl dX11_item_266 ?_
            refine lv_iload_n hx hb dX11_item_269 rfl (lv_at hl 0 rfl) ?_
            refine lv_icmp_eq (tgt := 277) hx hb dX11_item_270 (by decide) (fun c_270 => ?_) (fun c_270 => ?_)
            · have hf := if_t hf c_270
              refine lv_iconst (v := 0) hx hb dX11_item_277 (by decide) ?_
              have e_1 := hf
              subst e_1
              exact J_278
            · have hf := if_f hf c_270
              refine lv_iconst (v := 1) hx hb dX11_item_273 (by decide) ?_
              refine lv_goto (tgt := 278) hx hb dX11_item_274 (by decide) ?_
              have e_1 := hf
              subst e_1
              exact J_278
set_option maxRecDepth 100000 in
theorem c_r_item {l : Launch} {sz : Nat} {D : va_G} {d : Nat → ClassId} {ad : Nat → Nat} {ba : Nat → Nat} {ta : Nat → Nat} {ra : Nat} {mb : Nat → Nat} {bestSet : Int32} {trace : Int64} {adK : Nat → Nat} {adV : Nat → Nat} {tW : Nat} {text : Nat → Int32} {typed : Int32} {at_ : Int32} {start : Int32} {sort : Int32} {value : Int32} {room : Nat → Int32} {work : Nat → Int32} {price : Nat → Int32} {whom : Nat → Int32} {bday : Nat → Int32} {units : Nat → Int32} {worth : Nat → Int32} {due : Nat → Int32} {under : Nat → Int32} {people : Int32} {askings : Int32} {hangs : Int32} {items : Int32} {x1 : Int32} {at__r : Int32} {start_r : Int32} {sort_r : Int32} {value_r : Int32} {room_r : Nat → Int32} {work_r : Nat → Int32} {price_r : Nat → Int32} {whom_r : Nat → Int32} {bday_r : Nat → Int32} {units_r : Nat → Int32} {worth_r : Nat → Int32} {due_r : Nat → Int32} {under_r : Nat → Int32} {people_r : Int32} {askings_r : Int32} {hangs_r : Int32} (hf : r_item text typed at_ start sort value room work price whom bday units worth due under people askings hangs x1 = some (.inr (at__r, start_r, sort_r, value_r, room_r, work_r, price_r, whom_r, bday_r, units_r, worth_r, due_r, under_r, people_r, askings_r, hangs_r))) : MV l yX11_item (ws_ yX11_item cX11_item 5 none) { frames := 8, cells := 0, slots := 0, locals := 174 } D gcl (gty d) (fun U => NX U ∧ SN adK adV tW (rw_ d ad ba ta ra mb bestSet trace text typed at_ start sort value room work price whom bday units worth due under people askings hangs items) U) (rw_ d ad ba ta ra mb bestSet trace text typed at_ start sort value room work price whom bday units worth due under people askings hangs items) (rw_ d ad ba ta ra mb bestSet trace text typed at__r start_r sort_r value_r room_r work_r price_r whom_r bday_r units_r worth_r due_r under_r people_r askings_r hangs_r items) sz [.ref ra, .int x1] :=
  MV.of (by decide) [.ref ra, .int x1] [(0, .ref ra), (1, .int x1)] (Nat.le_of_ble_eq_true rfl) rfl (fun p e s m below meth c ls Q hx hb hml hown hts hN hA hC hl K => w_r_item hx hb hml hown hts hN hA (Nat.le_refl _) (Nat.le_refl _) (Nat.le_refl _) (Nat.le_refl _) hf hC hl K)
set_option maxHeartbeats 4000000 in
set_option maxRecDepth 100000 in
theorem wt_r_item {p : Program} {l : Launch} {e : Env} {R : Room} {s : State} {m : MethodId} {args : Array Value} {below : List Frame} {meth : Method} {c : Code} {H : Heap} {locs : List Loc} {cells slots : Nat} {Q : State → Prop} {A : Nat → Prop} {ls : Array Slot} {D : va_G} {d : Nat → ClassId} {ad : Nat → Nat} {ba : Nat → Nat} {ta : Nat → Nat} {ra : Nat} {mb : Nat → Nat} {bestSet : Int32} {trace : Int64} {adK : Nat → Nat} {adV : Nat → Nat} {tW : Nat} {text : Nat → Int32} {typed : Int32} {at_ : Int32} {start : Int32} {sort : Int32} {value : Int32} {room : Nat → Int32} {work : Nat → Int32} {price : Nat → Int32} {whom : Nat → Int32} {bday : Nat → Int32} {units : Nat → Int32} {worth : Nat → Int32} {due : Nat → Int32} {under : Nat → Int32} {people : Int32} {askings : Int32} {hangs : Int32} {items : Int32} {x1 : Int32} {st_ : Int32} (hx : p.tables.exec = Jvm.exec) (hb : c.code = cX11_item) (hml : c.maxLocals = 5) (hown : s.vm.findClass RX11 = some m.cls) (hts : ∀ w ∈ lw_all, w.before args s = true) (hN : NX s ∧ SX adK adV tW A s s.heap) (hA : ∀ q, s.heap.size ≤ q → A q) (hne : c.exceptionTable.toList = []) (hlocks : meth.locks = false) (hRf : 8 ≤ R.frames) (hRl : 174 ≤ R.locals) (hRc1 : cells + 1 ≤ R.cells) (hRs1 : slots + 7 ≤ R.slots) (hf : r_item text typed at_ start sort value room work price whom bday units worth due under people askings hangs x1 = some (.inl st_)) (hC : HC D gcl (gty d) A (rw_ d ad ba ta ra mb bestSet trace text typed at_ start sort value room work price whom bday units worth due under people askings hangs items) s H locs) (hl : lv_has ls 5 [(0, .ref ra), (1, .int x1)]) (KT : ∀ (H : Heap) (locs : List Loc) (x : Addr), HC D gcl (gty d) A (rwt d ad ba ta bestSet trace text typed st_ x) s H locs → WT p l e R s m args below meth c H locs (cells + 1) (slots + 7) Q x) : W p l e R s m args below meth c H locs cells slots Q (F0 m 0 ls []) := by
  have hRc : cells ≤ R.cells := Nat.le_trans (Nat.le_add_right _ _) hRc1
  have hRs : slots ≤ R.slots := Nat.le_trans (Nat.le_add_right _ _) hRs1
  unfold r_item at hf
  refine lv_iload_n hx hb dX11_item_0 rfl (lv_at hl 1 rfl) ?_
  by_cases c_1_0 : x1 = 0
  · have hf := if_t hf c_1_0
    refine lv_lookup (tgt := 28) (off := 27) hx hb dX11_item_1 (by decide) (by rw [c_1_0]; decide) (by decide) ?_
    refine lv_aload_n hx hb dX11_item_28 rfl (lv_at hl 0 rfl) ?_
    refine va_get (ci := 11) (v := .ref (mb 0)) (C := RX11) (T := TX11) (N := 6) hx hb hts in_X11 hown hC.1 hC.2.1 (2) rfl rfl 4 (by decide) (hts _ q382) (fun _ h9 => h9) rfl dX11_item_29 ?_
    refine va_getN (ci := 1) (v := .ref (mb 1)) (C := RX1) (T := TX1) (N := 13) (host := "SleeveSlips") hx hb hts in_X1 hown hC.1 hC.2.1 (3) rfl rfl 0 (by decide) (va_Nw.use rfl (hN.1.1 1)) (fun _ h9 => h9) rfl dX11_item_32 ?_
    refine lv_aload_n hx hb dX11_item_35 rfl (lv_at hl 0 rfl) ?_
    refine va_get (ci := 11) (v := .ref (mb 0)) (C := RX11) (T := TX11) (N := 6) hx hb hts in_X11 hown hC.1 hC.2.1 (2) rfl rfl 4 (by decide) (hts _ q382) (fun _ h9 => h9) rfl dX11_item_36 ?_
    refine va_getN (ci := 1) (v := .int people) (C := RX1) (T := TX1) (N := 13) (host := "SleeveSlips") hx hb hts in_X1 hown hC.1 hC.2.1 (3) rfl rfl 9 (by decide) (va_Nw.use rfl (hN.1.1 21)) (fun _ h9 => h9) rfl dX11_item_39 ?_
    refine lv_aload_n hx hb dX11_item_42 rfl (lv_at hl 0 rfl) ?_
    refine lv_iconst (v := 1) hx hb dX11_item_43 (by decide) ?_
    refine lv_iconst (v := 5) hx hb dX11_item_44 (by decide) ?_
    rcases bndE5_or hf with hcall | ⟨r_45, at__45, start_45, sort_45, value_45, hcall, hf⟩
    · exact ht_out (runVT (C := RX11) (As := [.int 1, .int 5]) (rest := [.int people, .ref (mb 1)]) ⟨hx, hb, hml, hown, hts⟩ (ct_r_number hcall) (cwV 2 hts (lw_V q547 q549 qs7 q60 q550) rfl rfl rfl (by decide +kernel) ⟨(Nat.le_trans (Nat.le_of_ble_eq_true rfl) hRf), (Nat.le_trans (Nat.le_of_ble_eq_true rfl) hRl)⟩) (pre_V (q0 := 2) (ci := 11) (fun U g mk a h => ⟨NX.calling U g mk a h.1, SN.calling U g mk a h.2⟩) (fun U hU hW => ⟨NX.warm hW hN.1, SN.warm hN.2 hC.2.2.2 (all_free hC.2.2.1 hC.2.2.2 hA) hU hW⟩) hC rfl rfl) rfl rfl hl.1 rfl (lv_room (Nat.le_of_ble_eq_true rfl)) dX11_item_45 ⟨hRc1, hRs1⟩) hne hlocks hA hC KT
    refine hc_i (va_runV (C := RX11) (As := [.int 1, .int 5]) (rest := [.int people, .ref (mb 1)]) ⟨hx, hb, hml, hown, hts⟩ (c_r_number hcall) (cwV 2 hts (lw_V q547 q549 qs7 q60 q550) rfl rfl rfl (by decide +kernel) ⟨(Nat.le_trans (Nat.le_of_ble_eq_true rfl) hRf), (Nat.le_trans (Nat.le_of_ble_eq_true rfl) hRl)⟩) (pre_V (q0 := 2) (ci := 11) (fun U g mk a h => ⟨NX.calling U g mk a h.1, SN.calling U g mk a h.2⟩) (fun U hU hW => ⟨NX.warm hW hN.1, SN.warm hN.2 hC.2.2.2 (all_free hC.2.2.1 hC.2.2.2 hA) hU hW⟩) hC rfl rfl) rfl rfl hl.1 rfl (lv_room (Nat.le_of_ble_eq_true rfl)) dX11_item_45 ⟨hRc, hRs⟩) hA hC (fun H locs hC => ?_)
    have hC : HC D gcl (gty d) A (rw_ d ad ba ta ra mb bestSet trace text typed at__45 start_45 sort_45 value_45 room work price whom bday units worth due under people askings hangs items) s H locs := hC
    obtain ⟨hi_48, hf⟩ := ck_some hf
    refine va_iast hx hb hC.1 hC.2.1 hC.2.2.1 hC.2.2.2 (4) 0 rfl rfl hi_48 dX11_item_48 (fun H locs hP hD hS => ?_)
    have hC : HC D gcl (gty d) A (rw_ d ad ba ta ra mb bestSet trace text typed at__45 start_45 sort_45 value_45 (upd room people.toNatClampNeg r_45) work price whom bday units worth due under people askings hangs items) s H locs := ⟨hC.1, hP, hD, hS⟩
    refine lv_aload_n hx hb dX11_item_49 rfl (lv_at hl 0 rfl) ?_
    refine va_get (ci := 11) (v := .ref (mb 0)) (C := RX11) (T := TX11) (N := 6) hx hb hts in_X11 hown hC.1 hC.2.1 (2) rfl rfl 4 (by decide) (hts _ q382) (fun _ h9 => h9) rfl dX11_item_50 ?_
    refine va_getN (ci := 1) (v := .ref (mb 2)) (C := RX1) (T := TX1) (N := 13) (host := "SleeveSlips") hx hb hts in_X1 hown hC.1 hC.2.1 (3) rfl rfl 1 (by decide) (va_Nw.use rfl (hN.1.1 4)) (fun _ h9 => h9) rfl dX11_item_53 ?_
    refine lv_aload_n hx hb dX11_item_56 rfl (lv_at hl 0 rfl) ?_
    refine va_get (ci := 11) (v := .ref (mb 0)) (C := RX11) (T := TX11) (N := 6) hx hb hts in_X11 hown hC.1 hC.2.1 (2) rfl rfl 4 (by decide) (hts _ q382) (fun _ h9 => h9) rfl dX11_item_57 ?_
    refine va_getN (ci := 1) (v := .int people) (C := RX1) (T := TX1) (N := 13) (host := "SleeveSlips") hx hb hts in_X1 hown hC.1 hC.2.1 (3) rfl rfl 9 (by decide) (va_Nw.use rfl (hN.1.1 21)) (fun _ h9 => h9) rfl dX11_item_60 ?_
    refine lv_aload_n hx hb dX11_item_63 rfl (lv_at hl 0 rfl) ?_
    refine lv_iconst (v := 1) hx hb dX11_item_64 (by decide) ?_
    refine lv_iconst (v := 3) hx hb dX11_item_65 (by decide) ?_
    rcases bndE5_or hf with hcall | ⟨r_66, at__66, start_66, sort_66, value_66, hcall, hf⟩
    · exact ht_out (runVT (C := RX11) (As := [.int 1, .int 3]) (rest := [.int people, .ref (mb 2)]) ⟨hx, hb, hml, hown, hts⟩ (ct_r_number hcall) (cwV 2 hts (lw_V q547 q549 qs7 q60 q550) rfl rfl rfl (by decide +kernel) ⟨(Nat.le_trans (Nat.le_of_ble_eq_true rfl) hRf), (Nat.le_trans (Nat.le_of_ble_eq_true rfl) hRl)⟩) (pre_V (q0 := 2) (ci := 11) (fun U g mk a h => ⟨NX.calling U g mk a h.1, SN.calling U g mk a h.2⟩) (fun U hU hW => ⟨NX.warm hW hN.1, SN.warm hN.2 hC.2.2.2 (all_free hC.2.2.1 hC.2.2.2 hA) hU hW⟩) hC rfl rfl) rfl rfl hl.1 rfl (lv_room (Nat.le_of_ble_eq_true rfl)) dX11_item_66 ⟨hRc1, hRs1⟩) hne hlocks hA hC KT
    refine hc_i (va_runV (C := RX11) (As := [.int 1, .int 3]) (rest := [.int people, .ref (mb 2)]) ⟨hx, hb, hml, hown, hts⟩ (c_r_number hcall) (cwV 2 hts (lw_V q547 q549 qs7 q60 q550) rfl rfl rfl (by decide +kernel) ⟨(Nat.le_trans (Nat.le_of_ble_eq_true rfl) hRf), (Nat.le_trans (Nat.le_of_ble_eq_true rfl) hRl)⟩) (pre_V (q0 := 2) (ci := 11) (fun U g mk a h => ⟨NX.calling U g mk a h.1, SN.calling U g mk a h.2⟩) (fun U hU hW => ⟨NX.warm hW hN.1, SN.warm hN.2 hC.2.2.2 (all_free hC.2.2.1 hC.2.2.2 hA) hU hW⟩) hC rfl rfl) rfl rfl hl.1 rfl (lv_room (Nat.le_of_ble_eq_true rfl)) dX11_item_66 ⟨hRc, hRs⟩) hA hC (fun H locs hC => ?_)
    have hC : HC D gcl (gty d) A (rw_ d ad ba ta ra mb bestSet trace text typed at__66 start_66 sort_66 value_66 (upd room people.toNatClampNeg r_45) work price whom bday units worth due under people askings hangs items) s H locs := hC
    obtain ⟨hi_69, hf⟩ := ck_some hf
    refine va_iast hx hb hC.1 hC.2.1 hC.2.2.1 hC.2.2.2 (5) 0 rfl rfl hi_69 dX11_item_69 (fun H locs hP hD hS => ?_)
    have hC : HC D gcl (gty d) A (rw_ d ad ba ta ra mb bestSet trace text typed at__66 start_66 sort_66 value_66 (upd room people.toNatClampNeg r_45) (upd work people.toNatClampNeg r_66) price whom bday units worth due under people askings hangs items) s H locs := ⟨hC.1, hP, hD, hS⟩
    refine lv_aload_n hx hb dX11_item_70 rfl (lv_at hl 0 rfl) ?_
    refine va_get (ci := 11) (v := .ref (mb 0)) (C := RX11) (T := TX11) (N := 6) hx hb hts in_X11 hown hC.1 hC.2.1 (2) rfl rfl 4 (by decide) (hts _ q382) (fun _ h9 => h9) rfl dX11_item_71 ?_
    refine va_getN (ci := 1) (v := .ref (mb 3)) (C := RX1) (T := TX1) (N := 13) (host := "SleeveSlips") hx hb hts in_X1 hown hC.1 hC.2.1 (3) rfl rfl 2 (by decide) (va_Nw.use rfl (hN.1.1 6)) (fun _ h9 => h9) rfl dX11_item_74 ?_
    refine lv_aload_n hx hb dX11_item_77 rfl (lv_at hl 0 rfl) ?_
    refine va_get (ci := 11) (v := .ref (mb 0)) (C := RX11) (T := TX11) (N := 6) hx hb hts in_X11 hown hC.1 hC.2.1 (2) rfl rfl 4 (by decide) (hts _ q382) (fun _ h9 => h9) rfl dX11_item_78 ?_
    refine va_getN (ci := 1) (v := .int people) (C := RX1) (T := TX1) (N := 13) (host := "SleeveSlips") hx hb hts in_X1 hown hC.1 hC.2.1 (3) rfl rfl 9 (by decide) (va_Nw.use rfl (hN.1.1 21)) (fun _ h9 => h9) rfl dX11_item_81 ?_
    refine lv_aload_n hx hb dX11_item_84 rfl (lv_at hl 0 rfl) ?_
    refine lv_iconst (v := 0) hx hb dX11_item_85 (by decide) ?_
    refine lv_bipush (v := 9) hx hb dX11_item_86 (by decide) ?_
    rcases bndE5_or hf with hcall | ⟨r_88, at__88, start_88, sort_88, value_88, hcall, hf⟩
    · exact ht_out (runVT (C := RX11) (As := [.int 0, .int 9]) (rest := [.int people, .ref (mb 3)]) ⟨hx, hb, hml, hown, hts⟩ (ct_r_number hcall) (cwV 2 hts (lw_V q547 q549 qs7 q60 q550) rfl rfl rfl (by decide +kernel) ⟨(Nat.le_trans (Nat.le_of_ble_eq_true rfl) hRf), (Nat.le_trans (Nat.le_of_ble_eq_true rfl) hRl)⟩) (pre_V (q0 := 2) (ci := 11) (fun U g mk a h => ⟨NX.calling U g mk a h.1, SN.calling U g mk a h.2⟩) (fun U hU hW => ⟨NX.warm hW hN.1, SN.warm hN.2 hC.2.2.2 (all_free hC.2.2.1 hC.2.2.2 hA) hU hW⟩) hC rfl rfl) rfl rfl hl.1 rfl (lv_room (Nat.le_of_ble_eq_true rfl)) dX11_item_88 ⟨hRc1, hRs1⟩) hne hlocks hA hC KT
    refine hc_i (va_runV (C := RX11) (As := [.int 0, .int 9]) (rest := [.int people, .ref (mb 3)]) ⟨hx, hb, hml, hown, hts⟩ (c_r_number hcall) (cwV 2 hts (lw_V q547 q549 qs7 q60 q550) rfl rfl rfl (by decide +kernel) ⟨(Nat.le_trans (Nat.le_of_ble_eq_true rfl) hRf), (Nat.le_trans (Nat.le_of_ble_eq_true rfl) hRl)⟩) (pre_V (q0 := 2) (ci := 11) (fun U g mk a h => ⟨NX.calling U g mk a h.1, SN.calling U g mk a h.2⟩) (fun U hU hW => ⟨NX.warm hW hN.1, SN.warm hN.2 hC.2.2.2 (all_free hC.2.2.1 hC.2.2.2 hA) hU hW⟩) hC rfl rfl) rfl rfl hl.1 rfl (lv_room (Nat.le_of_ble_eq_true rfl)) dX11_item_88 ⟨hRc, hRs⟩) hA hC (fun H locs hC => ?_)
    have hC : HC D gcl (gty d) A (rw_ d ad ba ta ra mb bestSet trace text typed at__88 start_88 sort_88 value_88 (upd room people.toNatClampNeg r_45) (upd work people.toNatClampNeg r_66) price whom bday units worth due under people askings hangs items) s H locs := hC
    obtain ⟨hi_91, hf⟩ := ck_some hf
    refine va_iast hx hb hC.1 hC.2.1 hC.2.2.1 hC.2.2.2 (6) 0 rfl rfl hi_91 dX11_item_91 (fun H locs hP hD hS => ?_)
    have hC : HC D gcl (gty d) A (rw_ d ad ba ta ra mb bestSet trace text typed at__88 start_88 sort_88 value_88 (upd room people.toNatClampNeg r_45) (upd work people.toNatClampNeg r_66) (upd price people.toNatClampNeg r_88) whom bday units worth due under people askings hangs items) s H locs := ⟨hC.1, hP, hD, hS⟩
    refine lv_aload_n hx hb dX11_item_92 rfl (lv_at hl 0 rfl) ?_
    refine va_get (ci := 11) (v := .ref (mb 0)) (C := RX11) (T := TX11) (N := 6) hx hb hts in_X11 hown hC.1 hC.2.1 (2) rfl rfl 4 (by decide) (hts _ q382) (fun _ h9 => h9) rfl dX11_item_93 ?_
    refine lv_dup hx hb dX11_item_96 rfl ?_
    refine va_getN (ci := 1) (v := .int people) (C := RX1) (T := TX1) (N := 13) (host := "SleeveSlips") hx hb hts in_X1 hown hC.1 hC.2.1 (3) rfl rfl 9 (by decide) (va_Nw.use rfl (hN.1.1 21)) (fun _ h9 => h9) rfl dX11_item_97 ?_
    refine lv_iconst (v := 1) hx hb dX11_item_100 (by decide) ?_
    refine lv_iadd hx hb dX11_item_101 ?_
    refine va_putN (ci := 1) (v := .int (people + 1)) (ty := .int) (C := RX1) (T := TX1) (N := 13) (host := "SleeveSlips") hx hb hts in_X1 tyX1 tyX1_ok nmX1 hown hC.1 hC.2.1 hC.2.2.1 hC.2.2.2 (3) rfl rfl 9 (by decide) (va_Nw.use rfl (hN.1.1 21)) (fun _ h9 => h9) rfl (tyX1_ok 9 (by decide)) rfl rfl (Nat.le_of_ble_eq_true rfl) dX11_item_102 (fun H locs hP hD hS => ?_)
    have hC : HC D gcl (gty d) A (rw_ d ad ba ta ra mb bestSet trace text typed at__88 start_88 sort_88 value_88 (upd room people.toNatClampNeg r_45) (upd work people.toNatClampNeg r_66) (upd price people.toNatClampNeg r_88) whom bday units worth due under (people + 1) askings hangs items) s H locs := ⟨hC.1, hP, hD, hS⟩
    refine lv_goto (tgt := 312) hx hb dX11_item_105 (by decide) ?_
    cases hf
  · have hf := if_f hf c_1_0
    by_cases c_1_1 : x1 = 1
    · have hf := if_t hf c_1_1
      refine lv_lookup (tgt := 108) (off := 107) hx hb dX11_item_1 (by decide) (by rw [c_1_1]; decide) (by decide) ?_
      refine lv_aload_n hx hb dX11_item_108 rfl (lv_at hl 0 rfl) ?_
      refine va_get (ci := 11) (v := .ref (mb 0)) (C := RX11) (T := TX11) (N := 6) hx hb hts in_X11 hown hC.1 hC.2.1 (2) rfl rfl 4 (by decide) (hts _ q382) (fun _ h9 => h9) rfl dX11_item_109 ?_
      refine va_getN (ci := 1) (v := .int askings) (C := RX1) (T := TX1) (N := 13) (host := "SleeveSlips") hx hb hts in_X1 hown hC.1 hC.2.1 (3) rfl rfl 10 (by decide) (va_Nw.use rfl (hN.1.1 23)) (fun _ h9 => h9) rfl dX11_item_112 ?_
      refine lv_istore_n (lv' := [(2, .int askings), (0, .ref ra), (1, .int x1)]) hx hb dX11_item_115 rfl hl (by decide) rfl (fun ls hl => ?_)
      refine lv_aload_n hx hb dX11_item_116 rfl (lv_at hl 1 rfl) ?_
      refine va_get (ci := 11) (v := .ref (mb 0)) (C := RX11) (T := TX11) (N := 6) hx hb hts in_X11 hown hC.1 hC.2.1 (2) rfl rfl 4 (by decide) (hts _ q382) (fun _ h9 => h9) rfl dX11_item_117 ?_
      refine va_getN (ci := 1) (v := .ref (mb 4)) (C := RX1) (T := TX1) (N := 13) (host := "SleeveSlips") hx hb hts in_X1 hown hC.1 hC.2.1 (3) rfl rfl 3 (by decide) (va_Nw.use rfl (hN.1.1 8)) (fun _ h9 => h9) rfl dX11_item_120 ?_
      refine lv_iload_n hx hb dX11_item_123 rfl (lv_at hl 0 rfl) ?_
      refine lv_aload_n hx hb dX11_item_124 rfl (lv_at hl 1 rfl) ?_
      refine lv_iconst (v := 0) hx hb dX11_item_125 (by decide) ?_
      refine lv_aload_n hx hb dX11_item_126 rfl (lv_at hl 1 rfl) ?_
      refine va_get (ci := 11) (v := .ref (mb 0)) (C := RX11) (T := TX11) (N := 6) hx hb hts in_X11 hown hC.1 hC.2.1 (2) rfl rfl 4 (by decide) (hts _ q382) (fun _ h9 => h9) rfl dX11_item_127 ?_
      refine va_getN (ci := 1) (v := .int people) (C := RX1) (T := TX1) (N := 13) (host := "SleeveSlips") hx hb hts in_X1 hown hC.1 hC.2.1 (3) rfl rfl 9 (by decide) (va_Nw.use rfl (hN.1.1 21)) (fun _ h9 => h9) rfl dX11_item_130 ?_
      refine lv_iconst (v := 1) hx hb dX11_item_133 (by decide) ?_
      refine lv_isub hx hb dX11_item_134 ?_
      rcases bndE5_or hf with hcall | ⟨r_135, at__135, start_135, sort_135, value_135, hcall, hf⟩
      · exact ht_out (runVT (C := RX11) (As := [.int 0, .int (people - 1)]) (rest := [.int askings, .ref (mb 4)]) ⟨hx, hb, hml, hown, hts⟩ (ct_r_number hcall) (cwV 2 hts (lw_V q547 q549 qs7 q60 q550) rfl rfl rfl (by decide +kernel) ⟨(Nat.le_trans (Nat.le_of_ble_eq_true rfl) hRf), (Nat.le_trans (Nat.le_of_ble_eq_true rfl) hRl)⟩) (pre_V (q0 := 2) (ci := 11) (fun U g mk a h => ⟨NX.calling U g mk a h.1, SN.calling U g mk a h.2⟩) (fun U hU hW => ⟨NX.warm hW hN.1, SN.warm hN.2 hC.2.2.2 (all_free hC.2.2.1 hC.2.2.2 hA) hU hW⟩) hC rfl rfl) rfl rfl hl.1 rfl (lv_room (Nat.le_of_ble_eq_true rfl)) dX11_item_135 ⟨hRc1, hRs1⟩) hne hlocks hA hC KT
      refine hc_i (va_runV (C := RX11) (As := [.int 0, .int (people - 1)]) (rest := [.int askings, .ref (mb 4)]) ⟨hx, hb, hml, hown, hts⟩ (c_r_number hcall) (cwV 2 hts (lw_V q547 q549 qs7 q60 q550) rfl rfl rfl (by decide +kernel) ⟨(Nat.le_trans (Nat.le_of_ble_eq_true rfl) hRf), (Nat.le_trans (Nat.le_of_ble_eq_true rfl) hRl)⟩) (pre_V (q0 := 2) (ci := 11) (fun U g mk a h => ⟨NX.calling U g mk a h.1, SN.calling U g mk a h.2⟩) (fun U hU hW => ⟨NX.warm hW hN.1, SN.warm hN.2 hC.2.2.2 (all_free hC.2.2.1 hC.2.2.2 hA) hU hW⟩) hC rfl rfl) rfl rfl hl.1 rfl (lv_room (Nat.le_of_ble_eq_true rfl)) dX11_item_135 ⟨hRc, hRs⟩) hA hC (fun H locs hC => ?_)
      have hC : HC D gcl (gty d) A (rw_ d ad ba ta ra mb bestSet trace text typed at__135 start_135 sort_135 value_135 room work price whom bday units worth due under people askings hangs items) s H locs := hC
      obtain ⟨hi_138, hf⟩ := ck_some hf
      refine va_iast hx hb hC.1 hC.2.1 hC.2.2.1 hC.2.2.2 (7) 0 rfl rfl hi_138 dX11_item_138 (fun H locs hP hD hS => ?_)
      have hC : HC D gcl (gty d) A (rw_ d ad ba ta ra mb bestSet trace text typed at__135 start_135 sort_135 value_135 room work price (upd whom askings.toNatClampNeg r_135) bday units worth due under people askings hangs items) s H locs := ⟨hC.1, hP, hD, hS⟩
      refine lv_aload_n hx hb dX11_item_139 rfl (lv_at hl 1 rfl) ?_
      refine va_get (ci := 11) (v := .ref (mb 0)) (C := RX11) (T := TX11) (N := 6) hx hb hts in_X11 hown hC.1 hC.2.1 (2) rfl rfl 4 (by decide) (hts _ q382) (fun _ h9 => h9) rfl dX11_item_140 ?_
      refine va_getN (ci := 1) (v := .ref (mb 5)) (C := RX1) (T := TX1) (N := 13) (host := "SleeveSlips") hx hb hts in_X1 hown hC.1 hC.2.1 (3) rfl rfl 4 (by decide) (va_Nw.use rfl (hN.1.1 10)) (fun _ h9 => h9) rfl dX11_item_143 ?_
      refine lv_iload_n hx hb dX11_item_146 rfl (lv_at hl 0 rfl) ?_
      refine lv_aload_n hx hb dX11_item_147 rfl (lv_at hl 1 rfl) ?_
      refine lv_iconst (v := 0) hx hb dX11_item_148 (by decide) ?_
      refine lv_bipush (v := 9) hx hb dX11_item_149 (by decide) ?_
      rcases bndE5_or hf with hcall | ⟨r_151, at__151, start_151, sort_151, value_151, hcall, hf⟩
      · exact ht_out (runVT (C := RX11) (As := [.int 0, .int 9]) (rest := [.int askings, .ref (mb 5)]) ⟨hx, hb, hml, hown, hts⟩ (ct_r_number hcall) (cwV 2 hts (lw_V q547 q549 qs7 q60 q550) rfl rfl rfl (by decide +kernel) ⟨(Nat.le_trans (Nat.le_of_ble_eq_true rfl) hRf), (Nat.le_trans (Nat.le_of_ble_eq_true rfl) hRl)⟩) (pre_V (q0 := 2) (ci := 11) (fun U g mk a h => ⟨NX.calling U g mk a h.1, SN.calling U g mk a h.2⟩) (fun U hU hW => ⟨NX.warm hW hN.1, SN.warm hN.2 hC.2.2.2 (all_free hC.2.2.1 hC.2.2.2 hA) hU hW⟩) hC rfl rfl) rfl rfl hl.1 rfl (lv_room (Nat.le_of_ble_eq_true rfl)) dX11_item_151 ⟨hRc1, hRs1⟩) hne hlocks hA hC KT
      refine hc_i (va_runV (C := RX11) (As := [.int 0, .int 9]) (rest := [.int askings, .ref (mb 5)]) ⟨hx, hb, hml, hown, hts⟩ (c_r_number hcall) (cwV 2 hts (lw_V q547 q549 qs7 q60 q550) rfl rfl rfl (by decide +kernel) ⟨(Nat.le_trans (Nat.le_of_ble_eq_true rfl) hRf), (Nat.le_trans (Nat.le_of_ble_eq_true rfl) hRl)⟩) (pre_V (q0 := 2) (ci := 11) (fun U g mk a h => ⟨NX.calling U g mk a h.1, SN.calling U g mk a h.2⟩) (fun U hU hW => ⟨NX.warm hW hN.1, SN.warm hN.2 hC.2.2.2 (all_free hC.2.2.1 hC.2.2.2 hA) hU hW⟩) hC rfl rfl) rfl rfl hl.1 rfl (lv_room (Nat.le_of_ble_eq_true rfl)) dX11_item_151 ⟨hRc, hRs⟩) hA hC (fun H locs hC => ?_)
      have hC : HC D gcl (gty d) A (rw_ d ad ba ta ra mb bestSet trace text typed at__151 start_151 sort_151 value_151 room work price (upd whom askings.toNatClampNeg r_135) bday units worth due under people askings hangs items) s H locs := hC
      obtain ⟨hi_154, hf⟩ := ck_some hf
      refine va_iast hx hb hC.1 hC.2.1 hC.2.2.1 hC.2.2.2 (8) 0 rfl rfl hi_154 dX11_item_154 (fun H locs hP hD hS => ?_)
      have hC : HC D gcl (gty d) A (rw_ d ad ba ta ra mb bestSet trace text typed at__151 start_151 sort_151 value_151 room work price (upd whom askings.toNatClampNeg r_135) (upd bday askings.toNatClampNeg r_151) units worth due under people askings hangs items) s H locs := ⟨hC.1, hP, hD, hS⟩
      refine lv_aload_n hx hb dX11_item_155 rfl (lv_at hl 1 rfl) ?_
      refine va_get (ci := 11) (v := .ref (mb 0)) (C := RX11) (T := TX11) (N := 6) hx hb hts in_X11 hown hC.1 hC.2.1 (2) rfl rfl 4 (by decide) (hts _ q382) (fun _ h9 => h9) rfl dX11_item_156 ?_
      refine va_getN (ci := 1) (v := .ref (mb 6)) (C := RX1) (T := TX1) (N := 13) (host := "SleeveSlips") hx hb hts in_X1 hown hC.1 hC.2.1 (3) rfl rfl 5 (by decide) (va_Nw.use rfl (hN.1.1 12)) (fun _ h9 => h9) rfl dX11_item_159 ?_
      refine lv_iload_n hx hb dX11_item_162 rfl (lv_at hl 0 rfl) ?_
      refine lv_aload_n hx hb dX11_item_163 rfl (lv_at hl 1 rfl) ?_
      refine lv_iconst (v := 1) hx hb dX11_item_164 (by decide) ?_
      refine lv_bipush (v := 9) hx hb dX11_item_165 (by decide) ?_
      rcases bndE5_or hf with hcall | ⟨r_167, at__167, start_167, sort_167, value_167, hcall, hf⟩
      · exact ht_out (runVT (C := RX11) (As := [.int 1, .int 9]) (rest := [.int askings, .ref (mb 6)]) ⟨hx, hb, hml, hown, hts⟩ (ct_r_number hcall) (cwV 2 hts (lw_V q547 q549 qs7 q60 q550) rfl rfl rfl (by decide +kernel) ⟨(Nat.le_trans (Nat.le_of_ble_eq_true rfl) hRf), (Nat.le_trans (Nat.le_of_ble_eq_true rfl) hRl)⟩) (pre_V (q0 := 2) (ci := 11) (fun U g mk a h => ⟨NX.calling U g mk a h.1, SN.calling U g mk a h.2⟩) (fun U hU hW => ⟨NX.warm hW hN.1, SN.warm hN.2 hC.2.2.2 (all_free hC.2.2.1 hC.2.2.2 hA) hU hW⟩) hC rfl rfl) rfl rfl hl.1 rfl (lv_room (Nat.le_of_ble_eq_true rfl)) dX11_item_167 ⟨hRc1, hRs1⟩) hne hlocks hA hC KT
      refine hc_i (va_runV (C := RX11) (As := [.int 1, .int 9]) (rest := [.int askings, .ref (mb 6)]) ⟨hx, hb, hml, hown, hts⟩ (c_r_number hcall) (cwV 2 hts (lw_V q547 q549 qs7 q60 q550) rfl rfl rfl (by decide +kernel) ⟨(Nat.le_trans (Nat.le_of_ble_eq_true rfl) hRf), (Nat.le_trans (Nat.le_of_ble_eq_true rfl) hRl)⟩) (pre_V (q0 := 2) (ci := 11) (fun U g mk a h => ⟨NX.calling U g mk a h.1, SN.calling U g mk a h.2⟩) (fun U hU hW => ⟨NX.warm hW hN.1, SN.warm hN.2 hC.2.2.2 (all_free hC.2.2.1 hC.2.2.2 hA) hU hW⟩) hC rfl rfl) rfl rfl hl.1 rfl (lv_room (Nat.le_of_ble_eq_true rfl)) dX11_item_167 ⟨hRc, hRs⟩) hA hC (fun H locs hC => ?_)
      have hC : HC D gcl (gty d) A (rw_ d ad ba ta ra mb bestSet trace text typed at__167 start_167 sort_167 value_167 room work price (upd whom askings.toNatClampNeg r_135) (upd bday askings.toNatClampNeg r_151) units worth due under people askings hangs items) s H locs := hC
      obtain ⟨hi_170, hf⟩ := ck_some hf
      refine va_iast hx hb hC.1 hC.2.1 hC.2.2.1 hC.2.2.2 (9) 0 rfl rfl hi_170 dX11_item_170 (fun H locs hP hD hS => ?_)
      have hC : HC D gcl (gty d) A (rw_ d ad ba ta ra mb bestSet trace text typed at__167 start_167 sort_167 value_167 room work price (upd whom askings.toNatClampNeg r_135) (upd bday askings.toNatClampNeg r_151) (upd units askings.toNatClampNeg r_167) worth due under people askings hangs items) s H locs := ⟨hC.1, hP, hD, hS⟩
      refine lv_aload_n hx hb dX11_item_171 rfl (lv_at hl 1 rfl) ?_
      refine va_get (ci := 11) (v := .ref (mb 0)) (C := RX11) (T := TX11) (N := 6) hx hb hts in_X11 hown hC.1 hC.2.1 (2) rfl rfl 4 (by decide) (hts _ q382) (fun _ h9 => h9) rfl dX11_item_172 ?_
      refine va_getN (ci := 1) (v := .ref (mb 7)) (C := RX1) (T := TX1) (N := 13) (host := "SleeveSlips") hx hb hts in_X1 hown hC.1 hC.2.1 (3) rfl rfl 6 (by decide) (va_Nw.use rfl (hN.1.1 14)) (fun _ h9 => h9) rfl dX11_item_175 ?_
      refine lv_iload_n hx hb dX11_item_178 rfl (lv_at hl 0 rfl) ?_
      refine lv_aload_n hx hb dX11_item_179 rfl (lv_at hl 1 rfl) ?_
      refine lv_iconst (v := 1) hx hb dX11_item_180 (by decide) ?_
      refine lv_bipush (v := 99) hx hb dX11_item_181 (by decide) ?_
      rcases bndE5_or hf with hcall | ⟨r_183, at__183, start_183, sort_183, value_183, hcall, hf⟩
      · exact ht_out (runVT (C := RX11) (As := [.int 1, .int 99]) (rest := [.int askings, .ref (mb 7)]) ⟨hx, hb, hml, hown, hts⟩ (ct_r_number hcall) (cwV 2 hts (lw_V q547 q549 qs7 q60 q550) rfl rfl rfl (by decide +kernel) ⟨(Nat.le_trans (Nat.le_of_ble_eq_true rfl) hRf), (Nat.le_trans (Nat.le_of_ble_eq_true rfl) hRl)⟩) (pre_V (q0 := 2) (ci := 11) (fun U g mk a h => ⟨NX.calling U g mk a h.1, SN.calling U g mk a h.2⟩) (fun U hU hW => ⟨NX.warm hW hN.1, SN.warm hN.2 hC.2.2.2 (all_free hC.2.2.1 hC.2.2.2 hA) hU hW⟩) hC rfl rfl) rfl rfl hl.1 rfl (lv_room (Nat.le_of_ble_eq_true rfl)) dX11_item_183 ⟨hRc1, hRs1⟩) hne hlocks hA hC KT
      refine hc_i (va_runV (C := RX11) (As := [.int 1, .int 99]) (rest := [.int askings, .ref (mb 7)]) ⟨hx, hb, hml, hown, hts⟩ (c_r_number hcall) (cwV 2 hts (lw_V q547 q549 qs7 q60 q550) rfl rfl rfl (by decide +kernel) ⟨(Nat.le_trans (Nat.le_of_ble_eq_true rfl) hRf), (Nat.le_trans (Nat.le_of_ble_eq_true rfl) hRl)⟩) (pre_V (q0 := 2) (ci := 11) (fun U g mk a h => ⟨NX.calling U g mk a h.1, SN.calling U g mk a h.2⟩) (fun U hU hW => ⟨NX.warm hW hN.1, SN.warm hN.2 hC.2.2.2 (all_free hC.2.2.1 hC.2.2.2 hA) hU hW⟩) hC rfl rfl) rfl rfl hl.1 rfl (lv_room (Nat.le_of_ble_eq_true rfl)) dX11_item_183 ⟨hRc, hRs⟩) hA hC (fun H locs hC => ?_)
      have hC : HC D gcl (gty d) A (rw_ d ad ba ta ra mb bestSet trace text typed at__183 start_183 sort_183 value_183 room work price (upd whom askings.toNatClampNeg r_135) (upd bday askings.toNatClampNeg r_151) (upd units askings.toNatClampNeg r_167) worth due under people askings hangs items) s H locs := hC
      obtain ⟨hi_186, hf⟩ := ck_some hf
      refine va_iast hx hb hC.1 hC.2.1 hC.2.2.1 hC.2.2.2 (10) 0 rfl rfl hi_186 dX11_item_186 (fun H locs hP hD hS => ?_)
      have hC : HC D gcl (gty d) A (rw_ d ad ba ta ra mb bestSet trace text typed at__183 start_183 sort_183 value_183 room work price (upd whom askings.toNatClampNeg r_135) (upd bday askings.toNatClampNeg r_151) (upd units askings.toNatClampNeg r_167) (upd worth askings.toNatClampNeg r_183) due under people askings hangs items) s H locs := ⟨hC.1, hP, hD, hS⟩
      refine lv_aload_n hx hb dX11_item_187 rfl (lv_at hl 1 rfl) ?_
      refine va_get (ci := 11) (v := .ref (mb 0)) (C := RX11) (T := TX11) (N := 6) hx hb hts in_X11 hown hC.1 hC.2.1 (2) rfl rfl 4 (by decide) (hts _ q382) (fun _ h9 => h9) rfl dX11_item_188 ?_
      refine va_getN (ci := 1) (v := .ref (mb 8)) (C := RX1) (T := TX1) (N := 13) (host := "SleeveSlips") hx hb hts in_X1 hown hC.1 hC.2.1 (3) rfl rfl 7 (by decide) (va_Nw.use rfl (hN.1.1 16)) (fun _ h9 => h9) rfl dX11_item_191 ?_
      refine lv_iload_n hx hb dX11_item_194 rfl (lv_at hl 0 rfl) ?_
      refine lv_aload_n hx hb dX11_item_195 rfl (lv_at hl 1 rfl) ?_
      refine lv_aload_n hx hb dX11_item_196 rfl (lv_at hl 1 rfl) ?_
      refine va_get (ci := 11) (v := .ref (mb 0)) (C := RX11) (T := TX11) (N := 6) hx hb hts in_X11 hown hC.1 hC.2.1 (2) rfl rfl 4 (by decide) (hts _ q382) (fun _ h9 => h9) rfl dX11_item_197 ?_
      refine va_getN (ci := 1) (v := .ref (mb 5)) (C := RX1) (T := TX1) (N := 13) (host := "SleeveSlips") hx hb hts in_X1 hown hC.1 hC.2.1 (3) rfl rfl 4 (by decide) (va_Nw.use rfl (hN.1.1 10)) (fun _ h9 => h9) rfl dX11_item_200 ?_
      refine lv_iload_n hx hb dX11_item_203 rfl (lv_at hl 0 rfl) ?_
      obtain ⟨hi_204, hf⟩ := ck_some hf
      refine va_iald hx hb hC.1 hC.2.1 (8) 0 rfl rfl hi_204 dX11_item_204 ?_
      refine lv_bipush (v := 9) hx hb dX11_item_205 (by decide) ?_
      rcases bndE5_or hf with hcall | ⟨r_207, at__207, start_207, sort_207, value_207, hcall, hf⟩
      · exact ht_out (runVT (C := RX11) (As := [.int ((upd bday askings.toNatClampNeg r_151) askings.toNatClampNeg), .int 9]) (rest := [.int askings, .ref (mb 8)]) ⟨hx, hb, hml, hown, hts⟩ (ct_r_number hcall) (cwV 2 hts (lw_V q547 q549 qs7 q60 q550) rfl rfl rfl (by decide +kernel) ⟨(Nat.le_trans (Nat.le_of_ble_eq_true rfl) hRf), (Nat.le_trans (Nat.le_of_ble_eq_true rfl) hRl)⟩) (pre_V (q0 := 2) (ci := 11) (fun U g mk a h => ⟨NX.calling U g mk a h.1, SN.calling U g mk a h.2⟩) (fun U hU hW => ⟨NX.warm hW hN.1, SN.warm hN.2 hC.2.2.2 (all_free hC.2.2.1 hC.2.2.2 hA) hU hW⟩) hC rfl rfl) rfl rfl hl.1 rfl (lv_room (Nat.le_of_ble_eq_true rfl)) dX11_item_207 ⟨hRc1, hRs1⟩) hne hlocks hA hC KT
      refine hc_i (va_runV (C := RX11) (As := [.int ((upd bday askings.toNatClampNeg r_151) askings.toNatClampNeg), .int 9]) (rest := [.int askings, .ref (mb 8)]) ⟨hx, hb, hml, hown, hts⟩ (c_r_number hcall) (cwV 2 hts (lw_V q547 q549 qs7 q60 q550) rfl rfl rfl (by decide +kernel) ⟨(Nat.le_trans (Nat.le_of_ble_eq_true rfl) hRf), (Nat.le_trans (Nat.le_of_ble_eq_true rfl) hRl)⟩) (pre_V (q0 := 2) (ci := 11) (fun U g mk a h => ⟨NX.calling U g mk a h.1, SN.calling U g mk a h.2⟩) (fun U hU hW => ⟨NX.warm hW hN.1, SN.warm hN.2 hC.2.2.2 (all_free hC.2.2.1 hC.2.2.2 hA) hU hW⟩) hC rfl rfl) rfl rfl hl.1 rfl (lv_room (Nat.le_of_ble_eq_true rfl)) dX11_item_207 ⟨hRc, hRs⟩) hA hC (fun H locs hC => ?_)
      have hC : HC D gcl (gty d) A (rw_ d ad ba ta ra mb bestSet trace text typed at__207 start_207 sort_207 value_207 room work price (upd whom askings.toNatClampNeg r_135) (upd bday askings.toNatClampNeg r_151) (upd units askings.toNatClampNeg r_167) (upd worth askings.toNatClampNeg r_183) due under people askings hangs items) s H locs := hC
      obtain ⟨hi_210, hf⟩ := ck_some hf
      refine va_iast hx hb hC.1 hC.2.1 hC.2.2.1 hC.2.2.2 (11) 0 rfl rfl hi_210 dX11_item_210 (fun H locs hP hD hS => ?_)
      have hC : HC D gcl (gty d) A (rw_ d ad ba ta ra mb bestSet trace text typed at__207 start_207 sort_207 value_207 room work price (upd whom askings.toNatClampNeg r_135) (upd bday askings.toNatClampNeg r_151) (upd units askings.toNatClampNeg r_167) (upd worth askings.toNatClampNeg r_183) (upd due askings.toNatClampNeg r_207) under people askings hangs items) s H locs := ⟨hC.1, hP, hD, hS⟩
      refine lv_aload_n hx hb dX11_item_211 rfl (lv_at hl 1 rfl) ?_
      refine va_get (ci := 11) (v := .ref (mb 0)) (C := RX11) (T := TX11) (N := 6) hx hb hts in_X11 hown hC.1 hC.2.1 (2) rfl rfl 4 (by decide) (hts _ q382) (fun _ h9 => h9) rfl dX11_item_212 ?_
      refine lv_dup hx hb dX11_item_215 rfl ?_
      refine va_getN (ci := 1) (v := .int askings) (C := RX1) (T := TX1) (N := 13) (host := "SleeveSlips") hx hb hts in_X1 hown hC.1 hC.2.1 (3) rfl rfl 10 (by decide) (va_Nw.use rfl (hN.1.1 23)) (fun _ h9 => h9) rfl dX11_item_216 ?_
      refine lv_iconst (v := 1) hx hb dX11_item_219 (by decide) ?_
      refine lv_iadd hx hb dX11_item_220 ?_
      refine va_putN (ci := 1) (v := .int (askings + 1)) (ty := .int) (C := RX1) (T := TX1) (N := 13) (host := "SleeveSlips") hx hb hts in_X1 tyX1 tyX1_ok nmX1 hown hC.1 hC.2.1 hC.2.2.1 hC.2.2.2 (3) rfl rfl 10 (by decide) (va_Nw.use rfl (hN.1.1 23)) (fun _ h9 => h9) rfl (tyX1_ok 10 (by decide)) rfl rfl (Nat.le_of_ble_eq_true rfl) dX11_item_221 (fun H locs hP hD hS => ?_)
      have hC : HC D gcl (gty d) A (rw_ d ad ba ta ra mb bestSet trace text typed at__207 start_207 sort_207 value_207 room work price (upd whom askings.toNatClampNeg r_135) (upd bday askings.toNatClampNeg r_151) (upd units askings.toNatClampNeg r_167) (upd worth askings.toNatClampNeg r_183) (upd due askings.toNatClampNeg r_207) under people (askings + 1) hangs items) s H locs := ⟨hC.1, hP, hD, hS⟩
      refine lv_goto (tgt := 312) hx hb dX11_item_224 (by decide) ?_
      cases hf
    · have hf := if_f hf c_1_1
      refine lv_lookup (tgt := 227) (off := 226) hx hb dX11_item_1 (by decide) (by show Op.lookupswitch.offset [(0, 27), (1, 107)] 226 _ = _; rw [lv_osw c_1_0 (show (0 : Int32).toInt = 0 by decide), lv_osw c_1_1 (show (1 : Int32).toInt = 1 by decide)]; rfl) (by decide) ?_
      refine lv_aload_n hx hb dX11_item_227 rfl (lv_at hl 0 rfl) ?_
      refine lv_iconst (v := 0) hx hb dX11_item_228 (by decide) ?_
      refine lv_aload_n hx hb dX11_item_229 rfl (lv_at hl 0 rfl) ?_
      refine va_get (ci := 11) (v := .ref (mb 0)) (C := RX11) (T := TX11) (N := 6) hx hb hts in_X11 hown hC.1 hC.2.1 (2) rfl rfl 4 (by decide) (hts _ q382) (fun _ h9 => h9) rfl dX11_item_230 ?_
      refine va_getN (ci := 1) (v := .int askings) (C := RX1) (T := TX1) (N := 13) (host := "SleeveSlips") hx hb hts in_X1 hown hC.1 hC.2.1 (3) rfl rfl 10 (by decide) (va_Nw.use rfl (hN.1.1 23)) (fun _ h9 => h9) rfl dX11_item_233 ?_
      refine lv_iconst (v := 1) hx hb dX11_item_236 (by decide) ?_
      refine lv_isub hx hb dX11_item_237 ?_
      rcases bndE5_or hf with hcall | ⟨r_238, at__238, start_238, sort_238, value_238, hcall, hf⟩
      · exact ht_out (runVT (C := RX11) (As := [.int 0, .int (askings - 1)]) (rest := []) ⟨hx, hb, hml, hown, hts⟩ (ct_r_number hcall) (cwV 2 hts (lw_V q547 q549 qs7 q60 q550) rfl rfl rfl (by decide +kernel) ⟨(Nat.le_trans (Nat.le_of_ble_eq_true rfl) hRf), (Nat.le_trans (Nat.le_of_ble_eq_true rfl) hRl)⟩) (pre_V (q0 := 2) (ci := 11) (fun U g mk a h => ⟨NX.calling U g mk a h.1, SN.calling U g mk a h.2⟩) (fun U hU hW => ⟨NX.warm hW hN.1, SN.warm hN.2 hC.2.2.2 (all_free hC.2.2.1 hC.2.2.2 hA) hU hW⟩) hC rfl rfl) rfl rfl hl.1 rfl (lv_room (Nat.le_of_ble_eq_true rfl)) dX11_item_238 ⟨hRc1, hRs1⟩) hne hlocks hA hC KT
      refine hc_i (va_runV (C := RX11) (As := [.int 0, .int (askings - 1)]) (rest := []) ⟨hx, hb, hml, hown, hts⟩ (c_r_number hcall) (cwV 2 hts (lw_V q547 q549 qs7 q60 q550) rfl rfl rfl (by decide +kernel) ⟨(Nat.le_trans (Nat.le_of_ble_eq_true rfl) hRf), (Nat.le_trans (Nat.le_of_ble_eq_true rfl) hRl)⟩) (pre_V (q0 := 2) (ci := 11) (fun U g mk a h => ⟨NX.calling U g mk a h.1, SN.calling U g mk a h.2⟩) (fun U hU hW => ⟨NX.warm hW hN.1, SN.warm hN.2 hC.2.2.2 (all_free hC.2.2.1 hC.2.2.2 hA) hU hW⟩) hC rfl rfl) rfl rfl hl.1 rfl (lv_room (Nat.le_of_ble_eq_true rfl)) dX11_item_238 ⟨hRc, hRs⟩) hA hC (fun H locs hC => ?_)
      have hC : HC D gcl (gty d) A (rw_ d ad ba ta ra mb bestSet trace text typed at__238 start_238 sort_238 value_238 room work price whom bday units worth due under people askings hangs items) s H locs := hC
      refine lv_istore_n (lv' := [(3, .int r_238), (0, .ref ra), (1, .int x1)]) hx hb dX11_item_241 rfl hl (by decide) rfl (fun ls hl => ?_)
      refine lv_aload_n hx hb dX11_item_242 rfl (lv_at hl 1 rfl) ?_
      refine lv_aload_n hx hb dX11_item_243 rfl (lv_at hl 1 rfl) ?_
      refine va_get (ci := 11) (v := .int sort_238) (C := RX11) (T := TX11) (N := 6) hx hb hts in_X11 hown hC.1 hC.2.1 (2) rfl rfl 2 (by decide) (hts _ q380) (fun _ h9 => h9) rfl dX11_item_244 ?_
      refine lv_iconst (v := 3) hx hb dX11_item_247 (by decide) ?_
      obtain ⟨t_278, hj, hf⟩ := ltv_some hf
      refine wj (g1 := F0 m 278 ls [.int t_278, .ref ra]) ?_ (fun J_278 => ?_)
      · rcases bndE5_or hf with hcall | ⟨r_278, at__278, start_278, sort_278, value_278, hcall, hf⟩
        · exact ht_out (runVT (C := RX11) (As := [.int t_278]) (rest := []) ⟨hx, hb, hml, hown, hts⟩ (ct_r_due hcall) (cwV 1 hts (lw_V q471 q473 qs4 q60 q474) rfl rfl rfl (by decide +kernel) ⟨(Nat.le_trans (Nat.le_of_ble_eq_true rfl) hRf), (Nat.le_trans (Nat.le_of_ble_eq_true rfl) hRl)⟩) (pre_V (q0 := 2) (ci := 11) (fun U g mk a h => ⟨NX.calling U g mk a h.1, SN.calling U g mk a h.2⟩) (fun U hU hW => ⟨NX.warm hW hN.1, SN.warm hN.2 hC.2.2.2 (all_free hC.2.2.1 hC.2.2.2 hA) hU hW⟩) hC rfl rfl) rfl rfl hl.1 rfl (lv_room (Nat.le_of_ble_eq_true rfl)) dX11_item_278 ⟨hRc1, hRs1⟩) hne hlocks hA hC KT
        refine hc_i (va_runV (C := RX11) (As := [.int t_278]) (rest := []) ⟨hx, hb, hml, hown, hts⟩ (c_r_due hcall) (cwV 1 hts (lw_V q471 q473 qs4 q60 q474) rfl rfl rfl (by decide +kernel) ⟨(Nat.le_trans (Nat.le_of_ble_eq_true rfl) hRf), (Nat.le_trans (Nat.le_of_ble_eq_true rfl) hRl)⟩) (pre_V (q0 := 2) (ci := 11) (fun U g mk a h => ⟨NX.calling U g mk a h.1, SN.calling U g mk a h.2⟩) (fun U hU hW => ⟨NX.warm hW hN.1, SN.warm hN.2 hC.2.2.2 (all_free hC.2.2.1 hC.2.2.2 hA) hU hW⟩) hC rfl rfl) rfl rfl hl.1 rfl (lv_room (Nat.le_of_ble_eq_true rfl)) dX11_item_278 ⟨hRc, hRs⟩) hA hC (fun H locs hC => ?_)
        have hC : HC D gcl (gty d) A (rw_ d ad ba ta ra mb bestSet trace text typed at__278 start_278 sort_278 value_278 room work price whom bday units worth due under people askings hangs items) s H locs := hC
        refine lv_istore (lv' := [(4, .int r_278), (3, .int r_238), (0, .ref ra), (1, .int x1)]) hx hb dX11_item_281 hl (by decide) rfl (fun ls hl => ?_)
        refine lv_aload_n hx hb dX11_item_283 rfl (lv_at hl 2 rfl) ?_
        refine va_get (ci := 11) (v := .ref (mb 0)) (C := RX11) (T := TX11) (N := 6) hx hb hts in_X11 hown hC.1 hC.2.1 (2) rfl rfl 4 (by decide) (hts _ q382) (fun _ h9 => h9) rfl dX11_item_284 ?_
        refine va_getN (ci := 1) (v := .ref (mb 9)) (C := RX1) (T := TX1) (N := 13) (host := "SleeveSlips") hx hb hts in_X1 hown hC.1 hC.2.1 (3) rfl rfl 8 (by decide) (va_Nw.use rfl (hN.1.1 18)) (fun _ h9 => h9) rfl dX11_item_287 ?_
        refine lv_iload_n hx hb dX11_item_290 rfl (lv_at hl 1 rfl) ?_
        refine lv_dup2_11 hx hb dX11_item_291 rfl rfl ?_
        obtain ⟨hi_292, hf⟩ := ck_some hf
        refine va_iald hx hb hC.1 hC.2.1 (12) 0 rfl rfl hi_292 dX11_item_292 ?_
        refine lv_iconst (v := 1) hx hb dX11_item_293 (by decide) ?_
        refine lv_iload hx hb dX11_item_294 (lv_at hl 0 rfl) ?_
        refine lv_ishl hx hb dX11_item_296 ?_
        refine lv_ior hx hb dX11_item_297 ?_
        obtain ⟨hi_298, hf⟩ := ck_some hf
        refine va_iast hx hb hC.1 hC.2.1 hC.2.2.1 hC.2.2.2 (12) 0 rfl rfl hi_298 dX11_item_298 (fun H locs hP hD hS => ?_)
        have hC : HC D gcl (gty d) A (rw_ d ad ba ta ra mb bestSet trace text typed at__278 start_278 sort_278 value_278 room work price whom bday units worth due (upd under r_238.toNatClampNeg ((under r_238.toNatClampNeg) ||| (1 <<< (r_278 &&& 31)))) people askings hangs items) s H locs := ⟨hC.1, hP, hD, hS⟩
        refine lv_aload_n hx hb dX11_item_299 rfl (lv_at hl 2 rfl) ?_
        refine va_get (ci := 11) (v := .ref (mb 0)) (C := RX11) (T := TX11) (N := 6) hx hb hts in_X11 hown hC.1 hC.2.1 (2) rfl rfl 4 (by decide) (hts _ q382) (fun _ h9 => h9) rfl dX11_item_300 ?_
        refine lv_dup hx hb dX11_item_303 rfl ?_
        refine va_getN (ci := 1) (v := .int hangs) (C := RX1) (T := TX1) (N := 13) (host := "SleeveSlips") hx hb hts in_X1 hown hC.1 hC.2.1 (3) rfl rfl 11 (by decide) (va_Nw.use rfl (hN.1.1 24)) (fun _ h9 => h9) rfl dX11_item_304 ?_
        refine lv_iconst (v := 1) hx hb dX11_item_307 (by decide) ?_
        refine lv_iadd hx hb dX11_item_308 ?_
        refine va_putN (ci := 1) (v := .int (hangs + 1)) (ty := .int) (C := RX1) (T := TX1) (N := 13) (host := "SleeveSlips") hx hb hts in_X1 tyX1 tyX1_ok nmX1 hown hC.1 hC.2.1 hC.2.2.1 hC.2.2.2 (3) rfl rfl 11 (by decide) (va_Nw.use rfl (hN.1.1 24)) (fun _ h9 => h9) rfl (tyX1_ok 11 (by decide)) rfl rfl (Nat.le_of_ble_eq_true rfl) dX11_item_309 (fun H locs hP hD hS => ?_)
        have hC : HC D gcl (gty d) A (rw_ d ad ba ta ra mb bestSet trace text typed at__278 start_278 sort_278 value_278 room work price whom bday units worth due (upd under r_238.toNatClampNeg ((under r_238.toNatClampNeg) ||| (1 <<< (r_278 &&& 31)))) people askings (hangs + 1) items) s H locs := ⟨hC.1, hP, hD, hS⟩
        cases hf
      · have hf := hj
        refine lv_icmp_ne (tgt := 277) hx hb dX11_item_248 (by decide) (fun c_248 => ?_) (fun c_248 => ?_)
        · have hf := if_f hf c_248
          refine lv_iconst (v := 0) hx hb dX11_item_277 (by decide) ?_
          have e_1 := hf
          subst e_1
          exact J_278
        · have hf := if_t hf c_248
          refine lv_aload_n hx hb dX11_item_251 rfl (lv_at hl 1 rfl) ?_
          refine va_get (ci := 11) (v := .int value_238) (C := RX11) (T := TX11) (N := 6) hx hb hts in_X11 hown hC.1 hC.2.1 (2) rfl rfl 3 (by decide) (hts _ q381) (fun _ h9 => h9) rfl dX11_item_252 ?_
          refine lv_aload_n hx hb dX11_item_255 rfl (lv_at hl 1 rfl) ?_
          refine va_get (ci := 11) (v := .ref (mb 0)) (C := RX11) (T := TX11) (N := 6) hx hb hts in_X11 hown hC.1 hC.2.1 (2) rfl rfl 4 (by decide) (hts _ q382) (fun _ h9 => h9) rfl dX11_item_256 ?_
          refine va_getN (ci := 1) (v := .int askings) (C := RX1) (T := TX1) (N := 13) (host := "SleeveSlips") hx hb hts in_X1 hown hC.1 hC.2.1 (3) rfl rfl 10 (by decide) (va_Nw.use rfl (hN.1.1 23)) (fun _ h9 => h9) rfl dX11_item_259 ?_
          refine lv_icmp_ge (tgt := 277) hx hb dX11_item_262 (by decide) (fun c_262 => ?_) (fun c_262 => ?_)
          · have hf := if_t hf c_262
            refine lv_iconst (v := 0) hx hb dX11_item_277 (by decide) ?_
            have e_1 := hf
            subst e_1
            exact J_278
          · have hf := if_f hf c_262
            refine lv_aload_n hx hb dX11_item_265 rfl (lv_at hl 1 rfl) ?_
            refine va_get (ci := 11) (v := .int value_238) (C := RX11) (T := TX11) (N := 6) hx hb hts in_X11 hown hC.1 hC.2.1 (2) rfl rfl 3 (by decide) (hts _ q381) (fun _ h9 => h9) rfl dX11_item_266 ?_
            refine lv_iload_n hx hb dX11_item_269 rfl (lv_at hl 0 rfl) ?_
            refine lv_icmp_eq (tgt := 277) hx hb dX11_item_270 (by decide) (fun c_270 => ?_) (fun c_270 => ?_)
            · have hf := if_t hf c_270
              refine lv_iconst (v := 0) hx hb dX11_item_277 (by decide) ?_
              have e_1 := hf
              subst e_1
              exact J_278
            · have hf := if_f hf c_270
              refine lv_iconst (v := 1) hx hb dX11_item_273 (by decide) ?_
              refine lv_goto (tgt := 278) hx hb dX11_item_274 (by decide) ?_
              have e_1 := hf
              subst e_1
              exact J_278
set_option maxRecDepth 100000 in
theorem ct_r_item {l : Launch} {sz : Nat} {D : va_G} {d : Nat → ClassId} {ad : Nat → Nat} {ba : Nat → Nat} {ta : Nat → Nat} {ra : Nat} {mb : Nat → Nat} {bestSet : Int32} {trace : Int64} {adK : Nat → Nat} {adV : Nat → Nat} {tW : Nat} {text : Nat → Int32} {typed : Int32} {at_ : Int32} {start : Int32} {sort : Int32} {value : Int32} {room : Nat → Int32} {work : Nat → Int32} {price : Nat → Int32} {whom : Nat → Int32} {bday : Nat → Int32} {units : Nat → Int32} {worth : Nat → Int32} {due : Nat → Int32} {under : Nat → Int32} {people : Int32} {askings : Int32} {hangs : Int32} {items : Int32} {x1 : Int32} {st_ : Int32} (hf : r_item text typed at_ start sort value room work price whom bday units worth due under people askings hangs x1 = some (.inl st_)) : MT l yX11_item (ws_ yX11_item cX11_item 5 none) { frames := 8, cells := 1, slots := 7, locals := 174 } D gcl (gty d) (fun U => NX U ∧ SN adK adV tW (rw_ d ad ba ta ra mb bestSet trace text typed at_ start sort value room work price whom bday units worth due under people askings hangs items) U) (rw_ d ad ba ta ra mb bestSet trace text typed at_ start sort value room work price whom bday units worth due under people askings hangs items) (fun x => rwt d ad ba ta bestSet trace text typed st_ x) sz [.ref ra, .int x1] 1 7 :=
  MT.of (by decide) [.ref ra, .int x1] [(0, .ref ra), (1, .int x1)] (Nat.le_of_ble_eq_true rfl) rfl (fun p e s m below meth c ls Q hx hb hml hown hts hN hA hne hlocks hC hl KT => wt_r_item hx hb hml hown hts hN hA hne hlocks (Nat.le_refl _) (Nat.le_refl _) (Nat.le_refl _) (Nat.le_refl _) hf hC hl KT)

def r_read_L4 (text : Nat → Int32) (typed : Int32) : Nat → Int32 → Int32 → Int32 → Int32 → (Nat → Int32) → (Nat → Int32) → (Nat → Int32) → (Nat → Int32) → (Nat → Int32) → (Nat → Int32) → (Nat → Int32) → (Nat → Int32) → (Nat → Int32) → Int32 → Int32 → Int32 → Int32 → Option (Int32 ⊕ (Int32 × Int32 × Int32 × Int32 × (Nat → Int32) × (Nat → Int32) × (Nat → Int32) × (Nat → Int32) × (Nat → Int32) × (Nat → Int32) × (Nat → Int32) × (Nat → Int32) × (Nat → Int32) × Int32 × Int32 × Int32 × Int32))
  | 0, _, _, _, _, _, _, _, _, _, _, _, _, _, _, _, _, _ => none
  | n_4 + 1, at__4, start_4, sort_4, value_4, room_4, work_4, price_4, whom_4, bday_4, units_4, worth_4, due_4, under_4, people_4, askings_4, hangs_4, items_4 =>
  if sort_4 = 5 then (some (.inr (at__4, start_4, sort_4, value_4, room_4, work_4, price_4, whom_4, bday_4, units_4, worth_4, due_4, under_4, people_4, askings_4, hangs_4, items_4))) else
  bnd (r_may people_4 askings_4 hangs_4 sort_4) fun r_20 =>
  bndE5 (r_due text typed at__4 start_4 value_4 r_20) fun r_23 at__23 start_23 sort_23 value_23 =>
  bndE16 (r_item text typed at__23 start_23 sort_23 value_23 room_4 work_4 price_4 whom_4 bday_4 units_4 worth_4 due_4 under_4 people_4 askings_4 hangs_4 sort_4) fun at__29 start_29 sort_29 value_29 room_29 work_29 price_29 whom_29 bday_29 units_29 worth_29 due_29 under_29 people_29 askings_29 hangs_29 =>
  ltv (if sort_29 = 4 then (1) else
  0) (fun (t_46 : Int32) =>
  bndE5 (r_due text typed at__29 start_29 value_29 t_46) fun r_46 at__46 start_46 sort_46 value_46 =>
  r_read_L4 text typed n_4 at__46 start_46 sort_46 value_46 room_29 work_29 price_29 whom_29 bday_29 units_29 worth_29 due_29 under_29 people_29 askings_29 hangs_29 (items_4 + 1))
theorem r_read_L4_s (text : Nat → Int32) (typed : Int32) (n_4 : Nat) (at__4 : Int32) (start_4 : Int32) (sort_4 : Int32) (value_4 : Int32) (room_4 : Nat → Int32) (work_4 : Nat → Int32) (price_4 : Nat → Int32) (whom_4 : Nat → Int32) (bday_4 : Nat → Int32) (units_4 : Nat → Int32) (worth_4 : Nat → Int32) (due_4 : Nat → Int32) (under_4 : Nat → Int32) (people_4 : Int32) (askings_4 : Int32) (hangs_4 : Int32) (items_4 : Int32) : r_read_L4 text typed (n_4 + 1) at__4 start_4 sort_4 value_4 room_4 work_4 price_4 whom_4 bday_4 units_4 worth_4 due_4 under_4 people_4 askings_4 hangs_4 items_4 = (
  if sort_4 = 5 then (some (.inr (at__4, start_4, sort_4, value_4, room_4, work_4, price_4, whom_4, bday_4, units_4, worth_4, due_4, under_4, people_4, askings_4, hangs_4, items_4))) else
  bnd (r_may people_4 askings_4 hangs_4 sort_4) fun r_20 =>
  bndE5 (r_due text typed at__4 start_4 value_4 r_20) fun r_23 at__23 start_23 sort_23 value_23 =>
  bndE16 (r_item text typed at__23 start_23 sort_23 value_23 room_4 work_4 price_4 whom_4 bday_4 units_4 worth_4 due_4 under_4 people_4 askings_4 hangs_4 sort_4) fun at__29 start_29 sort_29 value_29 room_29 work_29 price_29 whom_29 bday_29 units_29 worth_29 due_29 under_29 people_29 askings_29 hangs_29 =>
  ltv (if sort_29 = 4 then (1) else
  0) (fun (t_46 : Int32) =>
  bndE5 (r_due text typed at__29 start_29 value_29 t_46) fun r_46 at__46 start_46 sort_46 value_46 =>
  r_read_L4 text typed n_4 at__46 start_46 sort_46 value_46 room_29 work_29 price_29 whom_29 bday_29 units_29 worth_29 due_29 under_29 people_29 askings_29 hangs_29 (items_4 + 1))) := rfl
def r_read (text : Nat → Int32) (typed : Int32) (at_ : Int32) (room : Nat → Int32) (work : Nat → Int32) (price : Nat → Int32) (whom : Nat → Int32) (bday : Nat → Int32) (units : Nat → Int32) (worth : Nat → Int32) (due : Nat → Int32) (under : Nat → Int32) (people : Int32) (askings : Int32) (hangs : Int32) (items : Int32) : Option (Int32 ⊕ (Int32 × Int32 × Int32 × Int32 × (Nat → Int32) × (Nat → Int32) × (Nat → Int32) × (Nat → Int32) × (Nat → Int32) × (Nat → Int32) × (Nat → Int32) × (Nat → Int32) × (Nat → Int32) × Int32 × Int32 × Int32 × Int32)) :=
  bnd4 (r_next text typed at_) fun at__1 start_1 sort_1 value_1 =>
  bndE17 (r_read_L4 text typed g_fuel at__1 start_1 sort_1 value_1 room work price whom bday units worth due under people askings hangs items) (fun at__66 start_66 sort_66 value_66 room_66 work_66 price_66 whom_66 bday_66 units_66 worth_66 due_66 under_66 people_66 askings_66 hangs_66 items_66 =>
  some (.inr (at__66, start_66, sort_66, value_66, room_66, work_66, price_66, whom_66, bday_66, units_66, worth_66, due_66, under_66, people_66, askings_66, hangs_66, items_66)))
set_option maxHeartbeats 4000000 in
set_option maxRecDepth 100000 in
theorem w_r_read {p : Program} {l : Launch} {e : Env} {R : Room} {s : State} {m : MethodId} {args : Array Value} {below : List Frame} {meth : Method} {c : Code} {H : Heap} {locs : List Loc} {cells slots : Nat} {Q : State → Prop} {A : Nat → Prop} {ls : Array Slot} {D : va_G} {d : Nat → ClassId} {ad : Nat → Nat} {ba : Nat → Nat} {ta : Nat → Nat} {ra : Nat} {mb : Nat → Nat} {bestSet : Int32} {trace : Int64} {adK : Nat → Nat} {adV : Nat → Nat} {tW : Nat} {text : Nat → Int32} {typed : Int32} {at_ : Int32} {start : Int32} {sort : Int32} {value : Int32} {room : Nat → Int32} {work : Nat → Int32} {price : Nat → Int32} {whom : Nat → Int32} {bday : Nat → Int32} {units : Nat → Int32} {worth : Nat → Int32} {due : Nat → Int32} {under : Nat → Int32} {people : Int32} {askings : Int32} {hangs : Int32} {items : Int32} {at__r : Int32} {start_r : Int32} {sort_r : Int32} {value_r : Int32} {room_r : Nat → Int32} {work_r : Nat → Int32} {price_r : Nat → Int32} {whom_r : Nat → Int32} {bday_r : Nat → Int32} {units_r : Nat → Int32} {worth_r : Nat → Int32} {due_r : Nat → Int32} {under_r : Nat → Int32} {people_r : Int32} {askings_r : Int32} {hangs_r : Int32} {items_r : Int32} (hx : p.tables.exec = Jvm.exec) (hb : c.code = cX11_read) (hml : c.maxLocals = 2) (hown : s.vm.findClass RX11 = some m.cls) (hts : ∀ w ∈ lw_all, w.before args s = true) (hN : NX s ∧ SX adK adV tW A s s.heap) (hA : ∀ q, s.heap.size ≤ q → A q) (hRf : 9 ≤ R.frames) (hRl : 198 ≤ R.locals) (hRc : cells ≤ R.cells) (hRs : slots ≤ R.slots) (hf : r_read text typed at_ room work price whom bday units worth due under people askings hangs items = some (.inr (at__r, start_r, sort_r, value_r, room_r, work_r, price_r, whom_r, bday_r, units_r, worth_r, due_r, under_r, people_r, askings_r, hangs_r, items_r))) (hC : HC D gcl (gty d) A (rw_ d ad ba ta ra mb bestSet trace text typed at_ start sort value room work price whom bday units worth due under people askings hangs items) s H locs) (hl : lv_has ls 2 [(0, .ref ra)]) (K : ∀ (H : Heap) (locs : List Loc) (ls : Array Slot) (pc : Nat), True → HC D gcl (gty d) A (rw_ d ad ba ta ra mb bestSet trace text typed at__r start_r sort_r value_r room_r work_r price_r whom_r bday_r units_r worth_r due_r under_r people_r askings_r hangs_r items_r) s H locs → decode cX11_read pc = .ok (.areturn, 1) → W p l e R s m args below meth c H locs cells slots Q (F0 m pc ls [.ref (mb 0)])) : W p l e R s m args below meth c H locs cells slots Q (F0 m 0 ls []) := by
  unfold r_read at hf
  refine lv_aload_n hx hb dX11_read_0 rfl (lv_at hl 0 rfl) ?_
  obtain ⟨at__1, start_1, sort_1, value_1, hcall, hf⟩ := bnd4_some hf
  refine hc_v (va_runV (C := RX11) (As := []) (rest := []) ⟨hx, hb, hml, hown, hts⟩ (c_r_next hcall) (cwV 0 hts (lw_V q401 q403 qs0 q60 q404) rfl rfl rfl (by decide +kernel) ⟨(Nat.le_trans (Nat.le_of_ble_eq_true rfl) hRf), (Nat.le_trans (Nat.le_of_ble_eq_true rfl) hRl)⟩) (pre_V (q0 := 2) (ci := 11) (fun U g mk a h => ⟨NX.calling U g mk a h.1, SN.calling U g mk a h.2⟩) (fun U hU hW => ⟨NX.warm hW hN.1, SN.warm hN.2 hC.2.2.2 (all_free hC.2.2.1 hC.2.2.2 hA) hU hW⟩) hC rfl rfl) rfl rfl hl.1 rfl (lv_room (Nat.le_of_ble_eq_true rfl)) dX11_read_1 ⟨hRc, hRs⟩) hA hC (fun H locs hC => ?_)
  have hC : HC D gcl (gty d) A (rw_ d ad ba ta ra mb bestSet trace text typed at__1 start_1 sort_1 value_1 room work price whom bday units worth due under people askings hangs items) s H locs := hC
  obtain ⟨at__66, start_66, sort_66, value_66, room_66, work_66, price_66, whom_66, bday_66, units_66, worth_66, due_66, under_66, people_66, askings_66, hangs_66, items_66, hL, hf⟩ := bndE17_some hf
  have X_4 : ∀ (H : Heap) (locs : List Loc) (ls : Array Slot), HC D gcl (gty d) A (rw_ d ad ba ta ra mb bestSet trace text typed at__66 start_66 sort_66 value_66 room_66 work_66 price_66 whom_66 bday_66 units_66 worth_66 due_66 under_66 people_66 askings_66 hangs_66 items_66) s H locs → lv_has ls 2 [(0, .ref ra)] → W p l e R s m args below meth c H locs cells slots Q (F0 m 66 ls []) := by
    intro H locs ls hC hl
    refine lv_aload_n hx hb dX11_read_66 rfl (lv_at hl 0 rfl) ?_
    refine va_get (ci := 11) (v := .ref (mb 0)) (C := RX11) (T := TX11) (N := 6) hx hb hts in_X11 hown hC.1 hC.2.1 (2) rfl rfl 4 (by decide) (hts _ q382) (fun _ h9 => h9) rfl dX11_read_67 ?_
    have hf := congrArg some (Sum.inr.inj (Option.some.inj hf))
    obtain ⟨e_1, e_2, e_3, e_4, e_5, e_6, e_7, e_8, e_9, e_10, e_11, e_12, e_13, e_14, e_15, e_16, e_17⟩ := so_17 (Option.some.inj hf)
    subst e_1
    subst e_2
    subst e_3
    subst e_4
    subst e_5
    subst e_6
    subst e_7
    subst e_8
    subst e_9
    subst e_10
    subst e_11
    subst e_12
    subst e_13
    subst e_14
    subst e_15
    subst e_16
    subst e_17
    exact K H locs ls _ trivial hC dX11_read_70
  have L_4 : ∀ (n_4 : Nat) (at__4 : Int32) (start_4 : Int32) (sort_4 : Int32) (value_4 : Int32) (room_4 : Nat → Int32) (work_4 : Nat → Int32) (price_4 : Nat → Int32) (whom_4 : Nat → Int32) (bday_4 : Nat → Int32) (units_4 : Nat → Int32) (worth_4 : Nat → Int32) (due_4 : Nat → Int32) (under_4 : Nat → Int32) (people_4 : Int32) (askings_4 : Int32) (hangs_4 : Int32) (items_4 : Int32), r_read_L4 text typed n_4 at__4 start_4 sort_4 value_4 room_4 work_4 price_4 whom_4 bday_4 units_4 worth_4 due_4 under_4 people_4 askings_4 hangs_4 items_4 = some (.inr (at__66, start_66, sort_66, value_66, room_66, work_66, price_66, whom_66, bday_66, units_66, worth_66, due_66, under_66, people_66, askings_66, hangs_66, items_66)) → ∀ (H : Heap) (locs : List Loc) (ls : Array Slot), HC D gcl (gty d) A (rw_ d ad ba ta ra mb bestSet trace text typed at__4 start_4 sort_4 value_4 room_4 work_4 price_4 whom_4 bday_4 units_4 worth_4 due_4 under_4 people_4 askings_4 hangs_4 items_4) s H locs → lv_has ls 2 [(0, .ref ra)] → W p l e R s m args below meth c H locs cells slots Q (F0 m 4 ls []) := by
    intro n_4
    induction n_4 with
    | zero => intro _ _ _ _ _ _ _ _ _ _ _ _ _ _ _ _ _ hf; cases hf
    | succ n_4 ih =>
      intro at__4 start_4 sort_4 value_4 room_4 work_4 price_4 whom_4 bday_4 units_4 worth_4 due_4 under_4 people_4 askings_4 hangs_4 items_4 hf H locs ls hC hl
      rw [r_read_L4_s] at hf
      refine lv_aload_n hx hb dX11_read_4 rfl (lv_at hl 0 rfl) ?_
      refine va_get (ci := 11) (v := .int sort_4) (C := RX11) (T := TX11) (N := 6) hx hb hts in_X11 hown hC.1 hC.2.1 (2) rfl rfl 2 (by decide) (hts _ q380) (fun _ h9 => h9) rfl dX11_read_5 ?_
      refine lv_iconst (v := 5) hx hb dX11_read_8 (by decide) ?_
      refine lv_icmp_eq (tgt := 66) hx hb dX11_read_9 (by decide) (fun c_9 => ?_) (fun c_9 => ?_)
      · have hf := if_t hf c_9
        have hf := congrArg some (Sum.inr.inj (Option.some.inj hf))
        obtain ⟨e_1, e_2, e_3, e_4, e_5, e_6, e_7, e_8, e_9, e_10, e_11, e_12, e_13, e_14, e_15, e_16, e_17⟩ := so_17 (Option.some.inj hf)
        subst e_1
        subst e_2
        subst e_3
        subst e_4
        subst e_5
        subst e_6
        subst e_7
        subst e_8
        subst e_9
        subst e_10
        subst e_11
        subst e_12
        subst e_13
        subst e_14
        subst e_15
        subst e_16
        subst e_17
        exact X_4 H locs ls hC (lv_sub hl [0] rfl)
      · have hf := if_f hf c_9
        refine lv_aload_n hx hb dX11_read_12 rfl (lv_at hl 0 rfl) ?_
        refine va_get (ci := 11) (v := .int sort_4) (C := RX11) (T := TX11) (N := 6) hx hb hts in_X11 hown hC.1 hC.2.1 (2) rfl rfl 2 (by decide) (hts _ q380) (fun _ h9 => h9) rfl dX11_read_13 ?_
        refine lv_istore_n (lv' := [(1, .int sort_4), (0, .ref ra)]) hx hb dX11_read_16 rfl hl (by decide) rfl (fun ls hl => ?_)
        refine lv_aload_n hx hb dX11_read_17 rfl (lv_at hl 1 rfl) ?_
        refine lv_aload_n hx hb dX11_read_18 rfl (lv_at hl 1 rfl) ?_
        refine lv_iload_n hx hb dX11_read_19 rfl (lv_at hl 0 rfl) ?_
        obtain ⟨r_20, hcall, hf⟩ := bnd_some hf
        refine hc_i (va_runV (C := RX11) (As := [.int sort_4]) (rest := [.ref ra]) ⟨hx, hb, hml, hown, hts⟩ (c_r_may hcall) (cwV 1 hts (lw_V q467 q469 qs3 q60 q470) rfl rfl rfl (by decide +kernel) ⟨(Nat.le_trans (Nat.le_of_ble_eq_true rfl) hRf), (Nat.le_trans (Nat.le_of_ble_eq_true rfl) hRl)⟩) (pre_V (q0 := 2) (ci := 11) (fun U g mk a h => ⟨NX.calling U g mk a h.1, SN.calling U g mk a h.2⟩) (fun U hU hW => ⟨NX.warm hW hN.1, SN.warm hN.2 hC.2.2.2 (all_free hC.2.2.1 hC.2.2.2 hA) hU hW⟩) hC rfl rfl) rfl rfl hl.1 rfl (lv_room (Nat.le_of_ble_eq_true rfl)) dX11_read_20 ⟨hRc, hRs⟩) hA hC (fun H locs hC => ?_)
        obtain ⟨r_23, at__23, start_23, sort_23, value_23, hcall, hf⟩ := bndE5_some hf
        refine hc_i (va_runV (C := RX11) (As := [.int r_20]) (rest := []) ⟨hx, hb, hml, hown, hts⟩ (c_r_due hcall) (cwV 1 hts (lw_V q471 q473 qs4 q60 q474) rfl rfl rfl (by decide +kernel) ⟨(Nat.le_trans (Nat.le_of_ble_eq_true rfl) hRf), (Nat.le_trans (Nat.le_of_ble_eq_true rfl) hRl)⟩) (pre_V (q0 := 2) (ci := 11) (fun U g mk a h => ⟨NX.calling U g mk a h.1, SN.calling U g mk a h.2⟩) (fun U hU hW => ⟨NX.warm hW hN.1, SN.warm hN.2 hC.2.2.2 (all_free hC.2.2.1 hC.2.2.2 hA) hU hW⟩) hC rfl rfl) rfl rfl hl.1 rfl (lv_room (Nat.le_of_ble_eq_true rfl)) dX11_read_23 ⟨hRc, hRs⟩) hA hC (fun H locs hC => ?_)
        have hC : HC D gcl (gty d) A (rw_ d ad ba ta ra mb bestSet trace text typed at__23 start_23 sort_23 value_23 room_4 work_4 price_4 whom_4 bday_4 units_4 worth_4 due_4 under_4 people_4 askings_4 hangs_4 items_4) s H locs := hC
        refine lv_pop hx hb dX11_read_26 rfl ?_
        refine lv_aload_n hx hb dX11_read_27 rfl (lv_at hl 1 rfl) ?_
        refine lv_iload_n hx hb dX11_read_28 rfl (lv_at hl 0 rfl) ?_
        obtain ⟨at__29, start_29, sort_29, value_29, room_29, work_29, price_29, whom_29, bday_29, units_29, worth_29, due_29, under_29, people_29, askings_29, hangs_29, hcall, hf⟩ := bndE16_some hf
        refine hc_v (va_runV (C := RX11) (As := [.int sort_4]) (rest := []) ⟨hx, hb, hml, hown, hts⟩ (c_r_item hcall) (cwV 1 hts (lw_V q543 q545 qs6 q60 q546) rfl rfl rfl (by decide +kernel) ⟨(Nat.le_trans (Nat.le_of_ble_eq_true rfl) hRf), (Nat.le_trans (Nat.le_of_ble_eq_true rfl) hRl)⟩) (pre_V (q0 := 2) (ci := 11) (fun U g mk a h => ⟨NX.calling U g mk a h.1, SN.calling U g mk a h.2⟩) (fun U hU hW => ⟨NX.warm hW hN.1, SN.warm hN.2 hC.2.2.2 (all_free hC.2.2.1 hC.2.2.2 hA) hU hW⟩) hC rfl rfl) rfl rfl hl.1 rfl (lv_room (Nat.le_of_ble_eq_true rfl)) dX11_read_29 ⟨hRc, hRs⟩) hA hC (fun H locs hC => ?_)
        have hC : HC D gcl (gty d) A (rw_ d ad ba ta ra mb bestSet trace text typed at__29 start_29 sort_29 value_29 room_29 work_29 price_29 whom_29 bday_29 units_29 worth_29 due_29 under_29 people_29 askings_29 hangs_29 items_4) s H locs := hC
        refine lv_aload_n hx hb dX11_read_32 rfl (lv_at hl 1 rfl) ?_
        refine lv_aload_n hx hb dX11_read_33 rfl (lv_at hl 1 rfl) ?_
        refine va_get (ci := 11) (v := .int sort_29) (C := RX11) (T := TX11) (N := 6) hx hb hts in_X11 hown hC.1 hC.2.1 (2) rfl rfl 2 (by decide) (hts _ q380) (fun _ h9 => h9) rfl dX11_read_34 ?_
        refine lv_iconst (v := 4) hx hb dX11_read_37 (by decide) ?_
        obtain ⟨t_46, hj, hf⟩ := ltv_some hf
        refine wj (g1 := F0 m 46 ls [.int t_46, .ref ra]) ?_ (fun J_46 => ?_)
        · obtain ⟨r_46, at__46, start_46, sort_46, value_46, hcall, hf⟩ := bndE5_some hf
          refine hc_i (va_runV (C := RX11) (As := [.int t_46]) (rest := []) ⟨hx, hb, hml, hown, hts⟩ (c_r_due hcall) (cwV 1 hts (lw_V q471 q473 qs4 q60 q474) rfl rfl rfl (by decide +kernel) ⟨(Nat.le_trans (Nat.le_of_ble_eq_true rfl) hRf), (Nat.le_trans (Nat.le_of_ble_eq_true rfl) hRl)⟩) (pre_V (q0 := 2) (ci := 11) (fun U g mk a h => ⟨NX.calling U g mk a h.1, SN.calling U g mk a h.2⟩) (fun U hU hW => ⟨NX.warm hW hN.1, SN.warm hN.2 hC.2.2.2 (all_free hC.2.2.1 hC.2.2.2 hA) hU hW⟩) hC rfl rfl) rfl rfl hl.1 rfl (lv_room (Nat.le_of_ble_eq_true rfl)) dX11_read_46 ⟨hRc, hRs⟩) hA hC (fun H locs hC => ?_)
          have hC : HC D gcl (gty d) A (rw_ d ad ba ta ra mb bestSet trace text typed at__46 start_46 sort_46 value_46 room_29 work_29 price_29 whom_29 bday_29 units_29 worth_29 due_29 under_29 people_29 askings_29 hangs_29 items_4) s H locs := hC
          refine lv_pop hx hb dX11_read_49 rfl ?_
          refine lv_aload_n hx hb dX11_read_50 rfl (lv_at hl 1 rfl) ?_
          refine va_get (ci := 11) (v := .ref (mb 0)) (C := RX11) (T := TX11) (N := 6) hx hb hts in_X11 hown hC.1 hC.2.1 (2) rfl rfl 4 (by decide) (hts _ q382) (fun _ h9 => h9) rfl dX11_read_51 ?_
          refine lv_dup hx hb dX11_read_54 rfl ?_
          refine va_getN (ci := 1) (v := .int items_4) (C := RX1) (T := TX1) (N := 13) (host := "SleeveSlips") hx hb hts in_X1 hown hC.1 hC.2.1 (3) rfl rfl 12 (by decide) (va_Nw.use rfl (hN.1.1 27)) (fun _ h9 => h9) rfl dX11_read_55 ?_
          refine lv_iconst (v := 1) hx hb dX11_read_58 (by decide) ?_
          refine lv_iadd hx hb dX11_read_59 ?_
          refine va_putN (ci := 1) (v := .int (items_4 + 1)) (ty := .int) (C := RX1) (T := TX1) (N := 13) (host := "SleeveSlips") hx hb hts in_X1 tyX1 tyX1_ok nmX1 hown hC.1 hC.2.1 hC.2.2.1 hC.2.2.2 (3) rfl rfl 12 (by decide) (va_Nw.use rfl (hN.1.1 27)) (fun _ h9 => h9) rfl (tyX1_ok 12 (by decide)) rfl rfl (Nat.le_of_ble_eq_true rfl) dX11_read_60 (fun H locs hP hD hS => ?_)
          have hC : HC D gcl (gty d) A (rw_ d ad ba ta ra mb bestSet trace text typed at__46 start_46 sort_46 value_46 room_29 work_29 price_29 whom_29 bday_29 units_29 worth_29 due_29 under_29 people_29 askings_29 hangs_29 (items_4 + 1)) s H locs := ⟨hC.1, hP, hD, hS⟩
          refine lv_goto (tgt := 4) hx hb dX11_read_63 (by decide) ?_
          exact ih _ _ _ _ _ _ _ _ _ _ _ _ _ _ _ _ _ hf H locs ls hC (lv_sub hl [1] rfl)
        · have hf := hj
          refine lv_icmp_ne (tgt := 45) hx hb dX11_read_38 (by decide) (fun c_38 => ?_) (fun c_38 => ?_)
          · have hf := if_f hf c_38
            refine lv_iconst (v := 0) hx hb dX11_read_45 (by decide) ?_
            have e_1 := hf
            subst e_1
            exact J_46
          · have hf := if_t hf c_38
            refine lv_iconst (v := 1) hx hb dX11_read_41 (by decide) ?_
            refine lv_goto (tgt := 46) hx hb dX11_read_42 (by decide) ?_
            have e_1 := hf
            subst e_1
            exact J_46
  exact L_4 _ _ _ _ _ _ _ _ _ _ _ _ _ _ _ _ _ _ hL H locs ls hC (lv_sub hl [0] rfl)
set_option maxRecDepth 100000 in
theorem c_r_read {l : Launch} {sz : Nat} {D : va_G} {d : Nat → ClassId} {ad : Nat → Nat} {ba : Nat → Nat} {ta : Nat → Nat} {ra : Nat} {mb : Nat → Nat} {bestSet : Int32} {trace : Int64} {adK : Nat → Nat} {adV : Nat → Nat} {tW : Nat} {text : Nat → Int32} {typed : Int32} {at_ : Int32} {start : Int32} {sort : Int32} {value : Int32} {room : Nat → Int32} {work : Nat → Int32} {price : Nat → Int32} {whom : Nat → Int32} {bday : Nat → Int32} {units : Nat → Int32} {worth : Nat → Int32} {due : Nat → Int32} {under : Nat → Int32} {people : Int32} {askings : Int32} {hangs : Int32} {items : Int32} {at__r : Int32} {start_r : Int32} {sort_r : Int32} {value_r : Int32} {room_r : Nat → Int32} {work_r : Nat → Int32} {price_r : Nat → Int32} {whom_r : Nat → Int32} {bday_r : Nat → Int32} {units_r : Nat → Int32} {worth_r : Nat → Int32} {due_r : Nat → Int32} {under_r : Nat → Int32} {people_r : Int32} {askings_r : Int32} {hangs_r : Int32} {items_r : Int32} (hf : r_read text typed at_ room work price whom bday units worth due under people askings hangs items = some (.inr (at__r, start_r, sort_r, value_r, room_r, work_r, price_r, whom_r, bday_r, units_r, worth_r, due_r, under_r, people_r, askings_r, hangs_r, items_r))) : MA l yX11_read (ws_ yX11_read cX11_read 2 (some (.object "SleeveSlips$Book"))) { frames := 9, cells := 0, slots := 0, locals := 198 } D gcl (gty d) (fun U => NX U ∧ SN adK adV tW (rw_ d ad ba ta ra mb bestSet trace text typed at_ start sort value room work price whom bday units worth due under people askings hangs items) U) (rw_ d ad ba ta ra mb bestSet trace text typed at_ start sort value room work price whom bday units worth due under people askings hangs items) (rw_ d ad ba ta ra mb bestSet trace text typed at__r start_r sort_r value_r room_r work_r price_r whom_r bday_r units_r worth_r due_r under_r people_r askings_r hangs_r items_r) sz [.ref ra] (mb 0) :=
  MA.of (by decide) [.ref ra] [(0, .ref ra)] (Nat.le_of_ble_eq_true rfl) rfl (fun p e s m below meth c ls Q hx hb hml hown hts hN hA hC hl K => w_r_read hx hb hml hown hts hN hA (Nat.le_refl _) (Nat.le_refl _) (Nat.le_refl _) (Nat.le_refl _) hf hC hl K)
set_option maxHeartbeats 4000000 in
set_option maxRecDepth 100000 in
theorem wt_r_read {p : Program} {l : Launch} {e : Env} {R : Room} {s : State} {m : MethodId} {args : Array Value} {below : List Frame} {meth : Method} {c : Code} {H : Heap} {locs : List Loc} {cells slots : Nat} {Q : State → Prop} {A : Nat → Prop} {ls : Array Slot} {D : va_G} {d : Nat → ClassId} {ad : Nat → Nat} {ba : Nat → Nat} {ta : Nat → Nat} {ra : Nat} {mb : Nat → Nat} {bestSet : Int32} {trace : Int64} {adK : Nat → Nat} {adV : Nat → Nat} {tW : Nat} {text : Nat → Int32} {typed : Int32} {at_ : Int32} {start : Int32} {sort : Int32} {value : Int32} {room : Nat → Int32} {work : Nat → Int32} {price : Nat → Int32} {whom : Nat → Int32} {bday : Nat → Int32} {units : Nat → Int32} {worth : Nat → Int32} {due : Nat → Int32} {under : Nat → Int32} {people : Int32} {askings : Int32} {hangs : Int32} {items : Int32} {st_ : Int32} (hx : p.tables.exec = Jvm.exec) (hb : c.code = cX11_read) (hml : c.maxLocals = 2) (hown : s.vm.findClass RX11 = some m.cls) (hts : ∀ w ∈ lw_all, w.before args s = true) (hN : NX s ∧ SX adK adV tW A s s.heap) (hA : ∀ q, s.heap.size ≤ q → A q) (hne : c.exceptionTable.toList = []) (hlocks : meth.locks = false) (hRf : 9 ≤ R.frames) (hRl : 198 ≤ R.locals) (hRc1 : cells + 1 ≤ R.cells) (hRs1 : slots + 7 ≤ R.slots) (hf : r_read text typed at_ room work price whom bday units worth due under people askings hangs items = some (.inl st_)) (hC : HC D gcl (gty d) A (rw_ d ad ba ta ra mb bestSet trace text typed at_ start sort value room work price whom bday units worth due under people askings hangs items) s H locs) (hl : lv_has ls 2 [(0, .ref ra)]) (KT : ∀ (H : Heap) (locs : List Loc) (x : Addr), HC D gcl (gty d) A (rwt d ad ba ta bestSet trace text typed st_ x) s H locs → WT p l e R s m args below meth c H locs (cells + 1) (slots + 7) Q x) : W p l e R s m args below meth c H locs cells slots Q (F0 m 0 ls []) := by
  have hRc : cells ≤ R.cells := Nat.le_trans (Nat.le_add_right _ _) hRc1
  have hRs : slots ≤ R.slots := Nat.le_trans (Nat.le_add_right _ _) hRs1
  unfold r_read at hf
  refine lv_aload_n hx hb dX11_read_0 rfl (lv_at hl 0 rfl) ?_
  obtain ⟨at__1, start_1, sort_1, value_1, hcall, hf⟩ := bnd4_some hf
  refine hc_v (va_runV (C := RX11) (As := []) (rest := []) ⟨hx, hb, hml, hown, hts⟩ (c_r_next hcall) (cwV 0 hts (lw_V q401 q403 qs0 q60 q404) rfl rfl rfl (by decide +kernel) ⟨(Nat.le_trans (Nat.le_of_ble_eq_true rfl) hRf), (Nat.le_trans (Nat.le_of_ble_eq_true rfl) hRl)⟩) (pre_V (q0 := 2) (ci := 11) (fun U g mk a h => ⟨NX.calling U g mk a h.1, SN.calling U g mk a h.2⟩) (fun U hU hW => ⟨NX.warm hW hN.1, SN.warm hN.2 hC.2.2.2 (all_free hC.2.2.1 hC.2.2.2 hA) hU hW⟩) hC rfl rfl) rfl rfl hl.1 rfl (lv_room (Nat.le_of_ble_eq_true rfl)) dX11_read_1 ⟨hRc, hRs⟩) hA hC (fun H locs hC => ?_)
  have hC : HC D gcl (gty d) A (rw_ d ad ba ta ra mb bestSet trace text typed at__1 start_1 sort_1 value_1 room work price whom bday units worth due under people askings hangs items) s H locs := hC
  have hL : r_read_L4 text typed g_fuel at__1 start_1 sort_1 value_1 room work price whom bday units worth due under people askings hangs items = some (.inl st_) := by
    rcases bndE17_or hf with h9 | ⟨at__66, start_66, sort_66, value_66, room_66, work_66, price_66, whom_66, bday_66, units_66, worth_66, due_66, under_66, people_66, askings_66, hangs_66, items_66, h9, h8⟩
    · exact h9
    · cases h8
  have L_4 : ∀ (n_4 : Nat) (at__4 : Int32) (start_4 : Int32) (sort_4 : Int32) (value_4 : Int32) (room_4 : Nat → Int32) (work_4 : Nat → Int32) (price_4 : Nat → Int32) (whom_4 : Nat → Int32) (bday_4 : Nat → Int32) (units_4 : Nat → Int32) (worth_4 : Nat → Int32) (due_4 : Nat → Int32) (under_4 : Nat → Int32) (people_4 : Int32) (askings_4 : Int32) (hangs_4 : Int32) (items_4 : Int32), r_read_L4 text typed n_4 at__4 start_4 sort_4 value_4 room_4 work_4 price_4 whom_4 bday_4 units_4 worth_4 due_4 under_4 people_4 askings_4 hangs_4 items_4 = some (.inl st_) → ∀ (H : Heap) (locs : List Loc) (ls : Array Slot), HC D gcl (gty d) A (rw_ d ad ba ta ra mb bestSet trace text typed at__4 start_4 sort_4 value_4 room_4 work_4 price_4 whom_4 bday_4 units_4 worth_4 due_4 under_4 people_4 askings_4 hangs_4 items_4) s H locs → lv_has ls 2 [(0, .ref ra)] → W p l e R s m args below meth c H locs cells slots Q (F0 m 4 ls []) := by
    intro n_4
    induction n_4 with
    | zero => intro _ _ _ _ _ _ _ _ _ _ _ _ _ _ _ _ _ hf; cases hf
    | succ n_4 ih =>
      intro at__4 start_4 sort_4 value_4 room_4 work_4 price_4 whom_4 bday_4 units_4 worth_4 due_4 under_4 people_4 askings_4 hangs_4 items_4 hf H locs ls hC hl
      rw [r_read_L4_s] at hf
      refine lv_aload_n hx hb dX11_read_4 rfl (lv_at hl 0 rfl) ?_
      refine va_get (ci := 11) (v := .int sort_4) (C := RX11) (T := TX11) (N := 6) hx hb hts in_X11 hown hC.1 hC.2.1 (2) rfl rfl 2 (by decide) (hts _ q380) (fun _ h9 => h9) rfl dX11_read_5 ?_
      refine lv_iconst (v := 5) hx hb dX11_read_8 (by decide) ?_
      refine lv_icmp_eq (tgt := 66) hx hb dX11_read_9 (by decide) (fun c_9 => ?_) (fun c_9 => ?_)
      · have hf := if_t hf c_9
        cases hf
      · have hf := if_f hf c_9
        refine lv_aload_n hx hb dX11_read_12 rfl (lv_at hl 0 rfl) ?_
        refine va_get (ci := 11) (v := .int sort_4) (C := RX11) (T := TX11) (N := 6) hx hb hts in_X11 hown hC.1 hC.2.1 (2) rfl rfl 2 (by decide) (hts _ q380) (fun _ h9 => h9) rfl dX11_read_13 ?_
        refine lv_istore_n (lv' := [(1, .int sort_4), (0, .ref ra)]) hx hb dX11_read_16 rfl hl (by decide) rfl (fun ls hl => ?_)
        refine lv_aload_n hx hb dX11_read_17 rfl (lv_at hl 1 rfl) ?_
        refine lv_aload_n hx hb dX11_read_18 rfl (lv_at hl 1 rfl) ?_
        refine lv_iload_n hx hb dX11_read_19 rfl (lv_at hl 0 rfl) ?_
        obtain ⟨r_20, hcall, hf⟩ := bnd_some hf
        refine hc_i (va_runV (C := RX11) (As := [.int sort_4]) (rest := [.ref ra]) ⟨hx, hb, hml, hown, hts⟩ (c_r_may hcall) (cwV 1 hts (lw_V q467 q469 qs3 q60 q470) rfl rfl rfl (by decide +kernel) ⟨(Nat.le_trans (Nat.le_of_ble_eq_true rfl) hRf), (Nat.le_trans (Nat.le_of_ble_eq_true rfl) hRl)⟩) (pre_V (q0 := 2) (ci := 11) (fun U g mk a h => ⟨NX.calling U g mk a h.1, SN.calling U g mk a h.2⟩) (fun U hU hW => ⟨NX.warm hW hN.1, SN.warm hN.2 hC.2.2.2 (all_free hC.2.2.1 hC.2.2.2 hA) hU hW⟩) hC rfl rfl) rfl rfl hl.1 rfl (lv_room (Nat.le_of_ble_eq_true rfl)) dX11_read_20 ⟨hRc, hRs⟩) hA hC (fun H locs hC => ?_)
        rcases bndE5_or hf with hcall | ⟨r_23, at__23, start_23, sort_23, value_23, hcall, hf⟩
        · exact ht_out (runVT (C := RX11) (As := [.int r_20]) (rest := []) ⟨hx, hb, hml, hown, hts⟩ (ct_r_due hcall) (cwV 1 hts (lw_V q471 q473 qs4 q60 q474) rfl rfl rfl (by decide +kernel) ⟨(Nat.le_trans (Nat.le_of_ble_eq_true rfl) hRf), (Nat.le_trans (Nat.le_of_ble_eq_true rfl) hRl)⟩) (pre_V (q0 := 2) (ci := 11) (fun U g mk a h => ⟨NX.calling U g mk a h.1, SN.calling U g mk a h.2⟩) (fun U hU hW => ⟨NX.warm hW hN.1, SN.warm hN.2 hC.2.2.2 (all_free hC.2.2.1 hC.2.2.2 hA) hU hW⟩) hC rfl rfl) rfl rfl hl.1 rfl (lv_room (Nat.le_of_ble_eq_true rfl)) dX11_read_23 ⟨hRc1, hRs1⟩) hne hlocks hA hC KT
        refine hc_i (va_runV (C := RX11) (As := [.int r_20]) (rest := []) ⟨hx, hb, hml, hown, hts⟩ (c_r_due hcall) (cwV 1 hts (lw_V q471 q473 qs4 q60 q474) rfl rfl rfl (by decide +kernel) ⟨(Nat.le_trans (Nat.le_of_ble_eq_true rfl) hRf), (Nat.le_trans (Nat.le_of_ble_eq_true rfl) hRl)⟩) (pre_V (q0 := 2) (ci := 11) (fun U g mk a h => ⟨NX.calling U g mk a h.1, SN.calling U g mk a h.2⟩) (fun U hU hW => ⟨NX.warm hW hN.1, SN.warm hN.2 hC.2.2.2 (all_free hC.2.2.1 hC.2.2.2 hA) hU hW⟩) hC rfl rfl) rfl rfl hl.1 rfl (lv_room (Nat.le_of_ble_eq_true rfl)) dX11_read_23 ⟨hRc, hRs⟩) hA hC (fun H locs hC => ?_)
        have hC : HC D gcl (gty d) A (rw_ d ad ba ta ra mb bestSet trace text typed at__23 start_23 sort_23 value_23 room_4 work_4 price_4 whom_4 bday_4 units_4 worth_4 due_4 under_4 people_4 askings_4 hangs_4 items_4) s H locs := hC
        refine lv_pop hx hb dX11_read_26 rfl ?_
        refine lv_aload_n hx hb dX11_read_27 rfl (lv_at hl 1 rfl) ?_
        refine lv_iload_n hx hb dX11_read_28 rfl (lv_at hl 0 rfl) ?_
        rcases bndE16_or hf with hcall | ⟨at__29, start_29, sort_29, value_29, room_29, work_29, price_29, whom_29, bday_29, units_29, worth_29, due_29, under_29, people_29, askings_29, hangs_29, hcall, hf⟩
        · exact ht_out (runVT (C := RX11) (As := [.int sort_4]) (rest := []) ⟨hx, hb, hml, hown, hts⟩ (ct_r_item hcall) (cwV 1 hts (lw_V q543 q545 qs6 q60 q546) rfl rfl rfl (by decide +kernel) ⟨(Nat.le_trans (Nat.le_of_ble_eq_true rfl) hRf), (Nat.le_trans (Nat.le_of_ble_eq_true rfl) hRl)⟩) (pre_V (q0 := 2) (ci := 11) (fun U g mk a h => ⟨NX.calling U g mk a h.1, SN.calling U g mk a h.2⟩) (fun U hU hW => ⟨NX.warm hW hN.1, SN.warm hN.2 hC.2.2.2 (all_free hC.2.2.1 hC.2.2.2 hA) hU hW⟩) hC rfl rfl) rfl rfl hl.1 rfl (lv_room (Nat.le_of_ble_eq_true rfl)) dX11_read_29 ⟨hRc1, hRs1⟩) hne hlocks hA hC KT
        refine hc_v (va_runV (C := RX11) (As := [.int sort_4]) (rest := []) ⟨hx, hb, hml, hown, hts⟩ (c_r_item hcall) (cwV 1 hts (lw_V q543 q545 qs6 q60 q546) rfl rfl rfl (by decide +kernel) ⟨(Nat.le_trans (Nat.le_of_ble_eq_true rfl) hRf), (Nat.le_trans (Nat.le_of_ble_eq_true rfl) hRl)⟩) (pre_V (q0 := 2) (ci := 11) (fun U g mk a h => ⟨NX.calling U g mk a h.1, SN.calling U g mk a h.2⟩) (fun U hU hW => ⟨NX.warm hW hN.1, SN.warm hN.2 hC.2.2.2 (all_free hC.2.2.1 hC.2.2.2 hA) hU hW⟩) hC rfl rfl) rfl rfl hl.1 rfl (lv_room (Nat.le_of_ble_eq_true rfl)) dX11_read_29 ⟨hRc, hRs⟩) hA hC (fun H locs hC => ?_)
        have hC : HC D gcl (gty d) A (rw_ d ad ba ta ra mb bestSet trace text typed at__29 start_29 sort_29 value_29 room_29 work_29 price_29 whom_29 bday_29 units_29 worth_29 due_29 under_29 people_29 askings_29 hangs_29 items_4) s H locs := hC
        refine lv_aload_n hx hb dX11_read_32 rfl (lv_at hl 1 rfl) ?_
        refine lv_aload_n hx hb dX11_read_33 rfl (lv_at hl 1 rfl) ?_
        refine va_get (ci := 11) (v := .int sort_29) (C := RX11) (T := TX11) (N := 6) hx hb hts in_X11 hown hC.1 hC.2.1 (2) rfl rfl 2 (by decide) (hts _ q380) (fun _ h9 => h9) rfl dX11_read_34 ?_
        refine lv_iconst (v := 4) hx hb dX11_read_37 (by decide) ?_
        obtain ⟨t_46, hj, hf⟩ := ltv_some hf
        refine wj (g1 := F0 m 46 ls [.int t_46, .ref ra]) ?_ (fun J_46 => ?_)
        · rcases bndE5_or hf with hcall | ⟨r_46, at__46, start_46, sort_46, value_46, hcall, hf⟩
          · exact ht_out (runVT (C := RX11) (As := [.int t_46]) (rest := []) ⟨hx, hb, hml, hown, hts⟩ (ct_r_due hcall) (cwV 1 hts (lw_V q471 q473 qs4 q60 q474) rfl rfl rfl (by decide +kernel) ⟨(Nat.le_trans (Nat.le_of_ble_eq_true rfl) hRf), (Nat.le_trans (Nat.le_of_ble_eq_true rfl) hRl)⟩) (pre_V (q0 := 2) (ci := 11) (fun U g mk a h => ⟨NX.calling U g mk a h.1, SN.calling U g mk a h.2⟩) (fun U hU hW => ⟨NX.warm hW hN.1, SN.warm hN.2 hC.2.2.2 (all_free hC.2.2.1 hC.2.2.2 hA) hU hW⟩) hC rfl rfl) rfl rfl hl.1 rfl (lv_room (Nat.le_of_ble_eq_true rfl)) dX11_read_46 ⟨hRc1, hRs1⟩) hne hlocks hA hC KT
          refine hc_i (va_runV (C := RX11) (As := [.int t_46]) (rest := []) ⟨hx, hb, hml, hown, hts⟩ (c_r_due hcall) (cwV 1 hts (lw_V q471 q473 qs4 q60 q474) rfl rfl rfl (by decide +kernel) ⟨(Nat.le_trans (Nat.le_of_ble_eq_true rfl) hRf), (Nat.le_trans (Nat.le_of_ble_eq_true rfl) hRl)⟩) (pre_V (q0 := 2) (ci := 11) (fun U g mk a h => ⟨NX.calling U g mk a h.1, SN.calling U g mk a h.2⟩) (fun U hU hW => ⟨NX.warm hW hN.1, SN.warm hN.2 hC.2.2.2 (all_free hC.2.2.1 hC.2.2.2 hA) hU hW⟩) hC rfl rfl) rfl rfl hl.1 rfl (lv_room (Nat.le_of_ble_eq_true rfl)) dX11_read_46 ⟨hRc, hRs⟩) hA hC (fun H locs hC => ?_)
          have hC : HC D gcl (gty d) A (rw_ d ad ba ta ra mb bestSet trace text typed at__46 start_46 sort_46 value_46 room_29 work_29 price_29 whom_29 bday_29 units_29 worth_29 due_29 under_29 people_29 askings_29 hangs_29 items_4) s H locs := hC
          refine lv_pop hx hb dX11_read_49 rfl ?_
          refine lv_aload_n hx hb dX11_read_50 rfl (lv_at hl 1 rfl) ?_
          refine va_get (ci := 11) (v := .ref (mb 0)) (C := RX11) (T := TX11) (N := 6) hx hb hts in_X11 hown hC.1 hC.2.1 (2) rfl rfl 4 (by decide) (hts _ q382) (fun _ h9 => h9) rfl dX11_read_51 ?_
          refine lv_dup hx hb dX11_read_54 rfl ?_
          refine va_getN (ci := 1) (v := .int items_4) (C := RX1) (T := TX1) (N := 13) (host := "SleeveSlips") hx hb hts in_X1 hown hC.1 hC.2.1 (3) rfl rfl 12 (by decide) (va_Nw.use rfl (hN.1.1 27)) (fun _ h9 => h9) rfl dX11_read_55 ?_
          refine lv_iconst (v := 1) hx hb dX11_read_58 (by decide) ?_
          refine lv_iadd hx hb dX11_read_59 ?_
          refine va_putN (ci := 1) (v := .int (items_4 + 1)) (ty := .int) (C := RX1) (T := TX1) (N := 13) (host := "SleeveSlips") hx hb hts in_X1 tyX1 tyX1_ok nmX1 hown hC.1 hC.2.1 hC.2.2.1 hC.2.2.2 (3) rfl rfl 12 (by decide) (va_Nw.use rfl (hN.1.1 27)) (fun _ h9 => h9) rfl (tyX1_ok 12 (by decide)) rfl rfl (Nat.le_of_ble_eq_true rfl) dX11_read_60 (fun H locs hP hD hS => ?_)
          have hC : HC D gcl (gty d) A (rw_ d ad ba ta ra mb bestSet trace text typed at__46 start_46 sort_46 value_46 room_29 work_29 price_29 whom_29 bday_29 units_29 worth_29 due_29 under_29 people_29 askings_29 hangs_29 (items_4 + 1)) s H locs := ⟨hC.1, hP, hD, hS⟩
          refine lv_goto (tgt := 4) hx hb dX11_read_63 (by decide) ?_
          exact ih _ _ _ _ _ _ _ _ _ _ _ _ _ _ _ _ _ hf H locs ls hC (lv_sub hl [1] rfl)
        · have hf := hj
          refine lv_icmp_ne (tgt := 45) hx hb dX11_read_38 (by decide) (fun c_38 => ?_) (fun c_38 => ?_)
          · have hf := if_f hf c_38
            refine lv_iconst (v := 0) hx hb dX11_read_45 (by decide) ?_
            have e_1 := hf
            subst e_1
            exact J_46
          · have hf := if_t hf c_38
            refine lv_iconst (v := 1) hx hb dX11_read_41 (by decide) ?_
            refine lv_goto (tgt := 46) hx hb dX11_read_42 (by decide) ?_
            have e_1 := hf
            subst e_1
            exact J_46
  exact L_4 _ _ _ _ _ _ _ _ _ _ _ _ _ _ _ _ _ _ hL H locs ls hC (lv_sub hl [0] rfl)
set_option maxRecDepth 100000 in
theorem ct_r_read {l : Launch} {sz : Nat} {D : va_G} {d : Nat → ClassId} {ad : Nat → Nat} {ba : Nat → Nat} {ta : Nat → Nat} {ra : Nat} {mb : Nat → Nat} {bestSet : Int32} {trace : Int64} {adK : Nat → Nat} {adV : Nat → Nat} {tW : Nat} {text : Nat → Int32} {typed : Int32} {at_ : Int32} {start : Int32} {sort : Int32} {value : Int32} {room : Nat → Int32} {work : Nat → Int32} {price : Nat → Int32} {whom : Nat → Int32} {bday : Nat → Int32} {units : Nat → Int32} {worth : Nat → Int32} {due : Nat → Int32} {under : Nat → Int32} {people : Int32} {askings : Int32} {hangs : Int32} {items : Int32} {st_ : Int32} (hf : r_read text typed at_ room work price whom bday units worth due under people askings hangs items = some (.inl st_)) : MT l yX11_read (ws_ yX11_read cX11_read 2 (some (.object "SleeveSlips$Book"))) { frames := 9, cells := 1, slots := 7, locals := 198 } D gcl (gty d) (fun U => NX U ∧ SN adK adV tW (rw_ d ad ba ta ra mb bestSet trace text typed at_ start sort value room work price whom bday units worth due under people askings hangs items) U) (rw_ d ad ba ta ra mb bestSet trace text typed at_ start sort value room work price whom bday units worth due under people askings hangs items) (fun x => rwt d ad ba ta bestSet trace text typed st_ x) sz [.ref ra] 1 7 :=
  MT.of (by decide) [.ref ra] [(0, .ref ra)] (Nat.le_of_ble_eq_true rfl) rfl (fun p e s m below meth c ls Q hx hb hml hown hts hN hA hne hlocks hC hl KT => wt_r_read hx hb hml hown hts hN hA hne hlocks (Nat.le_refl _) (Nat.le_refl _) (Nat.le_refl _) (Nat.le_refl _) hf hC hl KT)
