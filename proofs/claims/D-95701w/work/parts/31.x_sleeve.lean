set_option maxRecDepth 100000

def x_placeOf_L5 (x1 : Int32) (sl : Nat → Int32) (mn : Int32) : Nat → Int32 → Int32 → Option (Int32)
  | 0, _, _ => none
  | n_5 + 1, x2_5, x3_5 =>
  if mn ≤ x3_5 then (some x2_5) else
  ck x3_5 5 <| if (sl x3_5.toNatClampNeg) = x1 then (x_placeOf_L5 x1 sl mn n_5 x3_5 (x3_5 + 1) ) else
  x_placeOf_L5 x1 sl mn n_5 x2_5 (x3_5 + 1) 
theorem x_placeOf_L5_s (x1 : Int32) (sl : Nat → Int32) (mn : Int32) (n_5 : Nat) (x2_5 : Int32) (x3_5 : Int32) : x_placeOf_L5 x1 sl mn (n_5 + 1) x2_5 x3_5 = (
  if mn ≤ x3_5 then (some x2_5) else
  ck x3_5 5 <| if (sl x3_5.toNatClampNeg) = x1 then (x_placeOf_L5 x1 sl mn n_5 x3_5 (x3_5 + 1) ) else
  x_placeOf_L5 x1 sl mn n_5 x2_5 (x3_5 + 1) ) := rfl
def x_placeOf (sl : Nat → Int32) (mn : Int32) (x1 : Int32) : Option (Int32) :=
  bnd (x_placeOf_L5 x1 sl mn g_fuel (-9) 0 ) (fun x2_35 =>
  some x2_35)
set_option maxHeartbeats 4000000 in
set_option maxRecDepth 100000 in
theorem w_x_placeOf {p : Program} {l : Launch} {e : Env} {R : Room} {s : State} {m : MethodId} {args : Array Value} {below : List Frame} {meth : Method} {c : Code} {H : Heap} {locs : List Loc} {cells slots : Nat} {Q : State → Prop} {A : Nat → Prop} {ls : Array Slot} {D : va_G} {d : Nat → ClassId} {ta : Nat → Nat} {p_ : Nat} {many : Nat → Int32} {slip : Nat → Nat → Int32} {became : Nat → Int32} {left : Nat → Int32} {what : Nat → Int32} {which : Nat → Int32} {whose : Nat → Int32} {place : Nat → Int32} {deeds : Int32} {day : Int32} {won : Int32} {lost : Int32} {kept : Int32} {sl : Nat → Int32} {mn : Int32} {x1 : Int32} {r : Int32} (hx : p.tables.exec = Jvm.exec) (hb : c.code = cX3_placeOf) (hml : c.maxLocals = 4) (hown : s.vm.findClass RX3 = some m.cls) (hts : ∀ w ∈ lw_all, w.before args s = true) (hN : NX s) (hp : p_ < 4) (hA : ∀ q, s.heap.size ≤ q → A q) (hRf : 0 ≤ R.frames) (hRl : 0 ≤ R.locals) (hRc : cells ≤ R.cells) (hRs : slots ≤ R.slots) (hf : x_placeOf sl mn x1 = some r) (hC : HC D gcl (gty d) A (tw d ta (upd many p_ mn) (va_up slip p_ sl) became left what which whose place deeds day won lost kept) s H locs) (hl : lv_has ls 4 [(0, .ref (ta (2 + p_))), (1, .int x1)]) (K : ∀ (H : Heap) (locs : List Loc) (ls : Array Slot) (pc : Nat), narrow .int (.int r) = .int r → HC D gcl (gty d) A (tw d ta (upd many p_ mn) (va_up slip p_ sl) became left what which whose place deeds day won lost kept) s H locs → decode cX3_placeOf pc = .ok (.ireturn, 1) → W p l e R s m args below meth c H locs cells slots Q (F0 m pc ls [.int r])) : W p l e R s m args below meth c H locs cells slots Q (F0 m 0 ls []) := by
  unfold x_placeOf at hf
  refine lv_bipush (v := (-9)) hx hb dX3_placeOf_0 (by decide) ?_
  refine lv_istore_n (lv' := [(2, .int (-9)), (0, .ref (ta (2 + p_))), (1, .int x1)]) hx hb dX3_placeOf_2 rfl hl (by decide) rfl (fun ls hl => ?_)
  refine lv_iconst (v := 0) hx hb dX3_placeOf_3 (by decide) ?_
  refine lv_istore_n (lv' := [(3, .int 0), (2, .int (-9)), (0, .ref (ta (2 + p_))), (1, .int x1)]) hx hb dX3_placeOf_4 rfl hl (by decide) rfl (fun ls hl => ?_)
  obtain ⟨x2_35, hL, hf⟩ := bnd_some hf
  have X_5 : ∀ (H : Heap) (locs : List Loc) (ls : Array Slot), HC D gcl (gty d) A (tw d ta (upd many p_ mn) (va_up slip p_ sl) became left what which whose place deeds day won lost kept) s H locs → lv_has ls 4 [(2, .int x2_35)] → W p l e R s m args below meth c H locs cells slots Q (F0 m 35 ls []) := by
    intro H locs ls hC hl
    refine lv_iload_n hx hb dX3_placeOf_35 rfl (lv_at hl 0 rfl) ?_
    have e_1 := (Option.some.inj hf)
    subst e_1
    exact K H locs ls _ rfl hC dX3_placeOf_36
  have L_5 : ∀ (n_5 : Nat) (x2_5 : Int32) (x3_5 : Int32), x_placeOf_L5 x1 sl mn n_5 x2_5 x3_5 = some x2_35 → ∀ (H : Heap) (locs : List Loc) (ls : Array Slot), HC D gcl (gty d) A (tw d ta (upd many p_ mn) (va_up slip p_ sl) became left what which whose place deeds day won lost kept) s H locs → lv_has ls 4 [(0, .ref (ta (2 + p_))), (1, .int x1), (2, .int x2_5), (3, .int x3_5)] → W p l e R s m args below meth c H locs cells slots Q (F0 m 5 ls []) := by
    intro n_5
    induction n_5 with
    | zero => intro _ _ hf; cases hf
    | succ n_5 ih =>
      intro x2_5 x3_5 hf H locs ls hC hl
      rw [x_placeOf_L5_s] at hf
      refine lv_iload_n hx hb dX3_placeOf_5 rfl (lv_at hl 3 rfl) ?_
      refine lv_aload_n hx hb dX3_placeOf_6 rfl (lv_at hl 0 rfl) ?_
      refine va_get (ci := 3) (v := .int mn) (C := RX3) (T := TX3) (N := 2) hx hb hts in_X3 hown hC.1 hC.2.1 (2 + p_) (sv_sl hp) rfl 1 (by decide) (hts _ q166) (fun _ h9 => h9) rfl dX3_placeOf_7 ?_
      refine lv_icmp_ge (tgt := 35) hx hb dX3_placeOf_10 (by decide) (fun c_10 => ?_) (fun c_10 => ?_)
      · have hf := if_t hf c_10
        have e_1 := (Option.some.inj hf)
        subst e_1
        exact X_5 H locs ls hC (lv_sub hl [2] rfl)
      · have hf := if_f hf c_10
        refine lv_aload_n hx hb dX3_placeOf_13 rfl (lv_at hl 0 rfl) ?_
        refine va_get (ci := 3) (v := .ref (ta (6 + p_))) (C := RX3) (T := TX3) (N := 2) hx hb hts in_X3 hown hC.1 hC.2.1 (2 + p_) (sv_sl hp) rfl 0 (by decide) (hts _ q164) (fun _ h9 => h9) rfl dX3_placeOf_14 ?_
        refine lv_iload_n hx hb dX3_placeOf_17 rfl (lv_at hl 3 rfl) ?_
        obtain ⟨hi_18, hf⟩ := ck_some hf
        refine va_iald hx hb hC.1 hC.2.1 (6 + p_) 0 (sv_sp hp) rfl hi_18 dX3_placeOf_18 ?_
        refine lv_iload_n hx hb dX3_placeOf_19 rfl (lv_at hl 1 rfl) ?_
        refine lv_icmp_ne (tgt := 27) hx hb dX3_placeOf_20 (by decide) (fun c_20 => ?_) (fun c_20 => ?_)
        · have hf := if_f hf c_20
          refine lv_iload_n hx hb dX3_placeOf_27 rfl (lv_at hl 2 rfl) ?_
          refine lv_istore_n (lv' := [(2, .int x2_5), (0, .ref (ta (2 + p_))), (1, .int x1), (3, .int x3_5)]) hx hb dX3_placeOf_28 rfl hl (by decide) rfl (fun ls hl => ?_)
          refine lv_iinc (v := x3_5 + 1) (lv' := [(3, .int (x3_5 + 1)), (2, .int x2_5), (0, .ref (ta (2 + p_))), (1, .int x1)]) hx hb dX3_placeOf_29 hl (k := 3) rfl rfl (by decide) rfl (fun ls hl => ?_)
          refine lv_goto (tgt := 5) hx hb dX3_placeOf_32 (by decide) ?_
          exact ih _ _ hf H locs ls hC (lv_sub hl [2, 3, 1, 0] rfl)
        · have hf := if_t hf c_20
          refine lv_iload_n hx hb dX3_placeOf_23 rfl (lv_at hl 3 rfl) ?_
          refine lv_goto (tgt := 28) hx hb dX3_placeOf_24 (by decide) ?_
          refine lv_istore_n (lv' := [(2, .int x3_5), (0, .ref (ta (2 + p_))), (1, .int x1), (3, .int x3_5)]) hx hb dX3_placeOf_28 rfl hl (by decide) rfl (fun ls hl => ?_)
          refine lv_iinc (v := x3_5 + 1) (lv' := [(3, .int (x3_5 + 1)), (2, .int x3_5), (0, .ref (ta (2 + p_))), (1, .int x1)]) hx hb dX3_placeOf_29 hl (k := 3) rfl rfl (by decide) rfl (fun ls hl => ?_)
          refine lv_goto (tgt := 5) hx hb dX3_placeOf_32 (by decide) ?_
          exact ih _ _ hf H locs ls hC (lv_sub hl [2, 3, 1, 0] rfl)
  exact L_5 _ _ _ hL H locs ls hC (lv_sub hl [2, 3, 1, 0] rfl)
set_option maxRecDepth 100000 in
theorem c_x_placeOf {l : Launch} {sz : Nat} {D : va_G} {d : Nat → ClassId} {ta : Nat → Nat} {p_ : Nat} {many : Nat → Int32} {slip : Nat → Nat → Int32} {became : Nat → Int32} {left : Nat → Int32} {what : Nat → Int32} {which : Nat → Int32} {whose : Nat → Int32} {place : Nat → Int32} {deeds : Int32} {day : Int32} {won : Int32} {lost : Int32} {kept : Int32} {sl : Nat → Int32} {mn : Int32} {x1 : Int32} {r : Int32} (hp : p_ < 4) (hf : x_placeOf sl mn x1 = some r) : MI l yX3_placeOf (ws_ yX3_placeOf cX3_placeOf 4 (some .int)) { frames := 0, cells := 0, slots := 0, locals := 0 } D gcl (gty d) NX (tw d ta (upd many p_ mn) (va_up slip p_ sl) became left what which whose place deeds day won lost kept) (tw d ta (upd many p_ mn) (va_up slip p_ sl) became left what which whose place deeds day won lost kept) sz [.ref (ta (2 + p_)), .int x1] r :=
  MI.of (by decide) [.ref (ta (2 + p_)), .int x1] [(0, .ref (ta (2 + p_))), (1, .int x1)] (Nat.le_of_ble_eq_true rfl) rfl (fun p e s m below meth c ls Q hx hb hml hown hts hN hA hC hl K => w_x_placeOf hx hb hml hown hts hN hp hA (Nat.le_refl _) (Nat.le_refl _) (Nat.le_refl _) (Nat.le_refl _) hf hC hl K)
set_option maxRecDepth 100000 in
theorem c_x_placeOf_ {l : Launch} {sz : Nat} {D : va_G} {d : Nat → ClassId} {ta : Nat → Nat} {p_ : Nat} {many : Nat → Int32} {slip : Nat → Nat → Int32} {became : Nat → Int32} {left : Nat → Int32} {what : Nat → Int32} {which : Nat → Int32} {whose : Nat → Int32} {place : Nat → Int32} {deeds : Int32} {day : Int32} {won : Int32} {lost : Int32} {kept : Int32} {x1 : Int32} {r : Int32} (hp : p_ < 4) (hf : x_placeOf (slip p_) (many p_) x1 = some r) : MI l yX3_placeOf (ws_ yX3_placeOf cX3_placeOf 4 (some .int)) { frames := 0, cells := 0, slots := 0, locals := 0 } D gcl (gty d) NX (tw d ta many slip became left what which whose place deeds day won lost kept) (tw d ta many slip became left what which whose place deeds day won lost kept) sz [.ref (ta (2 + p_)), .int x1] r := by
  have h := c_x_placeOf (l := l) (sz := sz) (D := D) (d := d) (ta := ta) (many := many) (slip := slip) (became := became) (left := left) (what := what) (which := which) (whose := whose) (place := place) (deeds := deeds) (day := day) (won := won) (lost := lost) (kept := kept) (sl := slip p_) (mn := many p_) hp hf
  rw [upd_id, vaup_id] at h
  exact h

def x_pin_L5 (x2 : Int32) : Nat → Int32 → (Nat → Int32) → Option ((Nat → Int32))
  | 0, _, _ => none
  | n_5 + 1, x3_5, sl_5 =>
  if x3_5 ≤ x2 then (some sl_5) else
  ck (x3_5 - 1) 5 <| ck x3_5 5 <| x_pin_L5 x2 n_5 (x3_5 + (-1)) (upd sl_5 x3_5.toNatClampNeg (sl_5 (x3_5 - 1).toNatClampNeg))
theorem x_pin_L5_s (x2 : Int32) (n_5 : Nat) (x3_5 : Int32) (sl_5 : Nat → Int32) : x_pin_L5 x2 (n_5 + 1) x3_5 sl_5 = (
  if x3_5 ≤ x2 then (some sl_5) else
  ck (x3_5 - 1) 5 <| ck x3_5 5 <| x_pin_L5 x2 n_5 (x3_5 + (-1)) (upd sl_5 x3_5.toNatClampNeg (sl_5 (x3_5 - 1).toNatClampNeg))) := rfl
def x_pin (sl : Nat → Int32) (mn : Int32) (x1 : Int32) (x2 : Int32) : Option ((Nat → Int32) × Int32) :=
  bnd (x_pin_L5 x2 g_fuel mn sl) (fun sl_30 =>
  ck x2 5 <| some (upd sl_30 x2.toNatClampNeg x1, mn + 1))
set_option maxHeartbeats 4000000 in
set_option maxRecDepth 100000 in
theorem w_x_pin {p : Program} {l : Launch} {e : Env} {R : Room} {s : State} {m : MethodId} {args : Array Value} {below : List Frame} {meth : Method} {c : Code} {H : Heap} {locs : List Loc} {cells slots : Nat} {Q : State → Prop} {A : Nat → Prop} {ls : Array Slot} {D : va_G} {d : Nat → ClassId} {ta : Nat → Nat} {p_ : Nat} {many : Nat → Int32} {slip : Nat → Nat → Int32} {became : Nat → Int32} {left : Nat → Int32} {what : Nat → Int32} {which : Nat → Int32} {whose : Nat → Int32} {place : Nat → Int32} {deeds : Int32} {day : Int32} {won : Int32} {lost : Int32} {kept : Int32} {sl : Nat → Int32} {mn : Int32} {x1 : Int32} {x2 : Int32} {sl_r : Nat → Int32} {mn_r : Int32} (hx : p.tables.exec = Jvm.exec) (hb : c.code = cX3_pin) (hml : c.maxLocals = 4) (hown : s.vm.findClass RX3 = some m.cls) (hts : ∀ w ∈ lw_all, w.before args s = true) (hN : NX s) (hp : p_ < 4) (hA : ∀ q, s.heap.size ≤ q → A q) (hRf : 0 ≤ R.frames) (hRl : 0 ≤ R.locals) (hRc : cells ≤ R.cells) (hRs : slots ≤ R.slots) (hf : x_pin sl mn x1 x2 = some (sl_r, mn_r)) (hC : HC D gcl (gty d) A (tw d ta (upd many p_ mn) (va_up slip p_ sl) became left what which whose place deeds day won lost kept) s H locs) (hl : lv_has ls 4 [(0, .ref (ta (2 + p_))), (1, .int x1), (2, .int x2)]) (K : ∀ (H : Heap) (locs : List Loc) (ls : Array Slot) (pc : Nat), True → HC D gcl (gty d) A (tw d ta (upd many p_ mn_r) (va_up slip p_ sl_r) became left what which whose place deeds day won lost kept) s H locs → decode cX3_pin pc = .ok (.return_, 1) → W p l e R s m args below meth c H locs cells slots Q (F0 m pc ls [])) : W p l e R s m args below meth c H locs cells slots Q (F0 m 0 ls []) := by
  unfold x_pin at hf
  refine lv_aload_n hx hb dX3_pin_0 rfl (lv_at hl 0 rfl) ?_
  refine va_get (ci := 3) (v := .int mn) (C := RX3) (T := TX3) (N := 2) hx hb hts in_X3 hown hC.1 hC.2.1 (2 + p_) (sv_sl hp) rfl 1 (by decide) (hts _ q166) (fun _ h9 => h9) rfl dX3_pin_1 ?_
  refine lv_istore_n (lv' := [(3, .int mn), (0, .ref (ta (2 + p_))), (1, .int x1), (2, .int x2)]) hx hb dX3_pin_4 rfl hl (by decide) rfl (fun ls hl => ?_)
  obtain ⟨sl_30, hL, hf⟩ := bnd_some hf
  have X_5 : ∀ (H : Heap) (locs : List Loc) (ls : Array Slot), HC D gcl (gty d) A (tw d ta (upd many p_ mn) (va_up slip p_ sl_30) became left what which whose place deeds day won lost kept) s H locs → lv_has ls 4 [(0, .ref (ta (2 + p_))), (1, .int x1), (2, .int x2)] → W p l e R s m args below meth c H locs cells slots Q (F0 m 30 ls []) := by
    intro H locs ls hC hl
    refine lv_aload_n hx hb dX3_pin_30 rfl (lv_at hl 0 rfl) ?_
    refine va_get (ci := 3) (v := .ref (ta (6 + p_))) (C := RX3) (T := TX3) (N := 2) hx hb hts in_X3 hown hC.1 hC.2.1 (2 + p_) (sv_sl hp) rfl 0 (by decide) (hts _ q164) (fun _ h9 => h9) rfl dX3_pin_31 ?_
    refine lv_iload_n hx hb dX3_pin_34 rfl (lv_at hl 2 rfl) ?_
    refine lv_iload_n hx hb dX3_pin_35 rfl (lv_at hl 1 rfl) ?_
    obtain ⟨hi_36, hf⟩ := ck_some hf
    refine va_iast hx hb hC.1 hC.2.1 hC.2.2.1 hC.2.2.2 (6 + p_) 0 (sv_sp hp) rfl hi_36 dX3_pin_36 (fun H locs hP hD hS => ?_)
    have hC : HC D gcl (gty d) A (tw d ta (upd many p_ mn) (va_up slip p_ (upd sl_30 x2.toNatClampNeg x1)) became left what which whose place deeds day won lost kept) s H locs := hcset (sv_usp hp) hC.1 hP hD hS
    refine lv_aload_n hx hb dX3_pin_37 rfl (lv_at hl 0 rfl) ?_
    refine lv_dup hx hb dX3_pin_38 rfl ?_
    refine va_get (ci := 3) (v := .int mn) (C := RX3) (T := TX3) (N := 2) hx hb hts in_X3 hown hC.1 hC.2.1 (2 + p_) (sv_sl hp) rfl 1 (by decide) (hts _ q166) (fun _ h9 => h9) rfl dX3_pin_39 ?_
    refine lv_iconst (v := 1) hx hb dX3_pin_42 (by decide) ?_
    refine lv_iadd hx hb dX3_pin_43 ?_
    refine va_put (ci := 3) (v := .int (mn + 1)) (ty := .int) (C := RX3) (T := TX3) (N := 2) hx hb hts in_X3 tyX3 tyX3_ok nmX3 hown hC.1 hC.2.1 hC.2.2.1 hC.2.2.2 (2 + p_) (sv_sl hp) rfl 1 (by decide) (hts _ q166) (fun _ h9 => h9) rfl (tyX3_ok 1 (by decide)) rfl rfl (Nat.le_of_ble_eq_true rfl) dX3_pin_44 (fun H locs hP hD hS => ?_)
    have hC : HC D gcl (gty d) A (tw d ta (upd many p_ (mn + 1)) (va_up slip p_ (upd sl_30 x2.toNatClampNeg x1)) became left what which whose place deeds day won lost kept) s H locs := hcset (sv_usl hp) hC.1 hP hD hS
    obtain ⟨e_1, e_2⟩ := so_2 (Option.some.inj hf)
    subst e_1
    subst e_2
    exact K H locs ls _ trivial hC dX3_pin_47
  have L_5 : ∀ (n_5 : Nat) (x3_5 : Int32) (sl_5 : Nat → Int32), x_pin_L5 x2 n_5 x3_5 sl_5 = some sl_30 → ∀ (H : Heap) (locs : List Loc) (ls : Array Slot), HC D gcl (gty d) A (tw d ta (upd many p_ mn) (va_up slip p_ sl_5) became left what which whose place deeds day won lost kept) s H locs → lv_has ls 4 [(0, .ref (ta (2 + p_))), (1, .int x1), (2, .int x2), (3, .int x3_5)] → W p l e R s m args below meth c H locs cells slots Q (F0 m 5 ls []) := by
    intro n_5
    induction n_5 with
    | zero => intro _ _ hf; cases hf
    | succ n_5 ih =>
      intro x3_5 sl_5 hf H locs ls hC hl
      rw [x_pin_L5_s] at hf
      refine lv_iload_n hx hb dX3_pin_5 rfl (lv_at hl 3 rfl) ?_
      refine lv_iload_n hx hb dX3_pin_6 rfl (lv_at hl 2 rfl) ?_
      refine lv_icmp_le (tgt := 30) hx hb dX3_pin_7 (by decide) (fun c_7 => ?_) (fun c_7 => ?_)
      · have hf := if_t hf c_7
        have e_1 := (Option.some.inj hf)
        subst e_1
        exact X_5 H locs ls hC (lv_sub hl [0, 1, 2] rfl)
      · have hf := if_f hf c_7
        refine lv_aload_n hx hb dX3_pin_10 rfl (lv_at hl 0 rfl) ?_
        refine va_get (ci := 3) (v := .ref (ta (6 + p_))) (C := RX3) (T := TX3) (N := 2) hx hb hts in_X3 hown hC.1 hC.2.1 (2 + p_) (sv_sl hp) rfl 0 (by decide) (hts _ q164) (fun _ h9 => h9) rfl dX3_pin_11 ?_
        refine lv_iload_n hx hb dX3_pin_14 rfl (lv_at hl 3 rfl) ?_
        refine lv_aload_n hx hb dX3_pin_15 rfl (lv_at hl 0 rfl) ?_
        refine va_get (ci := 3) (v := .ref (ta (6 + p_))) (C := RX3) (T := TX3) (N := 2) hx hb hts in_X3 hown hC.1 hC.2.1 (2 + p_) (sv_sl hp) rfl 0 (by decide) (hts _ q164) (fun _ h9 => h9) rfl dX3_pin_16 ?_
        refine lv_iload_n hx hb dX3_pin_19 rfl (lv_at hl 3 rfl) ?_
        refine lv_iconst (v := 1) hx hb dX3_pin_20 (by decide) ?_
        refine lv_isub hx hb dX3_pin_21 ?_
        obtain ⟨hi_22, hf⟩ := ck_some hf
        refine va_iald hx hb hC.1 hC.2.1 (6 + p_) 0 (sv_sp hp) rfl hi_22 dX3_pin_22 ?_
        obtain ⟨hi_23, hf⟩ := ck_some hf
        refine va_iast hx hb hC.1 hC.2.1 hC.2.2.1 hC.2.2.2 (6 + p_) 0 (sv_sp hp) rfl hi_23 dX3_pin_23 (fun H locs hP hD hS => ?_)
        have hC : HC D gcl (gty d) A (tw d ta (upd many p_ mn) (va_up slip p_ (upd sl_5 x3_5.toNatClampNeg (sl_5 (x3_5 - 1).toNatClampNeg))) became left what which whose place deeds day won lost kept) s H locs := hcset (sv_usp hp) hC.1 hP hD hS
        refine lv_iinc (v := x3_5 + (-1)) (lv' := [(3, .int (x3_5 + (-1))), (0, .ref (ta (2 + p_))), (1, .int x1), (2, .int x2)]) hx hb dX3_pin_24 hl (k := 3) rfl rfl (by decide) rfl (fun ls hl => ?_)
        refine lv_goto (tgt := 5) hx hb dX3_pin_27 (by decide) ?_
        exact ih _ _ hf H locs ls hC (lv_sub hl [1, 2, 3, 0] rfl)
  exact L_5 _ _ _ hL H locs ls hC (lv_sub hl [1, 2, 3, 0] rfl)
set_option maxRecDepth 100000 in
theorem c_x_pin {l : Launch} {sz : Nat} {D : va_G} {d : Nat → ClassId} {ta : Nat → Nat} {p_ : Nat} {many : Nat → Int32} {slip : Nat → Nat → Int32} {became : Nat → Int32} {left : Nat → Int32} {what : Nat → Int32} {which : Nat → Int32} {whose : Nat → Int32} {place : Nat → Int32} {deeds : Int32} {day : Int32} {won : Int32} {lost : Int32} {kept : Int32} {sl : Nat → Int32} {mn : Int32} {x1 : Int32} {x2 : Int32} {sl_r : Nat → Int32} {mn_r : Int32} (hp : p_ < 4) (hf : x_pin sl mn x1 x2 = some (sl_r, mn_r)) : MV l yX3_pin (ws_ yX3_pin cX3_pin 4 none) { frames := 0, cells := 0, slots := 0, locals := 0 } D gcl (gty d) NX (tw d ta (upd many p_ mn) (va_up slip p_ sl) became left what which whose place deeds day won lost kept) (tw d ta (upd many p_ mn_r) (va_up slip p_ sl_r) became left what which whose place deeds day won lost kept) sz [.ref (ta (2 + p_)), .int x1, .int x2] :=
  MV.of (by decide) [.ref (ta (2 + p_)), .int x1, .int x2] [(0, .ref (ta (2 + p_))), (1, .int x1), (2, .int x2)] (Nat.le_of_ble_eq_true rfl) rfl (fun p e s m below meth c ls Q hx hb hml hown hts hN hA hC hl K => w_x_pin hx hb hml hown hts hN hp hA (Nat.le_refl _) (Nat.le_refl _) (Nat.le_refl _) (Nat.le_refl _) hf hC hl K)
set_option maxRecDepth 100000 in
theorem c_x_pin_ {l : Launch} {sz : Nat} {D : va_G} {d : Nat → ClassId} {ta : Nat → Nat} {p_ : Nat} {many : Nat → Int32} {slip : Nat → Nat → Int32} {became : Nat → Int32} {left : Nat → Int32} {what : Nat → Int32} {which : Nat → Int32} {whose : Nat → Int32} {place : Nat → Int32} {deeds : Int32} {day : Int32} {won : Int32} {lost : Int32} {kept : Int32} {x1 : Int32} {x2 : Int32} {sl_r : Nat → Int32} {mn_r : Int32} (hp : p_ < 4) (hf : x_pin (slip p_) (many p_) x1 x2 = some (sl_r, mn_r)) : MV l yX3_pin (ws_ yX3_pin cX3_pin 4 none) { frames := 0, cells := 0, slots := 0, locals := 0 } D gcl (gty d) NX (tw d ta many slip became left what which whose place deeds day won lost kept) (tw d ta (upd many p_ mn_r) (va_up slip p_ sl_r) became left what which whose place deeds day won lost kept) sz [.ref (ta (2 + p_)), .int x1, .int x2] := by
  have h := c_x_pin (l := l) (sz := sz) (D := D) (d := d) (ta := ta) (many := many) (slip := slip) (became := became) (left := left) (what := what) (which := which) (whose := whose) (place := place) (deeds := deeds) (day := day) (won := won) (lost := lost) (kept := kept) (sl := slip p_) (mn := many p_) hp hf
  rw [upd_id, vaup_id] at h
  exact h

def x_unpin_L12 (mn_k12 : Int32) : Nat → Int32 → (Nat → Int32) → Option ((Nat → Int32))
  | 0, _, _ => none
  | n_12 + 1, x2_12, sl_12 =>
  if mn_k12 ≤ x2_12 then (some sl_12) else
  ck (x2_12 + 1) 5 <| ck x2_12 5 <| x_unpin_L12 mn_k12 n_12 (x2_12 + 1) (upd sl_12 x2_12.toNatClampNeg (sl_12 (x2_12 + 1).toNatClampNeg))
theorem x_unpin_L12_s (mn_k12 : Int32) (n_12 : Nat) (x2_12 : Int32) (sl_12 : Nat → Int32) : x_unpin_L12 mn_k12 (n_12 + 1) x2_12 sl_12 = (
  if mn_k12 ≤ x2_12 then (some sl_12) else
  ck (x2_12 + 1) 5 <| ck x2_12 5 <| x_unpin_L12 mn_k12 n_12 (x2_12 + 1) (upd sl_12 x2_12.toNatClampNeg (sl_12 (x2_12 + 1).toNatClampNeg))) := rfl
def x_unpin (sl : Nat → Int32) (mn : Int32) (x1 : Int32) : Option ((Nat → Int32) × Int32) :=
  ltv (mn - 1) fun mn_k12 => bnd (x_unpin_L12 mn_k12 g_fuel x1 sl) (fun sl_40 =>
  some (sl_40, mn_k12))
set_option maxHeartbeats 4000000 in
set_option maxRecDepth 100000 in
theorem w_x_unpin {p : Program} {l : Launch} {e : Env} {R : Room} {s : State} {m : MethodId} {args : Array Value} {below : List Frame} {meth : Method} {c : Code} {H : Heap} {locs : List Loc} {cells slots : Nat} {Q : State → Prop} {A : Nat → Prop} {ls : Array Slot} {D : va_G} {d : Nat → ClassId} {ta : Nat → Nat} {p_ : Nat} {many : Nat → Int32} {slip : Nat → Nat → Int32} {became : Nat → Int32} {left : Nat → Int32} {what : Nat → Int32} {which : Nat → Int32} {whose : Nat → Int32} {place : Nat → Int32} {deeds : Int32} {day : Int32} {won : Int32} {lost : Int32} {kept : Int32} {sl : Nat → Int32} {mn : Int32} {x1 : Int32} {sl_r : Nat → Int32} {mn_r : Int32} (hx : p.tables.exec = Jvm.exec) (hb : c.code = cX3_unpin) (hml : c.maxLocals = 3) (hown : s.vm.findClass RX3 = some m.cls) (hts : ∀ w ∈ lw_all, w.before args s = true) (hN : NX s) (hp : p_ < 4) (hA : ∀ q, s.heap.size ≤ q → A q) (hRf : 0 ≤ R.frames) (hRl : 0 ≤ R.locals) (hRc : cells ≤ R.cells) (hRs : slots ≤ R.slots) (hf : x_unpin sl mn x1 = some (sl_r, mn_r)) (hC : HC D gcl (gty d) A (tw d ta (upd many p_ mn) (va_up slip p_ sl) became left what which whose place deeds day won lost kept) s H locs) (hl : lv_has ls 3 [(0, .ref (ta (2 + p_))), (1, .int x1)]) (K : ∀ (H : Heap) (locs : List Loc) (ls : Array Slot) (pc : Nat), True → HC D gcl (gty d) A (tw d ta (upd many p_ mn_r) (va_up slip p_ sl_r) became left what which whose place deeds day won lost kept) s H locs → decode cX3_unpin pc = .ok (.return_, 1) → W p l e R s m args below meth c H locs cells slots Q (F0 m pc ls [])) : W p l e R s m args below meth c H locs cells slots Q (F0 m 0 ls []) := by
  unfold x_unpin at hf
  refine lv_aload_n hx hb dX3_unpin_0 rfl (lv_at hl 0 rfl) ?_
  refine lv_dup hx hb dX3_unpin_1 rfl ?_
  refine va_get (ci := 3) (v := .int mn) (C := RX3) (T := TX3) (N := 2) hx hb hts in_X3 hown hC.1 hC.2.1 (2 + p_) (sv_sl hp) rfl 1 (by decide) (hts _ q166) (fun _ h9 => h9) rfl dX3_unpin_2 ?_
  refine lv_iconst (v := 1) hx hb dX3_unpin_5 (by decide) ?_
  refine lv_isub hx hb dX3_unpin_6 ?_
  refine va_put (ci := 3) (v := .int (mn - 1)) (ty := .int) (C := RX3) (T := TX3) (N := 2) hx hb hts in_X3 tyX3 tyX3_ok nmX3 hown hC.1 hC.2.1 hC.2.2.1 hC.2.2.2 (2 + p_) (sv_sl hp) rfl 1 (by decide) (hts _ q166) (fun _ h9 => h9) rfl (tyX3_ok 1 (by decide)) rfl rfl (Nat.le_of_ble_eq_true rfl) dX3_unpin_7 (fun H locs hP hD hS => ?_)
  have hC : HC D gcl (gty d) A (tw d ta (upd many p_ (mn - 1)) (va_up slip p_ sl) became left what which whose place deeds day won lost kept) s H locs := hcset (sv_usl hp) hC.1 hP hD hS
  refine lv_iload_n hx hb dX3_unpin_10 rfl (lv_at hl 1 rfl) ?_
  refine lv_istore_n (lv' := [(2, .int x1), (0, .ref (ta (2 + p_))), (1, .int x1)]) hx hb dX3_unpin_11 rfl hl (by decide) rfl (fun ls hl => ?_)
  obtain ⟨mn_k12, ek, hf⟩ := ltv_some hf
  rw [ek] at hC
  obtain ⟨sl_40, hL, hf⟩ := bnd_some hf
  have X_12 : ∀ (H : Heap) (locs : List Loc) (ls : Array Slot), HC D gcl (gty d) A (tw d ta (upd many p_ mn_k12) (va_up slip p_ sl_40) became left what which whose place deeds day won lost kept) s H locs → lv_has ls 3 [] → W p l e R s m args below meth c H locs cells slots Q (F0 m 40 ls []) := by
    intro H locs ls hC hl
    obtain ⟨e_1, e_2⟩ := so_2 (Option.some.inj hf)
    subst e_1
    subst e_2
    exact K H locs ls _ trivial hC dX3_unpin_40
  have L_12 : ∀ (n_12 : Nat) (x2_12 : Int32) (sl_12 : Nat → Int32), x_unpin_L12 mn_k12 n_12 x2_12 sl_12 = some sl_40 → ∀ (H : Heap) (locs : List Loc) (ls : Array Slot), HC D gcl (gty d) A (tw d ta (upd many p_ mn_k12) (va_up slip p_ sl_12) became left what which whose place deeds day won lost kept) s H locs → lv_has ls 3 [(0, .ref (ta (2 + p_))), (2, .int x2_12)] → W p l e R s m args below meth c H locs cells slots Q (F0 m 12 ls []) := by
    intro n_12
    induction n_12 with
    | zero => intro _ _ hf; cases hf
    | succ n_12 ih =>
      intro x2_12 sl_12 hf H locs ls hC hl
      rw [x_unpin_L12_s] at hf
      refine lv_iload_n hx hb dX3_unpin_12 rfl (lv_at hl 1 rfl) ?_
      refine lv_aload_n hx hb dX3_unpin_13 rfl (lv_at hl 0 rfl) ?_
      refine va_get (ci := 3) (v := .int mn_k12) (C := RX3) (T := TX3) (N := 2) hx hb hts in_X3 hown hC.1 hC.2.1 (2 + p_) (sv_sl hp) rfl 1 (by decide) (hts _ q166) (fun _ h9 => h9) rfl dX3_unpin_14 ?_
      refine lv_icmp_ge (tgt := 40) hx hb dX3_unpin_17 (by decide) (fun c_17 => ?_) (fun c_17 => ?_)
      · have hf := if_t hf c_17
        have e_1 := (Option.some.inj hf)
        subst e_1
        exact X_12 H locs ls hC (lv_sub hl [] rfl)
      · have hf := if_f hf c_17
        refine lv_aload_n hx hb dX3_unpin_20 rfl (lv_at hl 0 rfl) ?_
        refine va_get (ci := 3) (v := .ref (ta (6 + p_))) (C := RX3) (T := TX3) (N := 2) hx hb hts in_X3 hown hC.1 hC.2.1 (2 + p_) (sv_sl hp) rfl 0 (by decide) (hts _ q164) (fun _ h9 => h9) rfl dX3_unpin_21 ?_
        refine lv_iload_n hx hb dX3_unpin_24 rfl (lv_at hl 1 rfl) ?_
        refine lv_aload_n hx hb dX3_unpin_25 rfl (lv_at hl 0 rfl) ?_
        refine va_get (ci := 3) (v := .ref (ta (6 + p_))) (C := RX3) (T := TX3) (N := 2) hx hb hts in_X3 hown hC.1 hC.2.1 (2 + p_) (sv_sl hp) rfl 0 (by decide) (hts _ q164) (fun _ h9 => h9) rfl dX3_unpin_26 ?_
        refine lv_iload_n hx hb dX3_unpin_29 rfl (lv_at hl 1 rfl) ?_
        refine lv_iconst (v := 1) hx hb dX3_unpin_30 (by decide) ?_
        refine lv_iadd hx hb dX3_unpin_31 ?_
        obtain ⟨hi_32, hf⟩ := ck_some hf
        refine va_iald hx hb hC.1 hC.2.1 (6 + p_) 0 (sv_sp hp) rfl hi_32 dX3_unpin_32 ?_
        obtain ⟨hi_33, hf⟩ := ck_some hf
        refine va_iast hx hb hC.1 hC.2.1 hC.2.2.1 hC.2.2.2 (6 + p_) 0 (sv_sp hp) rfl hi_33 dX3_unpin_33 (fun H locs hP hD hS => ?_)
        have hC : HC D gcl (gty d) A (tw d ta (upd many p_ mn_k12) (va_up slip p_ (upd sl_12 x2_12.toNatClampNeg (sl_12 (x2_12 + 1).toNatClampNeg))) became left what which whose place deeds day won lost kept) s H locs := hcset (sv_usp hp) hC.1 hP hD hS
        refine lv_iinc (v := x2_12 + 1) (lv' := [(2, .int (x2_12 + 1)), (0, .ref (ta (2 + p_)))]) hx hb dX3_unpin_34 hl (k := 1) rfl rfl (by decide) rfl (fun ls hl => ?_)
        refine lv_goto (tgt := 12) hx hb dX3_unpin_37 (by decide) ?_
        exact ih _ _ hf H locs ls hC (lv_sub hl [1, 0] rfl)
  exact L_12 _ _ _ hL H locs ls hC (lv_sub hl [1, 0] rfl)
set_option maxRecDepth 100000 in
theorem c_x_unpin {l : Launch} {sz : Nat} {D : va_G} {d : Nat → ClassId} {ta : Nat → Nat} {p_ : Nat} {many : Nat → Int32} {slip : Nat → Nat → Int32} {became : Nat → Int32} {left : Nat → Int32} {what : Nat → Int32} {which : Nat → Int32} {whose : Nat → Int32} {place : Nat → Int32} {deeds : Int32} {day : Int32} {won : Int32} {lost : Int32} {kept : Int32} {sl : Nat → Int32} {mn : Int32} {x1 : Int32} {sl_r : Nat → Int32} {mn_r : Int32} (hp : p_ < 4) (hf : x_unpin sl mn x1 = some (sl_r, mn_r)) : MV l yX3_unpin (ws_ yX3_unpin cX3_unpin 3 none) { frames := 0, cells := 0, slots := 0, locals := 0 } D gcl (gty d) NX (tw d ta (upd many p_ mn) (va_up slip p_ sl) became left what which whose place deeds day won lost kept) (tw d ta (upd many p_ mn_r) (va_up slip p_ sl_r) became left what which whose place deeds day won lost kept) sz [.ref (ta (2 + p_)), .int x1] :=
  MV.of (by decide) [.ref (ta (2 + p_)), .int x1] [(0, .ref (ta (2 + p_))), (1, .int x1)] (Nat.le_of_ble_eq_true rfl) rfl (fun p e s m below meth c ls Q hx hb hml hown hts hN hA hC hl K => w_x_unpin hx hb hml hown hts hN hp hA (Nat.le_refl _) (Nat.le_refl _) (Nat.le_refl _) (Nat.le_refl _) hf hC hl K)
set_option maxRecDepth 100000 in
theorem c_x_unpin_ {l : Launch} {sz : Nat} {D : va_G} {d : Nat → ClassId} {ta : Nat → Nat} {p_ : Nat} {many : Nat → Int32} {slip : Nat → Nat → Int32} {became : Nat → Int32} {left : Nat → Int32} {what : Nat → Int32} {which : Nat → Int32} {whose : Nat → Int32} {place : Nat → Int32} {deeds : Int32} {day : Int32} {won : Int32} {lost : Int32} {kept : Int32} {x1 : Int32} {sl_r : Nat → Int32} {mn_r : Int32} (hp : p_ < 4) (hf : x_unpin (slip p_) (many p_) x1 = some (sl_r, mn_r)) : MV l yX3_unpin (ws_ yX3_unpin cX3_unpin 3 none) { frames := 0, cells := 0, slots := 0, locals := 0 } D gcl (gty d) NX (tw d ta many slip became left what which whose place deeds day won lost kept) (tw d ta (upd many p_ mn_r) (va_up slip p_ sl_r) became left what which whose place deeds day won lost kept) sz [.ref (ta (2 + p_)), .int x1] := by
  have h := c_x_unpin (l := l) (sz := sz) (D := D) (d := d) (ta := ta) (many := many) (slip := slip) (became := became) (left := left) (what := what) (which := which) (whose := whose) (place := place) (deeds := deeds) (day := day) (won := won) (lost := lost) (kept := kept) (sl := slip p_) (mn := many p_) hp hf
  rw [upd_id, vaup_id] at h
  exact h

def x_begin_L10 : Nat → Int32 → (Nat → Int32) → Option ((Nat → Int32))
  | 0, _, _ => none
  | n_10 + 1, x3_10, many_10 =>
  if 4 ≤ x3_10 then (some many_10) else
  ck x3_10 4 <| x_begin_L10 n_10 (x3_10 + 1) (upd many_10 x3_10.toNatClampNeg 0)
theorem x_begin_L10_s (n_10 : Nat) (x3_10 : Int32) (many_10 : Nat → Int32) : x_begin_L10 (n_10 + 1) x3_10 many_10 = (
  if 4 ≤ x3_10 then (some many_10) else
  ck x3_10 4 <| x_begin_L10 n_10 (x3_10 + 1) (upd many_10 x3_10.toNatClampNeg 0)) := rfl
def x_begin (many : Nat → Int32) (became : Nat → Int32) (left : Nat → Int32) : Option ((Nat → Int32) × (Nat → Int32) × (Nat → Int32) × Int32 × Int32 × Int32 × Int32) :=
  bnd (x_begin_L10 g_fuel 0 many) (fun many_32 =>
  bnd (j_fill 8 became 0) fun f_37 =>
  bnd (j_fill 8 left 0) fun f_45 =>
  some (many_32, f_37, f_45, 0, 0, 0, 0))
set_option maxHeartbeats 4000000 in
set_option maxRecDepth 100000 in
theorem w_x_begin {p : Program} {l : Launch} {e : Env} {R : Room} {s : State} {m : MethodId} {args : Array Value} {below : List Frame} {meth : Method} {c : Code} {H : Heap} {locs : List Loc} {cells slots : Nat} {Q : State → Prop} {A : Nat → Prop} {ls : Array Slot} {D : va_G} {d : Nat → ClassId} {ta : Nat → Nat} {many : Nat → Int32} {slip : Nat → Nat → Int32} {became : Nat → Int32} {left : Nat → Int32} {what : Nat → Int32} {which : Nat → Int32} {whose : Nat → Int32} {place : Nat → Int32} {deeds : Int32} {day : Int32} {won : Int32} {lost : Int32} {kept : Int32} {many_r : Nat → Int32} {became_r : Nat → Int32} {left_r : Nat → Int32} {deeds_r : Int32} {day_r : Int32} {won_r : Int32} {lost_r : Int32} (hx : p.tables.exec = Jvm.exec) (hb : c.code = cX2_begin) (hml : c.maxLocals = 5) (hown : s.vm.findClass RX2 = some m.cls) (hts : ∀ w ∈ lw_all, w.before args s = true) (hN : NX s) (hA : ∀ q, s.heap.size ≤ q → A q) (hRf : 1 ≤ R.frames) (hRl : 23 ≤ R.locals) (hRc : cells ≤ R.cells) (hRs : slots ≤ R.slots) (hf : x_begin many became left = some (many_r, became_r, left_r, deeds_r, day_r, won_r, lost_r)) (hC : HC D gcl (gty d) A (tw d ta many slip became left what which whose place deeds day won lost kept) s H locs) (hl : lv_has ls 5 [(0, .ref (ta 0))]) (K : ∀ (H : Heap) (locs : List Loc) (ls : Array Slot) (pc : Nat), True → HC D gcl (gty d) A (tw d ta many_r slip became_r left_r what which whose place deeds_r day_r won_r lost_r kept) s H locs → decode cX2_begin pc = .ok (.return_, 1) → W p l e R s m args below meth c H locs cells slots Q (F0 m pc ls [])) : W p l e R s m args below meth c H locs cells slots Q (F0 m 0 ls []) := by
  unfold x_begin at hf
  refine lv_aload_n hx hb dX2_begin_0 rfl (lv_at hl 0 rfl) ?_
  refine va_get (ci := 2) (v := .ref (ta 1)) (C := RX2) (T := TX2) (N := 12) hx hb hts in_X2 hown hC.1 hC.2.1 (0) rfl rfl 0 (by decide) (hts _ q175) (fun _ h9 => h9) rfl dX2_begin_1 ?_
  refine lv_astore_n (lv' := [(1, .ref (ta 1)), (0, .ref (ta 0))]) hx hb dX2_begin_4 rfl hl (by decide) rfl (fun ls hl => ?_)
  refine lv_aload_n hx hb dX2_begin_5 rfl (lv_at hl 0 rfl) ?_
  refine va_alen (v := 4) hx hb hC.1 hC.2.1 1 4 rfl rfl rfl dX2_begin_6 ?_
  refine lv_istore_n (lv' := [(2, .int 4), (1, .ref (ta 1)), (0, .ref (ta 0))]) hx hb dX2_begin_7 rfl hl (by decide) rfl (fun ls hl => ?_)
  refine lv_iconst (v := 0) hx hb dX2_begin_8 (by decide) ?_
  refine lv_istore_n (lv' := [(3, .int 0), (2, .int 4), (1, .ref (ta 1)), (0, .ref (ta 0))]) hx hb dX2_begin_9 rfl hl (by decide) rfl (fun ls hl => ?_)
  obtain ⟨many_32, hL, hf⟩ := bnd_some hf
  have X_10 : ∀ (H : Heap) (locs : List Loc) (ls : Array Slot), HC D gcl (gty d) A (tw d ta many_32 slip became left what which whose place deeds day won lost kept) s H locs → lv_has ls 5 [(0, .ref (ta 0))] → W p l e R s m args below meth c H locs cells slots Q (F0 m 32 ls []) := by
    intro H locs ls hC hl
    refine lv_aload_n hx hb dX2_begin_32 rfl (lv_at hl 0 rfl) ?_
    refine va_get (ci := 2) (v := .ref (ta 10)) (C := RX2) (T := TX2) (N := 12) hx hb hts in_X2 hown hC.1 hC.2.1 (0) rfl rfl 1 (by decide) (hts _ q178) (fun _ h9 => h9) rfl dX2_begin_33 ?_
    refine lv_iconst (v := 0) hx hb dX2_begin_36 (by decide) ?_
    obtain ⟨f_37, hcall, hf⟩ := bnd_some hf
    refine h1_v (k := 10) rfl (va_runS (As := [.ref (ta 10), .int 0]) (rest := []) ⟨hx, hb, hml, hown, hts⟩ (c_j_fill hcall) (va_cwS 2 hts (lw_S q299 q300 q58 q301) rfl rfl rfl (by decide +kernel) ⟨(Nat.le_trans (Nat.le_of_ble_eq_true rfl) hRf), (Nat.le_trans (Nat.le_of_ble_eq_true rfl) hRl)⟩) (pre_S1 (k := 10) rfl (fun _ _ _ _ h => h) (fun _ _ _ => trivial) hC) rfl rfl hl.1 rfl (lv_room (Nat.le_of_ble_eq_true rfl)) dX2_begin_37 ⟨hRc, hRs⟩) hA hC (fun H locs hC => ?_)
    have hC : HC D gcl (gty d) A (tw d ta many_32 slip f_37 left what which whose place deeds day won lost kept) s H locs := hC
    refine lv_aload_n hx hb dX2_begin_40 rfl (lv_at hl 0 rfl) ?_
    refine va_get (ci := 2) (v := .ref (ta 11)) (C := RX2) (T := TX2) (N := 12) hx hb hts in_X2 hown hC.1 hC.2.1 (0) rfl rfl 2 (by decide) (hts _ q180) (fun _ h9 => h9) rfl dX2_begin_41 ?_
    refine lv_iconst (v := 0) hx hb dX2_begin_44 (by decide) ?_
    obtain ⟨f_45, hcall, hf⟩ := bnd_some hf
    refine h1_v (k := 11) rfl (va_runS (As := [.ref (ta 11), .int 0]) (rest := []) ⟨hx, hb, hml, hown, hts⟩ (c_j_fill hcall) (va_cwS 2 hts (lw_S q299 q300 q58 q301) rfl rfl rfl (by decide +kernel) ⟨(Nat.le_trans (Nat.le_of_ble_eq_true rfl) hRf), (Nat.le_trans (Nat.le_of_ble_eq_true rfl) hRl)⟩) (pre_S1 (k := 11) rfl (fun _ _ _ _ h => h) (fun _ _ _ => trivial) hC) rfl rfl hl.1 rfl (lv_room (Nat.le_of_ble_eq_true rfl)) dX2_begin_45 ⟨hRc, hRs⟩) hA hC (fun H locs hC => ?_)
    have hC : HC D gcl (gty d) A (tw d ta many_32 slip f_37 f_45 what which whose place deeds day won lost kept) s H locs := hC
    refine lv_aload_n hx hb dX2_begin_48 rfl (lv_at hl 0 rfl) ?_
    refine lv_iconst (v := 0) hx hb dX2_begin_49 (by decide) ?_
    refine va_put (ci := 2) (v := .int 0) (ty := .int) (C := RX2) (T := TX2) (N := 12) hx hb hts in_X2 tyX2 tyX2_ok nmX2 hown hC.1 hC.2.1 hC.2.2.1 hC.2.2.2 (0) rfl rfl 7 (by decide) (hts _ q190) (fun _ h9 => h9) rfl (tyX2_ok 7 (by decide)) rfl rfl (Nat.le_of_ble_eq_true rfl) dX2_begin_50 (fun H locs hP hD hS => ?_)
    have hC : HC D gcl (gty d) A (tw d ta many_32 slip f_37 f_45 what which whose place 0 day won lost kept) s H locs := ⟨hC.1, hP, hD, hS⟩
    refine lv_aload_n hx hb dX2_begin_53 rfl (lv_at hl 0 rfl) ?_
    refine lv_iconst (v := 0) hx hb dX2_begin_54 (by decide) ?_
    refine va_put (ci := 2) (v := .int 0) (ty := .int) (C := RX2) (T := TX2) (N := 12) hx hb hts in_X2 tyX2 tyX2_ok nmX2 hown hC.1 hC.2.1 hC.2.2.1 hC.2.2.2 (0) rfl rfl 8 (by decide) (hts _ q193) (fun _ h9 => h9) rfl (tyX2_ok 8 (by decide)) rfl rfl (Nat.le_of_ble_eq_true rfl) dX2_begin_55 (fun H locs hP hD hS => ?_)
    have hC : HC D gcl (gty d) A (tw d ta many_32 slip f_37 f_45 what which whose place 0 0 won lost kept) s H locs := ⟨hC.1, hP, hD, hS⟩
    refine lv_aload_n hx hb dX2_begin_58 rfl (lv_at hl 0 rfl) ?_
    refine lv_iconst (v := 0) hx hb dX2_begin_59 (by decide) ?_
    refine va_put (ci := 2) (v := .int 0) (ty := .int) (C := RX2) (T := TX2) (N := 12) hx hb hts in_X2 tyX2 tyX2_ok nmX2 hown hC.1 hC.2.1 hC.2.2.1 hC.2.2.2 (0) rfl rfl 9 (by decide) (hts _ q195) (fun _ h9 => h9) rfl (tyX2_ok 9 (by decide)) rfl rfl (Nat.le_of_ble_eq_true rfl) dX2_begin_60 (fun H locs hP hD hS => ?_)
    have hC : HC D gcl (gty d) A (tw d ta many_32 slip f_37 f_45 what which whose place 0 0 0 lost kept) s H locs := ⟨hC.1, hP, hD, hS⟩
    refine lv_aload_n hx hb dX2_begin_63 rfl (lv_at hl 0 rfl) ?_
    refine lv_iconst (v := 0) hx hb dX2_begin_64 (by decide) ?_
    refine va_put (ci := 2) (v := .int 0) (ty := .int) (C := RX2) (T := TX2) (N := 12) hx hb hts in_X2 tyX2 tyX2_ok nmX2 hown hC.1 hC.2.1 hC.2.2.1 hC.2.2.2 (0) rfl rfl 10 (by decide) (hts _ q197) (fun _ h9 => h9) rfl (tyX2_ok 10 (by decide)) rfl rfl (Nat.le_of_ble_eq_true rfl) dX2_begin_65 (fun H locs hP hD hS => ?_)
    have hC : HC D gcl (gty d) A (tw d ta many_32 slip f_37 f_45 what which whose place 0 0 0 0 kept) s H locs := ⟨hC.1, hP, hD, hS⟩
    obtain ⟨e_1, e_2, e_3, e_4, e_5, e_6, e_7⟩ := so_7 (Option.some.inj hf)
    subst e_1
    subst e_2
    subst e_3
    subst e_4
    subst e_5
    subst e_6
    subst e_7
    exact K H locs ls _ trivial hC dX2_begin_68
  have L_10 : ∀ (n_10 : Nat) (x3_10 : Int32) (many_10 : Nat → Int32), x_begin_L10 n_10 x3_10 many_10 = some many_32 → ∀ (H : Heap) (locs : List Loc) (ls : Array Slot), HC D gcl (gty d) A (tw d ta many_10 slip became left what which whose place deeds day won lost kept) s H locs → lv_has ls 5 [(0, .ref (ta 0)), (1, .ref (ta 1)), (2, .int 4), (3, .int x3_10)] → W p l e R s m args below meth c H locs cells slots Q (F0 m 10 ls []) := by
    intro n_10
    induction n_10 with
    | zero => intro _ _ hf; cases hf
    | succ n_10 ih =>
      intro x3_10 many_10 hf H locs ls hC hl
      rw [x_begin_L10_s] at hf
      refine lv_iload_n hx hb dX2_begin_10 rfl (lv_at hl 3 rfl) ?_
      refine lv_iload_n hx hb dX2_begin_11 rfl (lv_at hl 2 rfl) ?_
      refine lv_icmp_ge (tgt := 32) hx hb dX2_begin_12 (by decide) (fun c_12 => ?_) (fun c_12 => ?_)
      · have hf := if_t hf c_12
        have e_1 := (Option.some.inj hf)
        subst e_1
        exact X_10 H locs ls hC (lv_sub hl [0] rfl)
      · have hf := if_f hf c_12
        refine lv_aload_n hx hb dX2_begin_15 rfl (lv_at hl 1 rfl) ?_
        refine lv_iload_n hx hb dX2_begin_16 rfl (lv_at hl 3 rfl) ?_
        obtain ⟨hi_17, hf⟩ := ck_some hf
        refine va_aldq hx hb hC.1 hC.2.1 1 4 rfl rfl hi_17 dX2_begin_17 ?_
        refine lv_astore (lv' := [(4, .ref (ta (2 + x3_10.toNatClampNeg))), (0, .ref (ta 0)), (1, .ref (ta 1)), (2, .int 4), (3, .int x3_10)]) hx hb dX2_begin_18 hl (by decide) rfl (fun ls hl => ?_)
        refine lv_aload hx hb dX2_begin_20 (lv_at hl 0 rfl) ?_
        refine lv_iconst (v := 0) hx hb dX2_begin_22 (by decide) ?_
        refine va_putN (ci := 3) (v := .int 0) (ty := .int) (C := RX3) (T := TX3) (N := 2) (host := "SleeveSlips") hx hb hts in_X3 tyX3 tyX3_ok nmX3 hown hC.1 hC.2.1 hC.2.2.1 hC.2.2.2 (2 + x3_10.toNatClampNeg) (tw_sl (vp_lt hi_17)) rfl 1 (by decide) (va_Nw.use rfl (hN.1 29)) (fun _ h9 => h9) rfl (tyX3_ok 1 (by decide)) rfl rfl (Nat.le_of_ble_eq_true rfl) dX2_begin_23 (fun H locs hP hD hS => ?_)
        have hC : HC D gcl (gty d) A (tw d ta (upd many_10 x3_10.toNatClampNeg 0) slip became left what which whose place deeds day won lost kept) s H locs := hcset (tw_usl (vp_lt hi_17)) hC.1 hP hD hS
        refine lv_iinc (v := x3_10 + 1) (lv' := [(3, .int (x3_10 + 1)), (4, .ref (ta (2 + x3_10.toNatClampNeg))), (0, .ref (ta 0)), (1, .ref (ta 1)), (2, .int 4)]) hx hb dX2_begin_26 hl (k := 4) rfl rfl (by decide) rfl (fun ls hl => ?_)
        refine lv_goto (tgt := 10) hx hb dX2_begin_29 (by decide) ?_
        exact ih _ _ hf H locs ls hC (lv_sub hl [2, 3, 4, 0] rfl)
  exact L_10 _ _ _ hL H locs ls hC (lv_sub hl [3, 2, 1, 0] rfl)
set_option maxRecDepth 100000 in
theorem c_x_begin {l : Launch} {sz : Nat} {D : va_G} {d : Nat → ClassId} {ta : Nat → Nat} {many : Nat → Int32} {slip : Nat → Nat → Int32} {became : Nat → Int32} {left : Nat → Int32} {what : Nat → Int32} {which : Nat → Int32} {whose : Nat → Int32} {place : Nat → Int32} {deeds : Int32} {day : Int32} {won : Int32} {lost : Int32} {kept : Int32} {many_r : Nat → Int32} {became_r : Nat → Int32} {left_r : Nat → Int32} {deeds_r : Int32} {day_r : Int32} {won_r : Int32} {lost_r : Int32} (hf : x_begin many became left = some (many_r, became_r, left_r, deeds_r, day_r, won_r, lost_r)) : MV l yX2_begin (ws_ yX2_begin cX2_begin 5 none) { frames := 1, cells := 0, slots := 0, locals := 23 } D gcl (gty d) NX (tw d ta many slip became left what which whose place deeds day won lost kept) (tw d ta many_r slip became_r left_r what which whose place deeds_r day_r won_r lost_r kept) sz [.ref (ta 0)] :=
  MV.of (by decide) [.ref (ta 0)] [(0, .ref (ta 0))] (Nat.le_of_ble_eq_true rfl) rfl (fun p e s m below meth c ls Q hx hb hml hown hts hN hA hC hl K => w_x_begin hx hb hml hown hts hN hA (Nat.le_refl _) (Nat.le_refl _) (Nat.le_refl _) (Nat.le_refl _) hf hC hl K)

def x_know (what : Nat → Int32) (which : Nat → Int32) (whose : Nat → Int32) (place : Nat → Int32) (deeds : Int32) (x1 : Int32) (x2 : Int32) (x3 : Int32) (x4 : Int32) : Option ((Nat → Int32) × (Nat → Int32) × (Nat → Int32) × (Nat → Int32) × Int32) :=
  bnd5 (if deeds = 12 then (cky 1 0 (deeds - 1) 12 12 <| cky 1 0 (deeds - 1) 12 12 <| cky 1 0 (deeds - 1) 12 12 <| cky 1 0 (deeds - 1) 12 12 <| some (va_cpy what what (1 : Int32).toNatClampNeg (0 : Int32).toNatClampNeg (deeds - 1).toNatClampNeg, va_cpy which which (1 : Int32).toNatClampNeg (0 : Int32).toNatClampNeg (deeds - 1).toNatClampNeg, va_cpy whose whose (1 : Int32).toNatClampNeg (0 : Int32).toNatClampNeg (deeds - 1).toNatClampNeg, va_cpy place place (1 : Int32).toNatClampNeg (0 : Int32).toNatClampNeg (deeds - 1).toNatClampNeg, deeds - 1)) else
  some (what, which, whose, place, deeds)) (fun (what_87 : Nat → Int32) (which_87 : Nat → Int32) (whose_87 : Nat → Int32) (place_87 : Nat → Int32) (deeds_87 : Int32) =>
  ck deeds_87 12 <| ck deeds_87 12 <| ck deeds_87 12 <| ck deeds_87 12 <| some (upd what_87 deeds_87.toNatClampNeg x1, upd which_87 deeds_87.toNatClampNeg x2, upd whose_87 deeds_87.toNatClampNeg x3, upd place_87 deeds_87.toNatClampNeg x4, deeds_87 + 1))
set_option maxHeartbeats 4000000 in
set_option maxRecDepth 100000 in
theorem w_x_know {p : Program} {l : Launch} {e : Env} {R : Room} {s : State} {m : MethodId} {args : Array Value} {below : List Frame} {meth : Method} {c : Code} {H : Heap} {locs : List Loc} {cells slots : Nat} {Q : State → Prop} {A : Nat → Prop} {ls : Array Slot} {D : va_G} {d : Nat → ClassId} {ta : Nat → Nat} {many : Nat → Int32} {slip : Nat → Nat → Int32} {became : Nat → Int32} {left : Nat → Int32} {what : Nat → Int32} {which : Nat → Int32} {whose : Nat → Int32} {place : Nat → Int32} {deeds : Int32} {day : Int32} {won : Int32} {lost : Int32} {kept : Int32} {x1 : Int32} {x2 : Int32} {x3 : Int32} {x4 : Int32} {what_r : Nat → Int32} {which_r : Nat → Int32} {whose_r : Nat → Int32} {place_r : Nat → Int32} {deeds_r : Int32} (hx : p.tables.exec = Jvm.exec) (hb : c.code = cX2_know) (hml : c.maxLocals = 5) (hown : s.vm.findClass RX2 = some m.cls) (hts : ∀ w ∈ lw_all, w.before args s = true) (hN : NX s) (hA : ∀ q, s.heap.size ≤ q → A q) (hRf : 1 ≤ R.frames) (hRl : 60 ≤ R.locals) (hRc : cells ≤ R.cells) (hRs : slots ≤ R.slots) (hf : x_know what which whose place deeds x1 x2 x3 x4 = some (what_r, which_r, whose_r, place_r, deeds_r)) (hC : HC D gcl (gty d) A (tw d ta many slip became left what which whose place deeds day won lost kept) s H locs) (hl : lv_has ls 5 [(0, .ref (ta 0)), (1, .int x1), (2, .int x2), (3, .int x3), (4, .int x4)]) (K : ∀ (H : Heap) (locs : List Loc) (ls : Array Slot) (pc : Nat), True → HC D gcl (gty d) A (tw d ta many slip became left what_r which_r whose_r place_r deeds_r day won lost kept) s H locs → decode cX2_know pc = .ok (.return_, 1) → W p l e R s m args below meth c H locs cells slots Q (F0 m pc ls [])) : W p l e R s m args below meth c H locs cells slots Q (F0 m 0 ls []) := by
  unfold x_know at hf
  refine lv_aload_n hx hb dX2_know_0 rfl (lv_at hl 0 rfl) ?_
  refine va_get (ci := 2) (v := .int deeds) (C := RX2) (T := TX2) (N := 12) hx hb hts in_X2 hown hC.1 hC.2.1 (0) rfl rfl 7 (by decide) (hts _ q190) (fun _ h9 => h9) rfl dX2_know_1 ?_
  refine lv_bipush (v := 12) hx hb dX2_know_4 (by decide) ?_
  obtain ⟨what_87, which_87, whose_87, place_87, deeds_87, hj, hf⟩ := bnd5_some hf
  have J_87 : ∀ (H : Heap) (locs : List Loc) (ls : Array Slot), HC D gcl (gty d) A (tw d ta many slip became left what_87 which_87 whose_87 place_87 deeds_87 day won lost kept) s H locs → lv_has ls 5 [(0, .ref (ta 0)), (1, .int x1), (2, .int x2), (3, .int x3), (4, .int x4)] → W p l e R s m args below meth c H locs cells slots Q (F0 m 87 ls []) := by
    intro H locs ls hC hl
    refine lv_aload_n hx hb dX2_know_87 rfl (lv_at hl 0 rfl) ?_
    refine va_get (ci := 2) (v := .ref (ta 12)) (C := RX2) (T := TX2) (N := 12) hx hb hts in_X2 hown hC.1 hC.2.1 (0) rfl rfl 3 (by decide) (hts _ q182) (fun _ h9 => h9) rfl dX2_know_88 ?_
    refine lv_aload_n hx hb dX2_know_91 rfl (lv_at hl 0 rfl) ?_
    refine va_get (ci := 2) (v := .int deeds_87) (C := RX2) (T := TX2) (N := 12) hx hb hts in_X2 hown hC.1 hC.2.1 (0) rfl rfl 7 (by decide) (hts _ q190) (fun _ h9 => h9) rfl dX2_know_92 ?_
    refine lv_iload_n hx hb dX2_know_95 rfl (lv_at hl 1 rfl) ?_
    obtain ⟨hi_96, hf⟩ := ck_some hf
    refine va_iast hx hb hC.1 hC.2.1 hC.2.2.1 hC.2.2.2 (12) 0 rfl rfl hi_96 dX2_know_96 (fun H locs hP hD hS => ?_)
    have hC : HC D gcl (gty d) A (tw d ta many slip became left (upd what_87 deeds_87.toNatClampNeg x1) which_87 whose_87 place_87 deeds_87 day won lost kept) s H locs := ⟨hC.1, hP, hD, hS⟩
    refine lv_aload_n hx hb dX2_know_97 rfl (lv_at hl 0 rfl) ?_
    refine va_get (ci := 2) (v := .ref (ta 13)) (C := RX2) (T := TX2) (N := 12) hx hb hts in_X2 hown hC.1 hC.2.1 (0) rfl rfl 4 (by decide) (hts _ q184) (fun _ h9 => h9) rfl dX2_know_98 ?_
    refine lv_aload_n hx hb dX2_know_101 rfl (lv_at hl 0 rfl) ?_
    refine va_get (ci := 2) (v := .int deeds_87) (C := RX2) (T := TX2) (N := 12) hx hb hts in_X2 hown hC.1 hC.2.1 (0) rfl rfl 7 (by decide) (hts _ q190) (fun _ h9 => h9) rfl dX2_know_102 ?_
    refine lv_iload_n hx hb dX2_know_105 rfl (lv_at hl 2 rfl) ?_
    obtain ⟨hi_106, hf⟩ := ck_some hf
    refine va_iast hx hb hC.1 hC.2.1 hC.2.2.1 hC.2.2.2 (13) 0 rfl rfl hi_106 dX2_know_106 (fun H locs hP hD hS => ?_)
    have hC : HC D gcl (gty d) A (tw d ta many slip became left (upd what_87 deeds_87.toNatClampNeg x1) (upd which_87 deeds_87.toNatClampNeg x2) whose_87 place_87 deeds_87 day won lost kept) s H locs := ⟨hC.1, hP, hD, hS⟩
    refine lv_aload_n hx hb dX2_know_107 rfl (lv_at hl 0 rfl) ?_
    refine va_get (ci := 2) (v := .ref (ta 14)) (C := RX2) (T := TX2) (N := 12) hx hb hts in_X2 hown hC.1 hC.2.1 (0) rfl rfl 5 (by decide) (hts _ q186) (fun _ h9 => h9) rfl dX2_know_108 ?_
    refine lv_aload_n hx hb dX2_know_111 rfl (lv_at hl 0 rfl) ?_
    refine va_get (ci := 2) (v := .int deeds_87) (C := RX2) (T := TX2) (N := 12) hx hb hts in_X2 hown hC.1 hC.2.1 (0) rfl rfl 7 (by decide) (hts _ q190) (fun _ h9 => h9) rfl dX2_know_112 ?_
    refine lv_iload_n hx hb dX2_know_115 rfl (lv_at hl 3 rfl) ?_
    obtain ⟨hi_116, hf⟩ := ck_some hf
    refine va_iast hx hb hC.1 hC.2.1 hC.2.2.1 hC.2.2.2 (14) 0 rfl rfl hi_116 dX2_know_116 (fun H locs hP hD hS => ?_)
    have hC : HC D gcl (gty d) A (tw d ta many slip became left (upd what_87 deeds_87.toNatClampNeg x1) (upd which_87 deeds_87.toNatClampNeg x2) (upd whose_87 deeds_87.toNatClampNeg x3) place_87 deeds_87 day won lost kept) s H locs := ⟨hC.1, hP, hD, hS⟩
    refine lv_aload_n hx hb dX2_know_117 rfl (lv_at hl 0 rfl) ?_
    refine va_get (ci := 2) (v := .ref (ta 15)) (C := RX2) (T := TX2) (N := 12) hx hb hts in_X2 hown hC.1 hC.2.1 (0) rfl rfl 6 (by decide) (hts _ q188) (fun _ h9 => h9) rfl dX2_know_118 ?_
    refine lv_aload_n hx hb dX2_know_121 rfl (lv_at hl 0 rfl) ?_
    refine va_get (ci := 2) (v := .int deeds_87) (C := RX2) (T := TX2) (N := 12) hx hb hts in_X2 hown hC.1 hC.2.1 (0) rfl rfl 7 (by decide) (hts _ q190) (fun _ h9 => h9) rfl dX2_know_122 ?_
    refine lv_iload hx hb dX2_know_125 (lv_at hl 4 rfl) ?_
    obtain ⟨hi_127, hf⟩ := ck_some hf
    refine va_iast hx hb hC.1 hC.2.1 hC.2.2.1 hC.2.2.2 (15) 0 rfl rfl hi_127 dX2_know_127 (fun H locs hP hD hS => ?_)
    have hC : HC D gcl (gty d) A (tw d ta many slip became left (upd what_87 deeds_87.toNatClampNeg x1) (upd which_87 deeds_87.toNatClampNeg x2) (upd whose_87 deeds_87.toNatClampNeg x3) (upd place_87 deeds_87.toNatClampNeg x4) deeds_87 day won lost kept) s H locs := ⟨hC.1, hP, hD, hS⟩
    refine lv_aload_n hx hb dX2_know_128 rfl (lv_at hl 0 rfl) ?_
    refine lv_dup hx hb dX2_know_129 rfl ?_
    refine va_get (ci := 2) (v := .int deeds_87) (C := RX2) (T := TX2) (N := 12) hx hb hts in_X2 hown hC.1 hC.2.1 (0) rfl rfl 7 (by decide) (hts _ q190) (fun _ h9 => h9) rfl dX2_know_130 ?_
    refine lv_iconst (v := 1) hx hb dX2_know_133 (by decide) ?_
    refine lv_iadd hx hb dX2_know_134 ?_
    refine va_put (ci := 2) (v := .int (deeds_87 + 1)) (ty := .int) (C := RX2) (T := TX2) (N := 12) hx hb hts in_X2 tyX2 tyX2_ok nmX2 hown hC.1 hC.2.1 hC.2.2.1 hC.2.2.2 (0) rfl rfl 7 (by decide) (hts _ q190) (fun _ h9 => h9) rfl (tyX2_ok 7 (by decide)) rfl rfl (Nat.le_of_ble_eq_true rfl) dX2_know_135 (fun H locs hP hD hS => ?_)
    have hC : HC D gcl (gty d) A (tw d ta many slip became left (upd what_87 deeds_87.toNatClampNeg x1) (upd which_87 deeds_87.toNatClampNeg x2) (upd whose_87 deeds_87.toNatClampNeg x3) (upd place_87 deeds_87.toNatClampNeg x4) (deeds_87 + 1) day won lost kept) s H locs := ⟨hC.1, hP, hD, hS⟩
    obtain ⟨e_1, e_2, e_3, e_4, e_5⟩ := so_5 (Option.some.inj hf)
    subst e_1
    subst e_2
    subst e_3
    subst e_4
    subst e_5
    exact K H locs ls _ trivial hC dX2_know_138
  have hf := hj
  refine lv_icmp_ne (tgt := 87) hx hb dX2_know_6 (by decide) (fun c_6 => ?_) (fun c_6 => ?_)
  · have hf := if_f hf c_6
    obtain ⟨e_1, e_2, e_3, e_4, e_5⟩ := so_5 (Option.some.inj hf)
    subst e_1
    subst e_2
    subst e_3
    subst e_4
    subst e_5
    exact J_87 H locs ls hC (lv_sub hl [0, 1, 2, 3, 4] rfl)
  · have hf := if_t hf c_6
    refine lv_aload_n hx hb dX2_know_9 rfl (lv_at hl 0 rfl) ?_
    refine lv_dup hx hb dX2_know_10 rfl ?_
    refine va_get (ci := 2) (v := .int deeds) (C := RX2) (T := TX2) (N := 12) hx hb hts in_X2 hown hC.1 hC.2.1 (0) rfl rfl 7 (by decide) (hts _ q190) (fun _ h9 => h9) rfl dX2_know_11 ?_
    refine lv_iconst (v := 1) hx hb dX2_know_14 (by decide) ?_
    refine lv_isub hx hb dX2_know_15 ?_
    refine va_put (ci := 2) (v := .int (deeds - 1)) (ty := .int) (C := RX2) (T := TX2) (N := 12) hx hb hts in_X2 tyX2 tyX2_ok nmX2 hown hC.1 hC.2.1 hC.2.2.1 hC.2.2.2 (0) rfl rfl 7 (by decide) (hts _ q190) (fun _ h9 => h9) rfl (tyX2_ok 7 (by decide)) rfl rfl (Nat.le_of_ble_eq_true rfl) dX2_know_16 (fun H locs hP hD hS => ?_)
    have hC : HC D gcl (gty d) A (tw d ta many slip became left what which whose place (deeds - 1) day won lost kept) s H locs := ⟨hC.1, hP, hD, hS⟩
    refine lv_aload_n hx hb dX2_know_19 rfl (lv_at hl 0 rfl) ?_
    refine va_get (ci := 2) (v := .ref (ta 12)) (C := RX2) (T := TX2) (N := 12) hx hb hts in_X2 hown hC.1 hC.2.1 (0) rfl rfl 3 (by decide) (hts _ q182) (fun _ h9 => h9) rfl dX2_know_20 ?_
    refine lv_iconst (v := 1) hx hb dX2_know_23 (by decide) ?_
    refine lv_aload_n hx hb dX2_know_24 rfl (lv_at hl 0 rfl) ?_
    refine va_get (ci := 2) (v := .ref (ta 12)) (C := RX2) (T := TX2) (N := 12) hx hb hts in_X2 hown hC.1 hC.2.1 (0) rfl rfl 3 (by decide) (hts _ q182) (fun _ h9 => h9) rfl dX2_know_25 ?_
    refine lv_iconst (v := 0) hx hb dX2_know_28 (by decide) ?_
    refine lv_aload_n hx hb dX2_know_29 rfl (lv_at hl 0 rfl) ?_
    refine va_get (ci := 2) (v := .int (deeds - 1)) (C := RX2) (T := TX2) (N := 12) hx hb hts in_X2 hown hC.1 hC.2.1 (0) rfl rfl 7 (by decide) (hts _ q190) (fun _ h9 => h9) rfl dX2_know_30 ?_
    obtain ⟨hy_33, hf⟩ := cky_some hf
    refine va_copyi (ty := .int) hx hb (by rw [hml]; exact hl.1.symm) hown (hts _ q591) (hts _ q593) (hts _ q592) (hts _ q70) hC.1 hC.2.1 hC.2.2.1 hC.2.2.2 (12) (12) 0 0 rfl rfl rfl rfl rfl hy_33.1 hy_33.2.1 hy_33.2.2.1 hy_33.2.2.2.1 hy_33.2.2.2.2 (fun _ _ => rfl) (Nat.le_trans (Nat.le_of_ble_eq_true rfl) hRf) (Nat.le_trans (by decide) hRl) dX2_know_33 (fun H locs hP hD hS => ?_)
    have hC : HC D gcl (gty d) A (tw d ta many slip became left (va_cpy what what (1 : Int32).toNatClampNeg (0 : Int32).toNatClampNeg (deeds - 1).toNatClampNeg) which whose place (deeds - 1) day won lost kept) s H locs := ⟨hC.1, hP, hD, hS⟩
    refine lv_aload_n hx hb dX2_know_36 rfl (lv_at hl 0 rfl) ?_
    refine va_get (ci := 2) (v := .ref (ta 13)) (C := RX2) (T := TX2) (N := 12) hx hb hts in_X2 hown hC.1 hC.2.1 (0) rfl rfl 4 (by decide) (hts _ q184) (fun _ h9 => h9) rfl dX2_know_37 ?_
    refine lv_iconst (v := 1) hx hb dX2_know_40 (by decide) ?_
    refine lv_aload_n hx hb dX2_know_41 rfl (lv_at hl 0 rfl) ?_
    refine va_get (ci := 2) (v := .ref (ta 13)) (C := RX2) (T := TX2) (N := 12) hx hb hts in_X2 hown hC.1 hC.2.1 (0) rfl rfl 4 (by decide) (hts _ q184) (fun _ h9 => h9) rfl dX2_know_42 ?_
    refine lv_iconst (v := 0) hx hb dX2_know_45 (by decide) ?_
    refine lv_aload_n hx hb dX2_know_46 rfl (lv_at hl 0 rfl) ?_
    refine va_get (ci := 2) (v := .int (deeds - 1)) (C := RX2) (T := TX2) (N := 12) hx hb hts in_X2 hown hC.1 hC.2.1 (0) rfl rfl 7 (by decide) (hts _ q190) (fun _ h9 => h9) rfl dX2_know_47 ?_
    obtain ⟨hy_50, hf⟩ := cky_some hf
    refine va_copyi (ty := .int) hx hb (by rw [hml]; exact hl.1.symm) hown (hts _ q591) (hts _ q593) (hts _ q592) (hts _ q70) hC.1 hC.2.1 hC.2.2.1 hC.2.2.2 (13) (13) 0 0 rfl rfl rfl rfl rfl hy_50.1 hy_50.2.1 hy_50.2.2.1 hy_50.2.2.2.1 hy_50.2.2.2.2 (fun _ _ => rfl) (Nat.le_trans (Nat.le_of_ble_eq_true rfl) hRf) (Nat.le_trans (by decide) hRl) dX2_know_50 (fun H locs hP hD hS => ?_)
    have hC : HC D gcl (gty d) A (tw d ta many slip became left (va_cpy what what (1 : Int32).toNatClampNeg (0 : Int32).toNatClampNeg (deeds - 1).toNatClampNeg) (va_cpy which which (1 : Int32).toNatClampNeg (0 : Int32).toNatClampNeg (deeds - 1).toNatClampNeg) whose place (deeds - 1) day won lost kept) s H locs := ⟨hC.1, hP, hD, hS⟩
    refine lv_aload_n hx hb dX2_know_53 rfl (lv_at hl 0 rfl) ?_
    refine va_get (ci := 2) (v := .ref (ta 14)) (C := RX2) (T := TX2) (N := 12) hx hb hts in_X2 hown hC.1 hC.2.1 (0) rfl rfl 5 (by decide) (hts _ q186) (fun _ h9 => h9) rfl dX2_know_54 ?_
    refine lv_iconst (v := 1) hx hb dX2_know_57 (by decide) ?_
    refine lv_aload_n hx hb dX2_know_58 rfl (lv_at hl 0 rfl) ?_
    refine va_get (ci := 2) (v := .ref (ta 14)) (C := RX2) (T := TX2) (N := 12) hx hb hts in_X2 hown hC.1 hC.2.1 (0) rfl rfl 5 (by decide) (hts _ q186) (fun _ h9 => h9) rfl dX2_know_59 ?_
    refine lv_iconst (v := 0) hx hb dX2_know_62 (by decide) ?_
    refine lv_aload_n hx hb dX2_know_63 rfl (lv_at hl 0 rfl) ?_
    refine va_get (ci := 2) (v := .int (deeds - 1)) (C := RX2) (T := TX2) (N := 12) hx hb hts in_X2 hown hC.1 hC.2.1 (0) rfl rfl 7 (by decide) (hts _ q190) (fun _ h9 => h9) rfl dX2_know_64 ?_
    obtain ⟨hy_67, hf⟩ := cky_some hf
    refine va_copyi (ty := .int) hx hb (by rw [hml]; exact hl.1.symm) hown (hts _ q591) (hts _ q593) (hts _ q592) (hts _ q70) hC.1 hC.2.1 hC.2.2.1 hC.2.2.2 (14) (14) 0 0 rfl rfl rfl rfl rfl hy_67.1 hy_67.2.1 hy_67.2.2.1 hy_67.2.2.2.1 hy_67.2.2.2.2 (fun _ _ => rfl) (Nat.le_trans (Nat.le_of_ble_eq_true rfl) hRf) (Nat.le_trans (by decide) hRl) dX2_know_67 (fun H locs hP hD hS => ?_)
    have hC : HC D gcl (gty d) A (tw d ta many slip became left (va_cpy what what (1 : Int32).toNatClampNeg (0 : Int32).toNatClampNeg (deeds - 1).toNatClampNeg) (va_cpy which which (1 : Int32).toNatClampNeg (0 : Int32).toNatClampNeg (deeds - 1).toNatClampNeg) (va_cpy whose whose (1 : Int32).toNatClampNeg (0 : Int32).toNatClampNeg (deeds - 1).toNatClampNeg) place (deeds - 1) day won lost kept) s H locs := ⟨hC.1, hP, hD, hS⟩
    refine lv_aload_n hx hb dX2_know_70 rfl (lv_at hl 0 rfl) ?_
    refine va_get (ci := 2) (v := .ref (ta 15)) (C := RX2) (T := TX2) (N := 12) hx hb hts in_X2 hown hC.1 hC.2.1 (0) rfl rfl 6 (by decide) (hts _ q188) (fun _ h9 => h9) rfl dX2_know_71 ?_
    refine lv_iconst (v := 1) hx hb dX2_know_74 (by decide) ?_
    refine lv_aload_n hx hb dX2_know_75 rfl (lv_at hl 0 rfl) ?_
    refine va_get (ci := 2) (v := .ref (ta 15)) (C := RX2) (T := TX2) (N := 12) hx hb hts in_X2 hown hC.1 hC.2.1 (0) rfl rfl 6 (by decide) (hts _ q188) (fun _ h9 => h9) rfl dX2_know_76 ?_
    refine lv_iconst (v := 0) hx hb dX2_know_79 (by decide) ?_
    refine lv_aload_n hx hb dX2_know_80 rfl (lv_at hl 0 rfl) ?_
    refine va_get (ci := 2) (v := .int (deeds - 1)) (C := RX2) (T := TX2) (N := 12) hx hb hts in_X2 hown hC.1 hC.2.1 (0) rfl rfl 7 (by decide) (hts _ q190) (fun _ h9 => h9) rfl dX2_know_81 ?_
    obtain ⟨hy_84, hf⟩ := cky_some hf
    refine va_copyi (ty := .int) hx hb (by rw [hml]; exact hl.1.symm) hown (hts _ q591) (hts _ q593) (hts _ q592) (hts _ q70) hC.1 hC.2.1 hC.2.2.1 hC.2.2.2 (15) (15) 0 0 rfl rfl rfl rfl rfl hy_84.1 hy_84.2.1 hy_84.2.2.1 hy_84.2.2.2.1 hy_84.2.2.2.2 (fun _ _ => rfl) (Nat.le_trans (Nat.le_of_ble_eq_true rfl) hRf) (Nat.le_trans (by decide) hRl) dX2_know_84 (fun H locs hP hD hS => ?_)
    have hC : HC D gcl (gty d) A (tw d ta many slip became left (va_cpy what what (1 : Int32).toNatClampNeg (0 : Int32).toNatClampNeg (deeds - 1).toNatClampNeg) (va_cpy which which (1 : Int32).toNatClampNeg (0 : Int32).toNatClampNeg (deeds - 1).toNatClampNeg) (va_cpy whose whose (1 : Int32).toNatClampNeg (0 : Int32).toNatClampNeg (deeds - 1).toNatClampNeg) (va_cpy place place (1 : Int32).toNatClampNeg (0 : Int32).toNatClampNeg (deeds - 1).toNatClampNeg) (deeds - 1) day won lost kept) s H locs := ⟨hC.1, hP, hD, hS⟩
    obtain ⟨e_1, e_2, e_3, e_4, e_5⟩ := so_5 (Option.some.inj hf)
    subst e_1
    subst e_2
    subst e_3
    subst e_4
    subst e_5
    exact J_87 H locs ls hC (lv_sub hl [0, 1, 2, 3, 4] rfl)
set_option maxRecDepth 100000 in
theorem c_x_know {l : Launch} {sz : Nat} {D : va_G} {d : Nat → ClassId} {ta : Nat → Nat} {many : Nat → Int32} {slip : Nat → Nat → Int32} {became : Nat → Int32} {left : Nat → Int32} {what : Nat → Int32} {which : Nat → Int32} {whose : Nat → Int32} {place : Nat → Int32} {deeds : Int32} {day : Int32} {won : Int32} {lost : Int32} {kept : Int32} {x1 : Int32} {x2 : Int32} {x3 : Int32} {x4 : Int32} {what_r : Nat → Int32} {which_r : Nat → Int32} {whose_r : Nat → Int32} {place_r : Nat → Int32} {deeds_r : Int32} (hf : x_know what which whose place deeds x1 x2 x3 x4 = some (what_r, which_r, whose_r, place_r, deeds_r)) : MV l yX2_know (ws_ yX2_know cX2_know 5 none) { frames := 1, cells := 0, slots := 0, locals := 60 } D gcl (gty d) NX (tw d ta many slip became left what which whose place deeds day won lost kept) (tw d ta many slip became left what_r which_r whose_r place_r deeds_r day won lost kept) sz [.ref (ta 0), .int x1, .int x2, .int x3, .int x4] :=
  MV.of (by decide) [.ref (ta 0), .int x1, .int x2, .int x3, .int x4] [(0, .ref (ta 0)), (1, .int x1), (2, .int x2), (3, .int x3), (4, .int x4)] (Nat.le_of_ble_eq_true rfl) rfl (fun p e s m below meth c ls Q hx hb hml hown hts hN hA hC hl K => w_x_know hx hb hml hown hts hN hA (Nat.le_refl _) (Nat.le_refl _) (Nat.le_refl _) (Nat.le_refl _) hf hC hl K)

def x_sleeveOf_L5 (x1 : Int32) (many : Nat → Int32) (slip : Nat → Nat → Int32) : Nat → Int32 → Int32 → Option (Int32)
  | 0, _, _ => none
  | n_5 + 1, x2_5, x3_5 =>
  if 4 ≤ x3_5 then (some x2_5) else
  ck x3_5 4 <| bnd (x_placeOf (slip x3_5.toNatClampNeg) (many x3_5.toNatClampNeg) x1) fun r_17 =>
  if r_17 = (-9) then (x_sleeveOf_L5 x1 many slip n_5 x2_5 (x3_5 + 1) ) else
  x_sleeveOf_L5 x1 many slip n_5 x3_5 (x3_5 + 1) 
theorem x_sleeveOf_L5_s (x1 : Int32) (many : Nat → Int32) (slip : Nat → Nat → Int32) (n_5 : Nat) (x2_5 : Int32) (x3_5 : Int32) : x_sleeveOf_L5 x1 many slip (n_5 + 1) x2_5 x3_5 = (
  if 4 ≤ x3_5 then (some x2_5) else
  ck x3_5 4 <| bnd (x_placeOf (slip x3_5.toNatClampNeg) (many x3_5.toNatClampNeg) x1) fun r_17 =>
  if r_17 = (-9) then (x_sleeveOf_L5 x1 many slip n_5 x2_5 (x3_5 + 1) ) else
  x_sleeveOf_L5 x1 many slip n_5 x3_5 (x3_5 + 1) ) := rfl
def x_sleeveOf (many : Nat → Int32) (slip : Nat → Nat → Int32) (x1 : Int32) : Option (Int32) :=
  bnd (x_sleeveOf_L5 x1 many slip g_fuel (-9) 0 ) (fun x2_37 =>
  some x2_37)
set_option maxHeartbeats 4000000 in
set_option maxRecDepth 100000 in
theorem w_x_sleeveOf {p : Program} {l : Launch} {e : Env} {R : Room} {s : State} {m : MethodId} {args : Array Value} {below : List Frame} {meth : Method} {c : Code} {H : Heap} {locs : List Loc} {cells slots : Nat} {Q : State → Prop} {A : Nat → Prop} {ls : Array Slot} {D : va_G} {d : Nat → ClassId} {ta : Nat → Nat} {many : Nat → Int32} {slip : Nat → Nat → Int32} {became : Nat → Int32} {left : Nat → Int32} {what : Nat → Int32} {which : Nat → Int32} {whose : Nat → Int32} {place : Nat → Int32} {deeds : Int32} {day : Int32} {won : Int32} {lost : Int32} {kept : Int32} {x1 : Int32} {r : Int32} (hx : p.tables.exec = Jvm.exec) (hb : c.code = cX2_sleeveOf) (hml : c.maxLocals = 4) (hown : s.vm.findClass RX2 = some m.cls) (hts : ∀ w ∈ lw_all, w.before args s = true) (hN : NX s) (hA : ∀ q, s.heap.size ≤ q → A q) (hRf : 1 ≤ R.frames) (hRl : 23 ≤ R.locals) (hRc : cells ≤ R.cells) (hRs : slots ≤ R.slots) (hf : x_sleeveOf many slip x1 = some r) (hC : HC D gcl (gty d) A (tw d ta many slip became left what which whose place deeds day won lost kept) s H locs) (hl : lv_has ls 4 [(0, .ref (ta 0)), (1, .int x1)]) (K : ∀ (H : Heap) (locs : List Loc) (ls : Array Slot) (pc : Nat), narrow .int (.int r) = .int r → HC D gcl (gty d) A (tw d ta many slip became left what which whose place deeds day won lost kept) s H locs → decode cX2_sleeveOf pc = .ok (.ireturn, 1) → W p l e R s m args below meth c H locs cells slots Q (F0 m pc ls [.int r])) : W p l e R s m args below meth c H locs cells slots Q (F0 m 0 ls []) := by
  unfold x_sleeveOf at hf
  refine lv_bipush (v := (-9)) hx hb dX2_sleeveOf_0 (by decide) ?_
  refine lv_istore_n (lv' := [(2, .int (-9)), (0, .ref (ta 0)), (1, .int x1)]) hx hb dX2_sleeveOf_2 rfl hl (by decide) rfl (fun ls hl => ?_)
  refine lv_iconst (v := 0) hx hb dX2_sleeveOf_3 (by decide) ?_
  refine lv_istore_n (lv' := [(3, .int 0), (2, .int (-9)), (0, .ref (ta 0)), (1, .int x1)]) hx hb dX2_sleeveOf_4 rfl hl (by decide) rfl (fun ls hl => ?_)
  obtain ⟨x2_37, hL, hf⟩ := bnd_some hf
  have X_5 : ∀ (H : Heap) (locs : List Loc) (ls : Array Slot), HC D gcl (gty d) A (tw d ta many slip became left what which whose place deeds day won lost kept) s H locs → lv_has ls 4 [(2, .int x2_37)] → W p l e R s m args below meth c H locs cells slots Q (F0 m 37 ls []) := by
    intro H locs ls hC hl
    refine lv_iload_n hx hb dX2_sleeveOf_37 rfl (lv_at hl 0 rfl) ?_
    have e_1 := (Option.some.inj hf)
    subst e_1
    exact K H locs ls _ rfl hC dX2_sleeveOf_38
  have L_5 : ∀ (n_5 : Nat) (x2_5 : Int32) (x3_5 : Int32), x_sleeveOf_L5 x1 many slip n_5 x2_5 x3_5 = some x2_37 → ∀ (H : Heap) (locs : List Loc) (ls : Array Slot), HC D gcl (gty d) A (tw d ta many slip became left what which whose place deeds day won lost kept) s H locs → lv_has ls 4 [(0, .ref (ta 0)), (1, .int x1), (2, .int x2_5), (3, .int x3_5)] → W p l e R s m args below meth c H locs cells slots Q (F0 m 5 ls []) := by
    intro n_5
    induction n_5 with
    | zero => intro _ _ hf; cases hf
    | succ n_5 ih =>
      intro x2_5 x3_5 hf H locs ls hC hl
      rw [x_sleeveOf_L5_s] at hf
      refine lv_iload_n hx hb dX2_sleeveOf_5 rfl (lv_at hl 3 rfl) ?_
      refine lv_iconst (v := 4) hx hb dX2_sleeveOf_6 (by decide) ?_
      refine lv_icmp_ge (tgt := 37) hx hb dX2_sleeveOf_7 (by decide) (fun c_7 => ?_) (fun c_7 => ?_)
      · have hf := if_t hf c_7
        have e_1 := (Option.some.inj hf)
        subst e_1
        exact X_5 H locs ls hC (lv_sub hl [2] rfl)
      · have hf := if_f hf c_7
        refine lv_aload_n hx hb dX2_sleeveOf_10 rfl (lv_at hl 0 rfl) ?_
        refine va_get (ci := 2) (v := .ref (ta 1)) (C := RX2) (T := TX2) (N := 12) hx hb hts in_X2 hown hC.1 hC.2.1 (0) rfl rfl 0 (by decide) (hts _ q175) (fun _ h9 => h9) rfl dX2_sleeveOf_11 ?_
        refine lv_iload_n hx hb dX2_sleeveOf_14 rfl (lv_at hl 3 rfl) ?_
        obtain ⟨hi_15, hf⟩ := ck_some hf
        refine va_aldq hx hb hC.1 hC.2.1 1 4 rfl rfl hi_15 dX2_sleeveOf_15 ?_
        refine lv_iload_n hx hb dX2_sleeveOf_16 rfl (lv_at hl 1 rfl) ?_
        obtain ⟨r_17, hcall, hf⟩ := bnd_some hf
        refine hc_i (va_runV (C := RX3) (As := [.int x1]) (rest := []) ⟨hx, hb, hml, hown, hts⟩ (c_x_placeOf_ (vp_lt hi_15) hcall) (cwV 1 hts (lw_V q571 q572 q573 q51 q574) rfl rfl rfl (by decide +kernel) ⟨(Nat.le_trans (Nat.le_of_ble_eq_true rfl) hRf), (Nat.le_trans (Nat.le_of_ble_eq_true rfl) hRl)⟩) (pre_V (q0 := 2 + x3_5.toNatClampNeg) (ci := 3) NX.calling (fun U _ hW => NX.warm hW hN) hC rfl (tw_sl (vp_lt hi_15))) rfl rfl hl.1 rfl (lv_room (Nat.le_of_ble_eq_true rfl)) dX2_sleeveOf_17 ⟨hRc, hRs⟩) hA hC (fun H locs hC => ?_)
        refine lv_bipush (v := (-9)) hx hb dX2_sleeveOf_20 (by decide) ?_
        refine lv_icmp_ne (tgt := 29) hx hb dX2_sleeveOf_22 (by decide) (fun c_22 => ?_) (fun c_22 => ?_)
        · have hf := if_f hf c_22
          refine lv_iload_n hx hb dX2_sleeveOf_29 rfl (lv_at hl 3 rfl) ?_
          refine lv_istore_n (lv' := [(2, .int x3_5), (0, .ref (ta 0)), (1, .int x1), (3, .int x3_5)]) hx hb dX2_sleeveOf_30 rfl hl (by decide) rfl (fun ls hl => ?_)
          refine lv_iinc (v := x3_5 + 1) (lv' := [(3, .int (x3_5 + 1)), (2, .int x3_5), (0, .ref (ta 0)), (1, .int x1)]) hx hb dX2_sleeveOf_31 hl (k := 3) rfl rfl (by decide) rfl (fun ls hl => ?_)
          refine lv_goto (tgt := 5) hx hb dX2_sleeveOf_34 (by decide) ?_
          exact ih _ _ hf H locs ls hC (lv_sub hl [2, 3, 1, 0] rfl)
        · have hf := if_t hf c_22
          refine lv_iload_n hx hb dX2_sleeveOf_25 rfl (lv_at hl 2 rfl) ?_
          refine lv_goto (tgt := 30) hx hb dX2_sleeveOf_26 (by decide) ?_
          refine lv_istore_n (lv' := [(2, .int x2_5), (0, .ref (ta 0)), (1, .int x1), (3, .int x3_5)]) hx hb dX2_sleeveOf_30 rfl hl (by decide) rfl (fun ls hl => ?_)
          refine lv_iinc (v := x3_5 + 1) (lv' := [(3, .int (x3_5 + 1)), (2, .int x2_5), (0, .ref (ta 0)), (1, .int x1)]) hx hb dX2_sleeveOf_31 hl (k := 3) rfl rfl (by decide) rfl (fun ls hl => ?_)
          refine lv_goto (tgt := 5) hx hb dX2_sleeveOf_34 (by decide) ?_
          exact ih _ _ hf H locs ls hC (lv_sub hl [2, 3, 1, 0] rfl)
  exact L_5 _ _ _ hL H locs ls hC (lv_sub hl [2, 3, 1, 0] rfl)
set_option maxRecDepth 100000 in
theorem c_x_sleeveOf {l : Launch} {sz : Nat} {D : va_G} {d : Nat → ClassId} {ta : Nat → Nat} {many : Nat → Int32} {slip : Nat → Nat → Int32} {became : Nat → Int32} {left : Nat → Int32} {what : Nat → Int32} {which : Nat → Int32} {whose : Nat → Int32} {place : Nat → Int32} {deeds : Int32} {day : Int32} {won : Int32} {lost : Int32} {kept : Int32} {x1 : Int32} {r : Int32} (hf : x_sleeveOf many slip x1 = some r) : MI l yX2_sleeveOf (ws_ yX2_sleeveOf cX2_sleeveOf 4 (some .int)) { frames := 1, cells := 0, slots := 0, locals := 23 } D gcl (gty d) NX (tw d ta many slip became left what which whose place deeds day won lost kept) (tw d ta many slip became left what which whose place deeds day won lost kept) sz [.ref (ta 0), .int x1] r :=
  MI.of (by decide) [.ref (ta 0), .int x1] [(0, .ref (ta 0)), (1, .int x1)] (Nat.le_of_ble_eq_true rfl) rfl (fun p e s m below meth c ls Q hx hb hml hown hts hN hA hC hl K => w_x_sleeveOf hx hb hml hown hts hN hA (Nat.le_refl _) (Nat.le_refl _) (Nat.le_refl _) (Nat.le_refl _) hf hC hl K)

def x_goes (many : Nat → Int32) (slip : Nat → Nat → Int32) (what : Nat → Int32) (which : Nat → Int32) (whose : Nat → Int32) (place : Nat → Int32) (deeds : Int32) (x1 : Int32) (x2 : Int32) : Option ((Nat → Int32) × (Nat → Nat → Int32) × (Nat → Int32) × (Nat → Int32) × (Nat → Int32) × (Nat → Int32) × Int32) :=
  bnd (x_sleeveOf many slip x2) fun r_2 =>
  ck r_2 4 <| bnd (x_placeOf (slip r_2.toNatClampNeg) (many r_2.toNatClampNeg) x2) fun r_17 =>
  bnd5 (x_know what which whose place deeds x1 x2 r_2 r_17) fun what_20 which_20 whose_20 place_20 deeds_20 =>
  ck r_2 4 <| ck r_2 4 <| bnd (x_placeOf (slip r_2.toNatClampNeg) (many r_2.toNatClampNeg) x2) fun r_36 =>
  bnd2 (x_unpin (slip r_2.toNatClampNeg) (many r_2.toNatClampNeg) r_36) fun sl_39 mn_39 =>
  some (upd many r_2.toNatClampNeg mn_39, va_up slip r_2.toNatClampNeg sl_39, what_20, which_20, whose_20, place_20, deeds_20)
set_option maxHeartbeats 4000000 in
set_option maxRecDepth 100000 in
theorem w_x_goes {p : Program} {l : Launch} {e : Env} {R : Room} {s : State} {m : MethodId} {args : Array Value} {below : List Frame} {meth : Method} {c : Code} {H : Heap} {locs : List Loc} {cells slots : Nat} {Q : State → Prop} {A : Nat → Prop} {ls : Array Slot} {D : va_G} {d : Nat → ClassId} {ta : Nat → Nat} {many : Nat → Int32} {slip : Nat → Nat → Int32} {became : Nat → Int32} {left : Nat → Int32} {what : Nat → Int32} {which : Nat → Int32} {whose : Nat → Int32} {place : Nat → Int32} {deeds : Int32} {day : Int32} {won : Int32} {lost : Int32} {kept : Int32} {x1 : Int32} {x2 : Int32} {many_r : Nat → Int32} {slip_r : Nat → Nat → Int32} {what_r : Nat → Int32} {which_r : Nat → Int32} {whose_r : Nat → Int32} {place_r : Nat → Int32} {deeds_r : Int32} (hx : p.tables.exec = Jvm.exec) (hb : c.code = cX2_goes) (hml : c.maxLocals = 4) (hown : s.vm.findClass RX2 = some m.cls) (hts : ∀ w ∈ lw_all, w.before args s = true) (hN : NX s) (hA : ∀ q, s.heap.size ≤ q → A q) (hRf : 2 ≤ R.frames) (hRl : 84 ≤ R.locals) (hRc : cells ≤ R.cells) (hRs : slots ≤ R.slots) (hf : x_goes many slip what which whose place deeds x1 x2 = some (many_r, slip_r, what_r, which_r, whose_r, place_r, deeds_r)) (hC : HC D gcl (gty d) A (tw d ta many slip became left what which whose place deeds day won lost kept) s H locs) (hl : lv_has ls 4 [(0, .ref (ta 0)), (1, .int x1), (2, .int x2)]) (K : ∀ (H : Heap) (locs : List Loc) (ls : Array Slot) (pc : Nat), True → HC D gcl (gty d) A (tw d ta many_r slip_r became left what_r which_r whose_r place_r deeds_r day won lost kept) s H locs → decode cX2_goes pc = .ok (.return_, 1) → W p l e R s m args below meth c H locs cells slots Q (F0 m pc ls [])) : W p l e R s m args below meth c H locs cells slots Q (F0 m 0 ls []) := by
  unfold x_goes at hf
  refine lv_aload_n hx hb dX2_goes_0 rfl (lv_at hl 0 rfl) ?_
  refine lv_iload_n hx hb dX2_goes_1 rfl (lv_at hl 2 rfl) ?_
  obtain ⟨r_2, hcall, hf⟩ := bnd_some hf
  refine hc_i (va_runV (C := RX2) (As := [.int x2]) (rest := []) ⟨hx, hb, hml, hown, hts⟩ (c_x_sleeveOf hcall) (cwV 1 hts (lw_V q610 q568 q569 q50 q570) rfl rfl rfl (by decide +kernel) ⟨(Nat.le_trans (Nat.le_of_ble_eq_true rfl) hRf), (Nat.le_trans (Nat.le_of_ble_eq_true rfl) hRl)⟩) (pre_V (q0 := 0) (ci := 2) NX.calling (fun U _ hW => NX.warm hW hN) hC rfl rfl) rfl rfl hl.1 rfl (lv_room (Nat.le_of_ble_eq_true rfl)) dX2_goes_2 ⟨hRc, hRs⟩) hA hC (fun H locs hC => ?_)
  refine lv_istore_n (lv' := [(3, .int r_2), (0, .ref (ta 0)), (1, .int x1), (2, .int x2)]) hx hb dX2_goes_5 rfl hl (by decide) rfl (fun ls hl => ?_)
  refine lv_aload_n hx hb dX2_goes_6 rfl (lv_at hl 1 rfl) ?_
  refine lv_iload_n hx hb dX2_goes_7 rfl (lv_at hl 2 rfl) ?_
  refine lv_iload_n hx hb dX2_goes_8 rfl (lv_at hl 3 rfl) ?_
  refine lv_iload_n hx hb dX2_goes_9 rfl (lv_at hl 0 rfl) ?_
  refine lv_aload_n hx hb dX2_goes_10 rfl (lv_at hl 1 rfl) ?_
  refine va_get (ci := 2) (v := .ref (ta 1)) (C := RX2) (T := TX2) (N := 12) hx hb hts in_X2 hown hC.1 hC.2.1 (0) rfl rfl 0 (by decide) (hts _ q175) (fun _ h9 => h9) rfl dX2_goes_11 ?_
  refine lv_iload_n hx hb dX2_goes_14 rfl (lv_at hl 0 rfl) ?_
  obtain ⟨hi_15, hf⟩ := ck_some hf
  refine va_aldq hx hb hC.1 hC.2.1 1 4 rfl rfl hi_15 dX2_goes_15 ?_
  refine lv_iload_n hx hb dX2_goes_16 rfl (lv_at hl 3 rfl) ?_
  obtain ⟨r_17, hcall, hf⟩ := bnd_some hf
  refine hc_i (va_runV (C := RX3) (As := [.int x2]) (rest := [.int r_2, .int x2, .int x1, .ref (ta 0)]) ⟨hx, hb, hml, hown, hts⟩ (c_x_placeOf_ (vp_lt hi_15) hcall) (cwV 1 hts (lw_V q571 q572 q573 q51 q574) rfl rfl rfl (by decide +kernel) ⟨(Nat.le_trans (Nat.le_of_ble_eq_true rfl) hRf), (Nat.le_trans (Nat.le_of_ble_eq_true rfl) hRl)⟩) (pre_V (q0 := 2 + r_2.toNatClampNeg) (ci := 3) NX.calling (fun U _ hW => NX.warm hW hN) hC rfl (tw_sl (vp_lt hi_15))) rfl rfl hl.1 rfl (lv_room (Nat.le_of_ble_eq_true rfl)) dX2_goes_17 ⟨hRc, hRs⟩) hA hC (fun H locs hC => ?_)
  obtain ⟨what_20, which_20, whose_20, place_20, deeds_20, hcall, hf⟩ := bnd5_some hf
  refine hc_v (va_runV (C := RX2) (As := [.int x1, .int x2, .int r_2, .int r_17]) (rest := []) ⟨hx, hb, hml, hown, hts⟩ (c_x_know hcall) (cwV 4 hts (lw_V q611 q588 q589 q50 q590) rfl rfl rfl (by decide +kernel) ⟨(Nat.le_trans (Nat.le_of_ble_eq_true rfl) hRf), (Nat.le_trans (Nat.le_of_ble_eq_true rfl) hRl)⟩) (pre_V (q0 := 0) (ci := 2) NX.calling (fun U _ hW => NX.warm hW hN) hC rfl rfl) rfl rfl hl.1 rfl (lv_room (Nat.le_of_ble_eq_true rfl)) dX2_goes_20 ⟨hRc, hRs⟩) hA hC (fun H locs hC => ?_)
  have hC : HC D gcl (gty d) A (tw d ta many slip became left what_20 which_20 whose_20 place_20 deeds_20 day won lost kept) s H locs := hC
  refine lv_aload_n hx hb dX2_goes_23 rfl (lv_at hl 1 rfl) ?_
  refine va_get (ci := 2) (v := .ref (ta 1)) (C := RX2) (T := TX2) (N := 12) hx hb hts in_X2 hown hC.1 hC.2.1 (0) rfl rfl 0 (by decide) (hts _ q175) (fun _ h9 => h9) rfl dX2_goes_24 ?_
  refine lv_iload_n hx hb dX2_goes_27 rfl (lv_at hl 0 rfl) ?_
  obtain ⟨hi_28, hf⟩ := ck_some hf
  refine va_aldq hx hb hC.1 hC.2.1 1 4 rfl rfl hi_28 dX2_goes_28 ?_
  refine lv_aload_n hx hb dX2_goes_29 rfl (lv_at hl 1 rfl) ?_
  refine va_get (ci := 2) (v := .ref (ta 1)) (C := RX2) (T := TX2) (N := 12) hx hb hts in_X2 hown hC.1 hC.2.1 (0) rfl rfl 0 (by decide) (hts _ q175) (fun _ h9 => h9) rfl dX2_goes_30 ?_
  refine lv_iload_n hx hb dX2_goes_33 rfl (lv_at hl 0 rfl) ?_
  obtain ⟨hi_34, hf⟩ := ck_some hf
  refine va_aldq hx hb hC.1 hC.2.1 1 4 rfl rfl hi_34 dX2_goes_34 ?_
  refine lv_iload_n hx hb dX2_goes_35 rfl (lv_at hl 3 rfl) ?_
  obtain ⟨r_36, hcall, hf⟩ := bnd_some hf
  refine hc_i (va_runV (C := RX3) (As := [.int x2]) (rest := [.ref (ta (2 + r_2.toNatClampNeg))]) ⟨hx, hb, hml, hown, hts⟩ (c_x_placeOf_ (vp_lt hi_34) hcall) (cwV 1 hts (lw_V q571 q572 q573 q51 q574) rfl rfl rfl (by decide +kernel) ⟨(Nat.le_trans (Nat.le_of_ble_eq_true rfl) hRf), (Nat.le_trans (Nat.le_of_ble_eq_true rfl) hRl)⟩) (pre_V (q0 := 2 + r_2.toNatClampNeg) (ci := 3) NX.calling (fun U _ hW => NX.warm hW hN) hC rfl (tw_sl (vp_lt hi_34))) rfl rfl hl.1 rfl (lv_room (Nat.le_of_ble_eq_true rfl)) dX2_goes_36 ⟨hRc, hRs⟩) hA hC (fun H locs hC => ?_)
  obtain ⟨sl_39, mn_39, hcall, hf⟩ := bnd2_some hf
  refine hc_v (va_runV (C := RX3) (As := [.int r_36]) (rest := []) ⟨hx, hb, hml, hown, hts⟩ (c_x_unpin_ (vp_lt hi_28) hcall) (cwV 1 hts (lw_V q612 q613 q614 q51 q615) rfl rfl rfl (by decide +kernel) ⟨(Nat.le_trans (Nat.le_of_ble_eq_true rfl) hRf), (Nat.le_trans (Nat.le_of_ble_eq_true rfl) hRl)⟩) (pre_V (q0 := 2 + r_2.toNatClampNeg) (ci := 3) NX.calling (fun U _ hW => NX.warm hW hN) hC rfl (tw_sl (vp_lt hi_28))) rfl rfl hl.1 rfl (lv_room (Nat.le_of_ble_eq_true rfl)) dX2_goes_39 ⟨hRc, hRs⟩) hA hC (fun H locs hC => ?_)
  have hC : HC D gcl (gty d) A (tw d ta (upd many r_2.toNatClampNeg mn_39) (va_up slip r_2.toNatClampNeg sl_39) became left what_20 which_20 whose_20 place_20 deeds_20 day won lost kept) s H locs := hC
  obtain ⟨e_1, e_2, e_3, e_4, e_5, e_6, e_7⟩ := so_7 (Option.some.inj hf)
  subst e_1
  subst e_2
  subst e_3
  subst e_4
  subst e_5
  subst e_6
  subst e_7
  exact K H locs ls _ trivial hC dX2_goes_42
set_option maxRecDepth 100000 in
theorem c_x_goes {l : Launch} {sz : Nat} {D : va_G} {d : Nat → ClassId} {ta : Nat → Nat} {many : Nat → Int32} {slip : Nat → Nat → Int32} {became : Nat → Int32} {left : Nat → Int32} {what : Nat → Int32} {which : Nat → Int32} {whose : Nat → Int32} {place : Nat → Int32} {deeds : Int32} {day : Int32} {won : Int32} {lost : Int32} {kept : Int32} {x1 : Int32} {x2 : Int32} {many_r : Nat → Int32} {slip_r : Nat → Nat → Int32} {what_r : Nat → Int32} {which_r : Nat → Int32} {whose_r : Nat → Int32} {place_r : Nat → Int32} {deeds_r : Int32} (hf : x_goes many slip what which whose place deeds x1 x2 = some (many_r, slip_r, what_r, which_r, whose_r, place_r, deeds_r)) : MV l yX2_goes (ws_ yX2_goes cX2_goes 4 none) { frames := 2, cells := 0, slots := 0, locals := 84 } D gcl (gty d) NX (tw d ta many slip became left what which whose place deeds day won lost kept) (tw d ta many_r slip_r became left what_r which_r whose_r place_r deeds_r day won lost kept) sz [.ref (ta 0), .int x1, .int x2] :=
  MV.of (by decide) [.ref (ta 0), .int x1, .int x2] [(0, .ref (ta 0)), (1, .int x1), (2, .int x2)] (Nat.le_of_ble_eq_true rfl) rfl (fun p e s m below meth c ls Q hx hb hml hown hts hN hA hC hl K => w_x_goes hx hb hml hown hts hN hA (Nat.le_refl _) (Nat.le_refl _) (Nat.le_refl _) (Nat.le_refl _) hf hC hl K)
