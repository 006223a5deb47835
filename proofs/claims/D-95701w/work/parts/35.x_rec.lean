set_option maxRecDepth 100000
def x_common_step (fc : Int64 → Int64 → Option Int64) (x0 : Int64) (x2 : Int64) : Option (Int64) :=
  if (lg_cmp x2 0) = 0 then (some x0) else
  ckd x2 <| bnd (fc x2 (x0 - x0 / x2 * x2)) fun r_14 =>
  some r_14
set_option maxHeartbeats 4000000 in
set_option maxRecDepth 100000 in
theorem w_x_common_step {p : Program} {l : Launch} {e : Env} {R : Room} {s : State} {m : MethodId} {args : Array Value} {below : List Frame} {meth : Method} {c : Code} {H : Heap} {locs : List Loc} {cells slots : Nat} {Q : State → Prop} {A : Nat → Prop} {ls : Array Slot} {D : va_G} {cl : List vw_C} {tys : List (ClassId × FieldType)} {ws : va_W} {x0 : Int64} {x2 : Int64} {r : Int64} {fc : Int64 → Int64 → Option Int64} {nn : Nat} (hc : ∀ (sz : Nat) (x0 x2 r : Int64), fc x0 x2 = some r → ML l yX0_common (ws_ yX0_common cX0_common 4 (some .long)) { frames := nn, cells := 0, slots := 0, locals := 23 * nn } D cl tys (fun _ => True) ws ws sz [.long x0, .long x2] r) (hx : p.tables.exec = Jvm.exec) (hb : c.code = cX0_common) (hml : c.maxLocals = 4) (hown : s.vm.findClass RX0 = some m.cls) (hts : ∀ w ∈ lw_all, w.before args s = true) (hA : ∀ q, s.heap.size ≤ q → A q) (hRf : nn + 1 ≤ R.frames) (hRl : 23 * nn + 23 ≤ R.locals) (hRc : cells ≤ R.cells) (hRs : slots ≤ R.slots) (hf : x_common_step fc x0 x2 = some r) (hC : HC D cl tys A ws s H locs) (hl : lv_has ls 4 [(0, .long x0), (2, .long x2)]) (K : ∀ (H : Heap) (locs : List Loc) (ls : Array Slot) (pc : Nat), True → HC D cl tys A ws s H locs → decode cX0_common pc = .ok (.lreturn, 1) → W p l e R s m args below meth c H locs cells slots Q (F0 m pc ls [.long r])) : W p l e R s m args below meth c H locs cells slots Q (F0 m 0 ls []) := by
  unfold x_common_step at hf
  refine lv_lload_n hx hb dX0_common_0 rfl (lv_at hl 1 rfl) ?_
  refine lv_lconst (v := 0) hx hb dX0_common_1 (by decide) ?_
  refine W.lcmp hx hb dX0_common_2 ?_
  refine lv_if_ne (tgt := 10) hx hb dX0_common_3 (by decide) (fun c_3 => ?_) (fun c_3 => ?_)
  · have hf := if_f hf c_3
    refine lv_lload_n hx hb dX0_common_10 rfl (lv_at hl 1 rfl) ?_
    refine lv_lload_n hx hb dX0_common_11 rfl (lv_at hl 0 rfl) ?_
    refine lv_lload_n hx hb dX0_common_12 rfl (lv_at hl 1 rfl) ?_
    obtain ⟨hd_13, hf⟩ := ckd_some hf
    refine lv_lrem hx hb dX0_common_13 hd_13 ?_
    obtain ⟨r_14, hcall, hf⟩ := bnd_some hf
    refine hc_l (va_runS (As := [.long x2, .long (x0 - x0 / x2 * x2)]) (rest := []) ⟨hx, hb, hml, hown, hts⟩ (hc _ _ _ _ hcall) (va_cwS 2 hts (lw_S q704 q705 q48 q706) rfl rfl rfl (by decide +kernel) ⟨(Nat.le_trans (show nn + 1 ≤ nn + 1 by omega) hRf), (Nat.le_trans (show 8 + (4 + 11) + (23 * nn) ≤ 23 * nn + 23 by omega) hRl)⟩) (pre_S (fun _ _ _ _ h => h) (fun _ _ _ => trivial) hC) rfl rfl hl.1 rfl (lv_room (Nat.le_of_ble_eq_true rfl)) dX0_common_14 ⟨hRc, hRs⟩) hA hC (fun H locs hC => ?_)
    have e_1 := (Option.some.inj hf)
    subst e_1
    exact K H locs ls _ trivial hC dX0_common_17
  · have hf := if_t hf c_3
    refine lv_lload_n hx hb dX0_common_6 rfl (lv_at hl 0 rfl) ?_
    refine lv_goto (tgt := 17) hx hb dX0_common_7 (by decide) ?_
    have e_1 := (Option.some.inj hf)
    subst e_1
    exact K H locs ls _ trivial hC dX0_common_17
set_option maxRecDepth 100000 in
theorem c_x_common_step {l : Launch} {sz : Nat} {D : va_G} {cl : List vw_C} {tys : List (ClassId × FieldType)} {ws : va_W} {x0 : Int64} {x2 : Int64} {r : Int64} {fc : Int64 → Int64 → Option Int64} {nn : Nat} (hc : ∀ (sz : Nat) (x0 x2 r : Int64), fc x0 x2 = some r → ML l yX0_common (ws_ yX0_common cX0_common 4 (some .long)) { frames := nn, cells := 0, slots := 0, locals := 23 * nn } D cl tys (fun _ => True) ws ws sz [.long x0, .long x2] r) (hf : x_common_step fc x0 x2 = some r) : ML l yX0_common (ws_ yX0_common cX0_common 4 (some .long)) { frames := nn + 1, cells := 0, slots := 0, locals := 23 * nn + 23 } D cl tys (fun _ => True) ws ws sz [.long x0, .long x2] r :=
  ML.of (by decide) [.long x0, .long x2] [(0, .long x0), (2, .long x2)] (Nat.le_of_ble_eq_true rfl) rfl (fun p e s m below meth c ls Q hx hb hml hown hts hN hA hC hl K => w_x_common_step hc hx hb hml hown hts hA (Nat.le_refl _) (Nat.le_refl _) (Nat.le_refl _) (Nat.le_refl _) hf hC hl K)

def x_common : Nat → Int64 → Int64 → Option Int64
  | 0, _, _ => none
  | n + 1, a, b => x_common_step (x_common n) a b
theorem c_x_common {l : Launch} {D : va_G} {cl : List vw_C} {tys : List (ClassId × FieldType)} {ws : va_W} : ∀ (n sz : Nat) (x0 x2 r : Int64), x_common n x0 x2 = some r → ML l yX0_common (ws_ yX0_common cX0_common 4 (some .long)) { frames := n, cells := 0, slots := 0, locals := 23 * n } D cl tys (fun _ => True) ws ws sz [.long x0, .long x2] r := by
  intro n
  induction n with
  | zero => intro sz x0 x2 r hf; cases hf
  | succ n ih => intro sz x0 x2 r hf; exact c_x_common_step (fun sz x0 x2 r h => ih sz x0 x2 r h) hf
def x_common64 (a b : Int64) : Option Int64 := x_common 64 a b
def x_taken (fm : Int32 → Int32 → Int32 → Int32 → Option Int64) (sortWorth : Nat → Int32) (sortDays : Nat → Int32) (x1 : Int32) (x2 : Int32) (x3 : Int32) (x4 : Int32) (x5 : Int32) : Option (Int64) :=
  ck x1 3 <| ltv (if (sortDays x1.toNatClampNeg) = 1 then (1) else
  0) (fun (t_29 : Int32) =>
  ltv (if (sortDays x1.toNatClampNeg) = 2 then (1) else
  0) (fun (t_43 : Int32) =>
  ltv (if (sortDays x1.toNatClampNeg) = 3 then (1) else
  0) (fun (t_55 : Int32) =>
  bnd (fm (x2 - 1) (((x3 - 1) + x4) + t_29) (x5 + t_43) t_55) fun r_55 =>
  ck x1 3 <| bnd (x_power (x2 - 1)) fun r_70 =>
  some ((((sortWorth x1.toNatClampNeg).toInt64) * r_70) + r_55))))
set_option maxHeartbeats 4000000 in
set_option maxRecDepth 100000 in
theorem w_x_taken {p : Program} {l : Launch} {e : Env} {R : Room} {s : State} {m : MethodId} {args : Array Value} {below : List Frame} {meth : Method} {c : Code} {H : Heap} {locs : List Loc} {cells slots : Nat} {Q : State → Prop} {A : Nat → Prop} {ls : Array Slot} {D : va_G} {d : Nat → ClassId} {ad : Nat → Nat} {ba : Nat → Nat} {ta : Nat → Nat} {imgs : va_W} {room : Nat → Int32} {work : Nat → Int32} {price : Nat → Int32} {whom : Nat → Int32} {bday : Nat → Int32} {units : Nat → Int32} {worth : Nat → Int32} {due : Nat → Int32} {under : Nat → Int32} {people : Int32} {askings : Int32} {hangs : Int32} {items : Int32} {many : Nat → Int32} {slip : Nat → Nat → Int32} {became : Nat → Int32} {left : Nat → Int32} {what : Nat → Int32} {which : Nat → Int32} {whose : Nat → Int32} {place : Nat → Int32} {deeds : Int32} {day : Int32} {won : Int32} {lost : Int32} {kept : Int32} {text : Nat → Int32} {typed : Int32} {rest : Nat → Int32} {bestSet : Int32} {tenths : Nat → Int32} {sortWorth : Nat → Int32} {sortDays : Nat → Int32} {row : Nat → Int32} {trace : Int64} {x1 : Int32} {x2 : Int32} {x3 : Int32} {x4 : Int32} {x5 : Int32} {r : Int64} {fm : Int32 → Int32 → Int32 → Int32 → Option Int64} {dd : Nat} (hm : ∀ (sz : Nat) (x1 x2 x3 x4 : Int32) (r : Int64), fm x1 x2 x3 x4 = some r → ML l yX0_mean (ws_ yX0_mean cX0_mean 10 (some .long)) { frames := 2 * dd + 2, cells := 0, slots := 0, locals := 100 + 57 * dd } D gcl (gty d) NX (xw d ad ba ta imgs room work price whom bday units worth due under people askings hangs items many slip became left what which whose place deeds day won lost kept text typed rest bestSet tenths sortWorth sortDays row trace) (xw d ad ba ta imgs room work price whom bday units worth due under people askings hangs items many slip became left what which whose place deeds day won lost kept text typed rest bestSet tenths sortWorth sortDays row trace) sz [.ref (ad 0), .int x1, .int x2, .int x3, .int x4] r) (hx : p.tables.exec = Jvm.exec) (hb : c.code = cX0_taken) (hml : c.maxLocals = 9) (hown : s.vm.findClass RX0 = some m.cls) (hts : ∀ w ∈ lw_all, w.before args s = true) (hN : NX s) (hA : ∀ q, s.heap.size ≤ q → A q) (hRf : 2 * dd + 3 ≤ R.frames) (hRl : 100 + 57 * dd + 29 ≤ R.locals) (hRc : cells ≤ R.cells) (hRs : slots ≤ R.slots) (hf : x_taken fm sortWorth sortDays x1 x2 x3 x4 x5 = some r) (hC : HC D gcl (gty d) A (xw d ad ba ta imgs room work price whom bday units worth due under people askings hangs items many slip became left what which whose place deeds day won lost kept text typed rest bestSet tenths sortWorth sortDays row trace) s H locs) (hl : lv_has ls 9 [(0, .ref (ad 0)), (1, .int x1), (2, .int x2), (3, .int x3), (4, .int x4), (5, .int x5)]) (K : ∀ (H : Heap) (locs : List Loc) (ls : Array Slot) (pc : Nat), True → HC D gcl (gty d) A (xw d ad ba ta imgs room work price whom bday units worth due under people askings hangs items many slip became left what which whose place deeds day won lost kept text typed rest bestSet tenths sortWorth sortDays row trace) s H locs → decode cX0_taken pc = .ok (.lreturn, 1) → W p l e R s m args below meth c H locs cells slots Q (F0 m pc ls [.long r])) : W p l e R s m args below meth c H locs cells slots Q (F0 m 0 ls []) := by
  unfold x_taken at hf
  refine lv_aload_n hx hb dX0_taken_0 rfl (lv_at hl 0 rfl) ?_
  refine va_get (ci := 0) (v := .ref (ad 5)) (C := RX0) (T := TX0) (N := 13) hx hb hts in_X0 hown hC.1 hC.2.1 (26) rfl rfl 9 (by decide) (hts _ q317) (fun _ h9 => h9) rfl dX0_taken_1 ?_
  refine lv_iload_n hx hb dX0_taken_4 rfl (lv_at hl 1 rfl) ?_
  obtain ⟨hi_5, hf⟩ := ck_some hf
  refine va_iald hx hb hC.1 hC.2.1 (31) 0 rfl rfl hi_5 dX0_taken_5 ?_
  refine lv_istore (lv' := [(6, .int (sortDays x1.toNatClampNeg)), (0, .ref (ad 0)), (1, .int x1), (2, .int x2), (3, .int x3), (4, .int x4), (5, .int x5)]) hx hb dX0_taken_6 hl (by decide) rfl (fun ls hl => ?_)
  refine lv_aload_n hx hb dX0_taken_8 rfl (lv_at hl 1 rfl) ?_
  refine lv_iload_n hx hb dX0_taken_9 rfl (lv_at hl 3 rfl) ?_
  refine lv_iconst (v := 1) hx hb dX0_taken_10 (by decide) ?_
  refine lv_isub hx hb dX0_taken_11 ?_
  refine lv_iload_n hx hb dX0_taken_12 rfl (lv_at hl 4 rfl) ?_
  refine lv_iconst (v := 1) hx hb dX0_taken_13 (by decide) ?_
  refine lv_isub hx hb dX0_taken_14 ?_
  refine lv_iload hx hb dX0_taken_15 (lv_at hl 5 rfl) ?_
  refine lv_iadd hx hb dX0_taken_17 ?_
  refine lv_iload hx hb dX0_taken_18 (lv_at hl 0 rfl) ?_
  refine lv_iconst (v := 1) hx hb dX0_taken_20 (by decide) ?_
  obtain ⟨t_29, hj, hf⟩ := ltv_some hf
  refine wj (g1 := F0 m 29 ls [.int t_29, .int ((x3 - 1) + x4), .int (x2 - 1), .ref (ad 0)]) ?_ (fun J_29 => ?_)
  · refine lv_iadd hx hb dX0_taken_29 ?_
    refine lv_iload hx hb dX0_taken_30 (lv_at hl 6 rfl) ?_
    refine lv_iload hx hb dX0_taken_32 (lv_at hl 0 rfl) ?_
    refine lv_iconst (v := 2) hx hb dX0_taken_34 (by decide) ?_
    obtain ⟨t_43, hj, hf⟩ := ltv_some hf
    refine wj (g1 := F0 m 43 ls [.int t_43, .int x5, .int (((x3 - 1) + x4) + t_29), .int (x2 - 1), .ref (ad 0)]) ?_ (fun J_43 => ?_)
    · refine lv_iadd hx hb dX0_taken_43 ?_
      refine lv_iload hx hb dX0_taken_44 (lv_at hl 0 rfl) ?_
      refine lv_iconst (v := 3) hx hb dX0_taken_46 (by decide) ?_
      obtain ⟨t_55, hj, hf⟩ := ltv_some hf
      refine wj (g1 := F0 m 55 ls [.int t_55, .int (x5 + t_43), .int (((x3 - 1) + x4) + t_29), .int (x2 - 1), .ref (ad 0)]) ?_ (fun J_55 => ?_)
      · obtain ⟨r_55, hcall, hf⟩ := bnd_some hf
        refine hc_l (va_runV (C := RX0) (As := [.int (x2 - 1), .int (((x3 - 1) + x4) + t_29), .int (x5 + t_43), .int t_55]) (rest := []) ⟨hx, hb, hml, hown, hts⟩ (hm _ _ _ _ _ _ hcall) (cwV 4 hts (lw_V q689 q691 qs19 q48 q692) rfl rfl rfl (by decide +kernel) ⟨(Nat.le_trans (show 2 * dd + 2 + 1 ≤ 2 * dd + 3 by omega) hRf), (Nat.le_trans (show 8 + (10 + 11) + (100 + 57 * dd) ≤ 100 + 57 * dd + 29 by omega) hRl)⟩) (pre_V (q0 := 26) (ci := 0) NX.calling (fun U _ hW => NX.warm hW hN) hC rfl rfl) rfl rfl hl.1 rfl (lv_room (Nat.le_of_ble_eq_true rfl)) dX0_taken_55 ⟨hRc, hRs⟩) hA hC (fun H locs hC => ?_)
        refine lv_lstore (lv' := [(7, .long r_55), (6, .int (sortDays x1.toNatClampNeg)), (0, .ref (ad 0)), (1, .int x1), (2, .int x2), (3, .int x3), (4, .int x4), (5, .int x5)]) hx hb dX0_taken_58 hl (by decide) rfl (fun ls hl => ?_)
        refine lv_aload_n hx hb dX0_taken_60 rfl (lv_at hl 2 rfl) ?_
        refine va_get (ci := 0) (v := .ref (ad 4)) (C := RX0) (T := TX0) (N := 13) hx hb hts in_X0 hown hC.1 hC.2.1 (26) rfl rfl 8 (by decide) (hts _ q316) (fun _ h9 => h9) rfl dX0_taken_61 ?_
        refine lv_iload_n hx hb dX0_taken_64 rfl (lv_at hl 3 rfl) ?_
        obtain ⟨hi_65, hf⟩ := ck_some hf
        refine va_iald hx hb hC.1 hC.2.1 (30) 0 rfl rfl hi_65 dX0_taken_65 ?_
        refine lv_i2l (v := (sortWorth x1.toNatClampNeg).toInt64) hx hb dX0_taken_66 rfl ?_
        refine lv_iload_n hx hb dX0_taken_67 rfl (lv_at hl 4 rfl) ?_
        refine lv_iconst (v := 1) hx hb dX0_taken_68 (by decide) ?_
        refine lv_isub hx hb dX0_taken_69 ?_
        obtain ⟨r_70, hcall, hf⟩ := bnd_some hf
        refine hc_l (va_runS (As := [.int (x2 - 1)]) (rest := [.long ((sortWorth x1.toNatClampNeg).toInt64)]) ⟨hx, hb, hml, hown, hts⟩ (c_x_power hcall) (va_cwS 1 hts (lw_S q697 q698 q48 q699) rfl rfl rfl (by decide +kernel) ⟨(Nat.le_trans (show 0 + 1 ≤ 2 * dd + 3 by omega) hRf), (Nat.le_trans (show 8 + (4 + 11) + (0) ≤ 100 + 57 * dd + 29 by omega) hRl)⟩) (pre_S (fun _ _ _ _ h => h) (fun _ _ _ => trivial) hC) rfl rfl hl.1 rfl (lv_room (Nat.le_of_ble_eq_true rfl)) dX0_taken_70 ⟨hRc, hRs⟩) hA hC (fun H locs hC => ?_)
        refine lv_lmul hx hb dX0_taken_73 ?_
        refine lv_lload hx hb dX0_taken_74 (lv_at hl 0 rfl) ?_
        refine lv_ladd hx hb dX0_taken_76 ?_
        have e_1 := (Option.some.inj hf)
        subst e_1
        exact K H locs ls _ trivial hC dX0_taken_77
      · have hf := hj
        refine lv_icmp_ne (tgt := 54) hx hb dX0_taken_47 (by decide) (fun c_47 => ?_) (fun c_47 => ?_)
        · have hf := if_f hf c_47
          refine lv_iconst (v := 0) hx hb dX0_taken_54 (by decide) ?_
          have e_1 := hf
          subst e_1
          exact J_55
        · have hf := if_t hf c_47
          refine lv_iconst (v := 1) hx hb dX0_taken_50 (by decide) ?_
          refine lv_goto (tgt := 55) hx hb dX0_taken_51 (by decide) ?_
          have e_1 := hf
          subst e_1
          exact J_55
    · have hf := hj
      refine lv_icmp_ne (tgt := 42) hx hb dX0_taken_35 (by decide) (fun c_35 => ?_) (fun c_35 => ?_)
      · have hf := if_f hf c_35
        refine lv_iconst (v := 0) hx hb dX0_taken_42 (by decide) ?_
        have e_1 := hf
        subst e_1
        exact J_43
      · have hf := if_t hf c_35
        refine lv_iconst (v := 1) hx hb dX0_taken_38 (by decide) ?_
        refine lv_goto (tgt := 43) hx hb dX0_taken_39 (by decide) ?_
        have e_1 := hf
        subst e_1
        exact J_43
  · have hf := hj
    refine lv_icmp_ne (tgt := 28) hx hb dX0_taken_21 (by decide) (fun c_21 => ?_) (fun c_21 => ?_)
    · have hf := if_f hf c_21
      refine lv_iconst (v := 0) hx hb dX0_taken_28 (by decide) ?_
      have e_1 := hf
      subst e_1
      exact J_29
    · have hf := if_t hf c_21
      refine lv_iconst (v := 1) hx hb dX0_taken_24 (by decide) ?_
      refine lv_goto (tgt := 29) hx hb dX0_taken_25 (by decide) ?_
      have e_1 := hf
      subst e_1
      exact J_29
set_option maxRecDepth 100000 in
theorem c_x_taken {l : Launch} {sz : Nat} {D : va_G} {d : Nat → ClassId} {ad : Nat → Nat} {ba : Nat → Nat} {ta : Nat → Nat} {imgs : va_W} {room : Nat → Int32} {work : Nat → Int32} {price : Nat → Int32} {whom : Nat → Int32} {bday : Nat → Int32} {units : Nat → Int32} {worth : Nat → Int32} {due : Nat → Int32} {under : Nat → Int32} {people : Int32} {askings : Int32} {hangs : Int32} {items : Int32} {many : Nat → Int32} {slip : Nat → Nat → Int32} {became : Nat → Int32} {left : Nat → Int32} {what : Nat → Int32} {which : Nat → Int32} {whose : Nat → Int32} {place : Nat → Int32} {deeds : Int32} {day : Int32} {won : Int32} {lost : Int32} {kept : Int32} {text : Nat → Int32} {typed : Int32} {rest : Nat → Int32} {bestSet : Int32} {tenths : Nat → Int32} {sortWorth : Nat → Int32} {sortDays : Nat → Int32} {row : Nat → Int32} {trace : Int64} {x1 : Int32} {x2 : Int32} {x3 : Int32} {x4 : Int32} {x5 : Int32} {r : Int64} {fm : Int32 → Int32 → Int32 → Int32 → Option Int64} {dd : Nat} (hm : ∀ (sz : Nat) (x1 x2 x3 x4 : Int32) (r : Int64), fm x1 x2 x3 x4 = some r → ML l yX0_mean (ws_ yX0_mean cX0_mean 10 (some .long)) { frames := 2 * dd + 2, cells := 0, slots := 0, locals := 100 + 57 * dd } D gcl (gty d) NX (xw d ad ba ta imgs room work price whom bday units worth due under people askings hangs items many slip became left what which whose place deeds day won lost kept text typed rest bestSet tenths sortWorth sortDays row trace) (xw d ad ba ta imgs room work price whom bday units worth due under people askings hangs items many slip became left what which whose place deeds day won lost kept text typed rest bestSet tenths sortWorth sortDays row trace) sz [.ref (ad 0), .int x1, .int x2, .int x3, .int x4] r) (hf : x_taken fm sortWorth sortDays x1 x2 x3 x4 x5 = some r) : ML l yX0_taken (ws_ yX0_taken cX0_taken 9 (some .long)) { frames := 2 * dd + 3, cells := 0, slots := 0, locals := 100 + 57 * dd + 29 } D gcl (gty d) NX (xw d ad ba ta imgs room work price whom bday units worth due under people askings hangs items many slip became left what which whose place deeds day won lost kept text typed rest bestSet tenths sortWorth sortDays row trace) (xw d ad ba ta imgs room work price whom bday units worth due under people askings hangs items many slip became left what which whose place deeds day won lost kept text typed rest bestSet tenths sortWorth sortDays row trace) sz [.ref (ad 0), .int x1, .int x2, .int x3, .int x4, .int x5] r :=
  ML.of (by decide) [.ref (ad 0), .int x1, .int x2, .int x3, .int x4, .int x5] [(0, .ref (ad 0)), (1, .int x1), (2, .int x2), (3, .int x3), (4, .int x4), (5, .int x5)] (Nat.le_of_ble_eq_true rfl) rfl (fun p e s m below meth c ls Q hx hb hml hown hts hN hA hC hl K => w_x_taken hm hx hb hml hown hts hN hA (Nat.le_refl _) (Nat.le_refl _) (Nat.le_refl _) (Nat.le_refl _) hf hC hl K)

def x_mean_step_L37 (x1 : Int32) (x2 : Int32) (x3 : Int32) (x4 : Int32) (r_16 : Int64) (tenths : Nat → Int32) (ft : Int32 → Int32 → Int32 → Int32 → Int32 → Option Int64) : Nat → Int64 → Int32 → Option (Int64)
  | 0, _, _ => none
  | n_37 + 1, x7_37, x9_37 =>
  if 3 ≤ x9_37 then (some x7_37) else
  ck x9_37 3 <| bnd (if x2 = 0 then (some (0)) else
  bnd (ft x9_37 x1 x2 x3 x4) fun r_71 =>
  some (r_71)) (fun (t_74 : Int64) =>
  x_mean_step_L37 x1 x2 x3 x4 r_16 tenths ft n_37 (x7_37 + (((tenths x9_37.toNatClampNeg).toInt64) * (if t_74 < r_16 then r_16 else t_74))) (x9_37 + 1) )
theorem x_mean_step_L37_s (x1 : Int32) (x2 : Int32) (x3 : Int32) (x4 : Int32) (r_16 : Int64) (tenths : Nat → Int32) (ft : Int32 → Int32 → Int32 → Int32 → Int32 → Option Int64) (n_37 : Nat) (x7_37 : Int64) (x9_37 : Int32) : x_mean_step_L37 x1 x2 x3 x4 r_16 tenths ft (n_37 + 1) x7_37 x9_37 = (
  if 3 ≤ x9_37 then (some x7_37) else
  ck x9_37 3 <| bnd (if x2 = 0 then (some (0)) else
  bnd (ft x9_37 x1 x2 x3 x4) fun r_71 =>
  some (r_71)) (fun (t_74 : Int64) =>
  x_mean_step_L37 x1 x2 x3 x4 r_16 tenths ft n_37 (x7_37 + (((tenths x9_37.toNatClampNeg).toInt64) * (if t_74 < r_16 then r_16 else t_74))) (x9_37 + 1) )) := rfl
def x_mean_step (fm : Int32 → Int32 → Int32 → Int32 → Option Int64) (ft : Int32 → Int32 → Int32 → Int32 → Int32 → Option Int64) (tenths : Nat → Int32) (x1 : Int32) (x2 : Int32) (x3 : Int32) (x4 : Int32) : Option (Int64) :=
  if x1 = 0 then (some 0) else
  bnd (fm (x1 - 1) (x2 + x3) x4 0) fun r_16 =>
  bnd (x_allTenths tenths) fun r_24 =>
  bnd (x_mean_step_L37 x1 x2 x3 x4 r_16 tenths ft g_fuel (((10 - r_24).toInt64) * r_16) 0 ) (fun x7_87 =>
  some x7_87)
set_option maxHeartbeats 4000000 in
set_option maxRecDepth 100000 in
theorem w_x_mean_step {p : Program} {l : Launch} {e : Env} {R : Room} {s : State} {m : MethodId} {args : Array Value} {below : List Frame} {meth : Method} {c : Code} {H : Heap} {locs : List Loc} {cells slots : Nat} {Q : State → Prop} {A : Nat → Prop} {ls : Array Slot} {D : va_G} {d : Nat → ClassId} {ad : Nat → Nat} {ba : Nat → Nat} {ta : Nat → Nat} {imgs : va_W} {room : Nat → Int32} {work : Nat → Int32} {price : Nat → Int32} {whom : Nat → Int32} {bday : Nat → Int32} {units : Nat → Int32} {worth : Nat → Int32} {due : Nat → Int32} {under : Nat → Int32} {people : Int32} {askings : Int32} {hangs : Int32} {items : Int32} {many : Nat → Int32} {slip : Nat → Nat → Int32} {became : Nat → Int32} {left : Nat → Int32} {what : Nat → Int32} {which : Nat → Int32} {whose : Nat → Int32} {place : Nat → Int32} {deeds : Int32} {day : Int32} {won : Int32} {lost : Int32} {kept : Int32} {text : Nat → Int32} {typed : Int32} {rest : Nat → Int32} {bestSet : Int32} {tenths : Nat → Int32} {sortWorth : Nat → Int32} {sortDays : Nat → Int32} {row : Nat → Int32} {trace : Int64} {x1 : Int32} {x2 : Int32} {x3 : Int32} {x4 : Int32} {r : Int64} {fm : Int32 → Int32 → Int32 → Int32 → Option Int64} {ft : Int32 → Int32 → Int32 → Int32 → Int32 → Option Int64} {dd : Nat} (hm : ∀ (sz : Nat) (x1 x2 x3 x4 : Int32) (r : Int64), fm x1 x2 x3 x4 = some r → ML l yX0_mean (ws_ yX0_mean cX0_mean 10 (some .long)) { frames := 2 * dd + 2, cells := 0, slots := 0, locals := 100 + 57 * dd } D gcl (gty d) NX (xw d ad ba ta imgs room work price whom bday units worth due under people askings hangs items many slip became left what which whose place deeds day won lost kept text typed rest bestSet tenths sortWorth sortDays row trace) (xw d ad ba ta imgs room work price whom bday units worth due under people askings hangs items many slip became left what which whose place deeds day won lost kept text typed rest bestSet tenths sortWorth sortDays row trace) sz [.ref (ad 0), .int x1, .int x2, .int x3, .int x4] r) (ht : ∀ (sz : Nat) (x1 x2 x3 x4 x5 : Int32) (r : Int64), ft x1 x2 x3 x4 x5 = some r → ML l yX0_taken (ws_ yX0_taken cX0_taken 9 (some .long)) { frames := 2 * dd + 3, cells := 0, slots := 0, locals := 100 + 57 * dd + 29 } D gcl (gty d) NX (xw d ad ba ta imgs room work price whom bday units worth due under people askings hangs items many slip became left what which whose place deeds day won lost kept text typed rest bestSet tenths sortWorth sortDays row trace) (xw d ad ba ta imgs room work price whom bday units worth due under people askings hangs items many slip became left what which whose place deeds day won lost kept text typed rest bestSet tenths sortWorth sortDays row trace) sz [.ref (ad 0), .int x1, .int x2, .int x3, .int x4, .int x5] r) (hx : p.tables.exec = Jvm.exec) (hb : c.code = cX0_mean) (hml : c.maxLocals = 10) (hown : s.vm.findClass RX0 = some m.cls) (hts : ∀ w ∈ lw_all, w.before args s = true) (hN : NX s) (hA : ∀ q, s.heap.size ≤ q → A q) (hRf : 2 * dd + 4 ≤ R.frames) (hRl : 100 + 57 * dd + 57 ≤ R.locals) (hRc : cells ≤ R.cells) (hRs : slots ≤ R.slots) (hf : x_mean_step fm ft tenths x1 x2 x3 x4 = some r) (hC : HC D gcl (gty d) A (xw d ad ba ta imgs room work price whom bday units worth due under people askings hangs items many slip became left what which whose place deeds day won lost kept text typed rest bestSet tenths sortWorth sortDays row trace) s H locs) (hl : lv_has ls 10 [(0, .ref (ad 0)), (1, .int x1), (2, .int x2), (3, .int x3), (4, .int x4)]) (K : ∀ (H : Heap) (locs : List Loc) (ls : Array Slot) (pc : Nat), True → HC D gcl (gty d) A (xw d ad ba ta imgs room work price whom bday units worth due under people askings hangs items many slip became left what which whose place deeds day won lost kept text typed rest bestSet tenths sortWorth sortDays row trace) s H locs → decode cX0_mean pc = .ok (.lreturn, 1) → W p l e R s m args below meth c H locs cells slots Q (F0 m pc ls [.long r])) : W p l e R s m args below meth c H locs cells slots Q (F0 m 0 ls []) := by
  unfold x_mean_step at hf
  refine lv_iload_n hx hb dX0_mean_0 rfl (lv_at hl 1 rfl) ?_
  refine lv_if_ne (tgt := 6) hx hb dX0_mean_1 (by decide) (fun c_1 => ?_) (fun c_1 => ?_)
  · have hf := if_f hf c_1
    refine lv_aload_n hx hb dX0_mean_6 rfl (lv_at hl 0 rfl) ?_
    refine lv_iload_n hx hb dX0_mean_7 rfl (lv_at hl 1 rfl) ?_
    refine lv_iconst (v := 1) hx hb dX0_mean_8 (by decide) ?_
    refine lv_isub hx hb dX0_mean_9 ?_
    refine lv_iload_n hx hb dX0_mean_10 rfl (lv_at hl 2 rfl) ?_
    refine lv_iload_n hx hb dX0_mean_11 rfl (lv_at hl 3 rfl) ?_
    refine lv_iadd hx hb dX0_mean_12 ?_
    refine lv_iload hx hb dX0_mean_13 (lv_at hl 4 rfl) ?_
    refine lv_iconst (v := 0) hx hb dX0_mean_15 (by decide) ?_
    obtain ⟨r_16, hcall, hf⟩ := bnd_some hf
    refine hc_l (va_runV (C := RX0) (As := [.int (x1 - 1), .int (x2 + x3), .int x4, .int 0]) (rest := []) ⟨hx, hb, hml, hown, hts⟩ (hm _ _ _ _ _ _ hcall) (cwV 4 hts (lw_V q689 q691 qs19 q48 q692) rfl rfl rfl (by decide +kernel) ⟨(Nat.le_trans (show 2 * dd + 2 + 1 ≤ 2 * dd + 4 by omega) hRf), (Nat.le_trans (show 8 + (10 + 11) + (100 + 57 * dd) ≤ 100 + 57 * dd + 57 by omega) hRl)⟩) (pre_V (q0 := 26) (ci := 0) NX.calling (fun U _ hW => NX.warm hW hN) hC rfl rfl) rfl rfl hl.1 rfl (lv_room (Nat.le_of_ble_eq_true rfl)) dX0_mean_16 ⟨hRc, hRs⟩) hA hC (fun H locs hC => ?_)
    refine lv_lstore (lv' := [(5, .long r_16), (0, .ref (ad 0)), (1, .int x1), (2, .int x2), (3, .int x3), (4, .int x4)]) hx hb dX0_mean_19 hl (by decide) rfl (fun ls hl => ?_)
    refine lv_bipush (v := 10) hx hb dX0_mean_21 (by decide) ?_
    refine lv_aload_n hx hb dX0_mean_23 rfl (lv_at hl 1 rfl) ?_
    obtain ⟨r_24, hcall, hf⟩ := bnd_some hf
    refine hc_i (va_runV (C := RX0) (As := []) (rest := [.int 10]) ⟨hx, hb, hml, hown, hts⟩ (c_x_allTenths hcall) (cwV 0 hts (lw_V q680 q682 qs18 q48 q683) rfl rfl rfl (by decide +kernel) ⟨(Nat.le_trans (show 0 + 1 ≤ 2 * dd + 4 by omega) hRf), (Nat.le_trans (show 8 + (1 + 11) + (0) ≤ 100 + 57 * dd + 57 by omega) hRl)⟩) (pre_V (q0 := 26) (ci := 0) NX.calling (fun U _ hW => NX.warm hW hN) hC rfl rfl) rfl rfl hl.1 rfl (lv_room (Nat.le_of_ble_eq_true rfl)) dX0_mean_24 ⟨hRc, hRs⟩) hA hC (fun H locs hC => ?_)
    refine lv_isub hx hb dX0_mean_27 ?_
    refine lv_i2l (v := (10 - r_24).toInt64) hx hb dX0_mean_28 rfl ?_
    refine lv_lload hx hb dX0_mean_29 (lv_at hl 0 rfl) ?_
    refine lv_lmul hx hb dX0_mean_31 ?_
    refine lv_lstore (lv' := [(7, .long (((10 - r_24).toInt64) * r_16)), (5, .long r_16), (0, .ref (ad 0)), (1, .int x1), (2, .int x2), (3, .int x3), (4, .int x4)]) hx hb dX0_mean_32 hl (by decide) rfl (fun ls hl => ?_)
    refine lv_iconst (v := 0) hx hb dX0_mean_34 (by decide) ?_
    refine lv_istore (lv' := [(9, .int 0), (7, .long (((10 - r_24).toInt64) * r_16)), (5, .long r_16), (0, .ref (ad 0)), (1, .int x1), (2, .int x2), (3, .int x3), (4, .int x4)]) hx hb dX0_mean_35 hl (by decide) rfl (fun ls hl => ?_)
    obtain ⟨x7_87, hL, hf⟩ := bnd_some hf
    have X_37 : ∀ (H : Heap) (locs : List Loc) (ls : Array Slot), HC D gcl (gty d) A (xw d ad ba ta imgs room work price whom bday units worth due under people askings hangs items many slip became left what which whose place deeds day won lost kept text typed rest bestSet tenths sortWorth sortDays row trace) s H locs → lv_has ls 10 [(7, .long x7_87)] → W p l e R s m args below meth c H locs cells slots Q (F0 m 87 ls []) := by
      intro H locs ls hC hl
      refine lv_lload hx hb dX0_mean_87 (lv_at hl 0 rfl) ?_
      have e_1 := (Option.some.inj hf)
      subst e_1
      exact K H locs ls _ trivial hC dX0_mean_89
    have L_37 : ∀ (n_37 : Nat) (x7_37 : Int64) (x9_37 : Int32), x_mean_step_L37 x1 x2 x3 x4 r_16 tenths ft n_37 x7_37 x9_37 = some x7_87 → ∀ (H : Heap) (locs : List Loc) (ls : Array Slot), HC D gcl (gty d) A (xw d ad ba ta imgs room work price whom bday units worth due under people askings hangs items many slip became left what which whose place deeds day won lost kept text typed rest bestSet tenths sortWorth sortDays row trace) s H locs → lv_has ls 10 [(0, .ref (ad 0)), (1, .int x1), (2, .int x2), (3, .int x3), (4, .int x4), (5, .long r_16), (7, .long x7_37), (9, .int x9_37)] → W p l e R s m args below meth c H locs cells slots Q (F0 m 37 ls []) := by
      intro n_37
      induction n_37 with
      | zero => intro _ _ hf; cases hf
      | succ n_37 ih =>
        intro x7_37 x9_37 hf H locs ls hC hl
        rw [x_mean_step_L37_s] at hf
        refine lv_iload hx hb dX0_mean_37 (lv_at hl 7 rfl) ?_
        refine lv_iconst (v := 3) hx hb dX0_mean_39 (by decide) ?_
        refine lv_icmp_ge (tgt := 87) hx hb dX0_mean_40 (by decide) (fun c_40 => ?_) (fun c_40 => ?_)
        · have hf := if_t hf c_40
          have e_1 := (Option.some.inj hf)
          subst e_1
          exact X_37 H locs ls hC (lv_sub hl [6] rfl)
        · have hf := if_f hf c_40
          refine lv_lload hx hb dX0_mean_43 (lv_at hl 6 rfl) ?_
          refine lv_aload_n hx hb dX0_mean_45 rfl (lv_at hl 0 rfl) ?_
          refine va_get (ci := 0) (v := .ref (ad 3)) (C := RX0) (T := TX0) (N := 13) hx hb hts in_X0 hown hC.1 hC.2.1 (26) rfl rfl 7 (by decide) (hts _ q315) (fun _ h9 => h9) rfl dX0_mean_46 ?_
          refine lv_iload hx hb dX0_mean_49 (lv_at hl 7 rfl) ?_
          obtain ⟨hi_51, hf⟩ := ck_some hf
          refine va_iald hx hb hC.1 hC.2.1 (29) 0 rfl rfl hi_51 dX0_mean_51 ?_
          refine lv_i2l (v := (tenths x9_37.toNatClampNeg).toInt64) hx hb dX0_mean_52 rfl ?_
          refine lv_lload hx hb dX0_mean_53 (lv_at hl 5 rfl) ?_
          refine lv_iload_n hx hb dX0_mean_55 rfl (lv_at hl 2 rfl) ?_
          obtain ⟨t_74, hj, hf⟩ := bnd_some hf
          have J_74 : ∀ (H : Heap) (locs : List Loc) (ls : Array Slot), HC D gcl (gty d) A (xw d ad ba ta imgs room work price whom bday units worth due under people askings hangs items many slip became left what which whose place deeds day won lost kept text typed rest bestSet tenths sortWorth sortDays row trace) s H locs → lv_has ls 10 [(0, .ref (ad 0)), (1, .int x1), (2, .int x2), (3, .int x3), (4, .int x4), (5, .long r_16), (9, .int x9_37)] → W p l e R s m args below meth c H locs cells slots Q (F0 m 74 ls [.long t_74, .long r_16, .long ((tenths x9_37.toNatClampNeg).toInt64), .long x7_37]) := by
            intro H locs ls hC hl
            refine va_mmax_long hx hb (by rw [hml]; exact hl.1.symm) hown (hts _ q701) (hts _ q702) (hts _ q65) (hts _ q703) (Nat.le_trans (show 1 ≤ 2 * dd + 4 by omega) hRf) (Nat.le_trans (show 19 ≤ 100 + 57 * dd + 57 by omega) hRl) hRc hRs dX0_mean_74 ?_
            refine lv_lmul hx hb dX0_mean_77 ?_
            refine lv_ladd hx hb dX0_mean_78 ?_
            refine lv_lstore (lv' := [(7, .long (x7_37 + (((tenths x9_37.toNatClampNeg).toInt64) * (if t_74 < r_16 then r_16 else t_74)))), (0, .ref (ad 0)), (1, .int x1), (2, .int x2), (3, .int x3), (4, .int x4), (5, .long r_16), (9, .int x9_37)]) hx hb dX0_mean_79 hl (by decide) rfl (fun ls hl => ?_)
            refine lv_iinc (v := x9_37 + 1) (lv' := [(9, .int (x9_37 + 1)), (7, .long (x7_37 + (((tenths x9_37.toNatClampNeg).toInt64) * (if t_74 < r_16 then r_16 else t_74)))), (0, .ref (ad 0)), (1, .int x1), (2, .int x2), (3, .int x3), (4, .int x4), (5, .long r_16)]) hx hb dX0_mean_81 hl (k := 7) rfl rfl (by decide) rfl (fun ls hl => ?_)
            refine lv_goto (tgt := 37) hx hb dX0_mean_84 (by decide) ?_
            exact ih _ _ hf H locs ls hC (lv_sub hl [2, 3, 4, 5, 6, 7, 1, 0] rfl)
          have hf := hj
          refine lv_if_ne (tgt := 63) hx hb dX0_mean_56 (by decide) (fun c_56 => ?_) (fun c_56 => ?_)
          · have hf := if_f hf c_56
            refine lv_aload_n hx hb dX0_mean_63 rfl (lv_at hl 0 rfl) ?_
            refine lv_iload hx hb dX0_mean_64 (lv_at hl 7 rfl) ?_
            refine lv_iload_n hx hb dX0_mean_66 rfl (lv_at hl 1 rfl) ?_
            refine lv_iload_n hx hb dX0_mean_67 rfl (lv_at hl 2 rfl) ?_
            refine lv_iload_n hx hb dX0_mean_68 rfl (lv_at hl 3 rfl) ?_
            refine lv_iload hx hb dX0_mean_69 (lv_at hl 4 rfl) ?_
            obtain ⟨r_71, hcall, hf⟩ := bnd_some hf
            refine hc_l (va_runV (C := RX0) (As := [.int x9_37, .int x1, .int x2, .int x3, .int x4]) (rest := [.long r_16, .long ((tenths x9_37.toNatClampNeg).toInt64), .long x7_37]) ⟨hx, hb, hml, hown, hts⟩ (ht _ _ _ _ _ _ _ hcall) (cwV 5 hts (lw_V q693 q695 qs20 q48 q696) rfl rfl rfl (by decide +kernel) ⟨(Nat.le_trans (show 2 * dd + 3 + 1 ≤ 2 * dd + 4 by omega) hRf), (Nat.le_trans (show 8 + (9 + 11) + (100 + 57 * dd + 29) ≤ 100 + 57 * dd + 57 by omega) hRl)⟩) (pre_V (q0 := 26) (ci := 0) NX.calling (fun U _ hW => NX.warm hW hN) hC rfl rfl) rfl rfl hl.1 rfl (lv_room (Nat.le_of_ble_eq_true rfl)) dX0_mean_71 ⟨hRc, hRs⟩) hA hC (fun H locs hC => ?_)
            have e_1 := (Option.some.inj hf)
            subst e_1
            exact J_74 H locs ls hC (lv_sub hl [0, 1, 2, 3, 4, 5, 7] rfl)
          · have hf := if_t hf c_56
            refine lv_lconst (v := 0) hx hb dX0_mean_59 (by decide) ?_
            refine lv_goto (tgt := 74) hx hb dX0_mean_60 (by decide) ?_
            have e_1 := (Option.some.inj hf)
            subst e_1
            exact J_74 H locs ls hC (lv_sub hl [0, 1, 2, 3, 4, 5, 7] rfl)
    exact L_37 _ _ _ hL H locs ls hC (lv_sub hl [3, 4, 5, 6, 7, 2, 1, 0] rfl)
  · have hf := if_t hf c_1
    refine lv_lconst (v := 0) hx hb dX0_mean_4 (by decide) ?_
    have e_1 := (Option.some.inj hf)
    subst e_1
    exact K H locs ls _ trivial hC dX0_mean_5
set_option maxRecDepth 100000 in
theorem c_x_mean_step {l : Launch} {sz : Nat} {D : va_G} {d : Nat → ClassId} {ad : Nat → Nat} {ba : Nat → Nat} {ta : Nat → Nat} {imgs : va_W} {room : Nat → Int32} {work : Nat → Int32} {price : Nat → Int32} {whom : Nat → Int32} {bday : Nat → Int32} {units : Nat → Int32} {worth : Nat → Int32} {due : Nat → Int32} {under : Nat → Int32} {people : Int32} {askings : Int32} {hangs : Int32} {items : Int32} {many : Nat → Int32} {slip : Nat → Nat → Int32} {became : Nat → Int32} {left : Nat → Int32} {what : Nat → Int32} {which : Nat → Int32} {whose : Nat → Int32} {place : Nat → Int32} {deeds : Int32} {day : Int32} {won : Int32} {lost : Int32} {kept : Int32} {text : Nat → Int32} {typed : Int32} {rest : Nat → Int32} {bestSet : Int32} {tenths : Nat → Int32} {sortWorth : Nat → Int32} {sortDays : Nat → Int32} {row : Nat → Int32} {trace : Int64} {x1 : Int32} {x2 : Int32} {x3 : Int32} {x4 : Int32} {r : Int64} {fm : Int32 → Int32 → Int32 → Int32 → Option Int64} {ft : Int32 → Int32 → Int32 → Int32 → Int32 → Option Int64} {dd : Nat} (hm : ∀ (sz : Nat) (x1 x2 x3 x4 : Int32) (r : Int64), fm x1 x2 x3 x4 = some r → ML l yX0_mean (ws_ yX0_mean cX0_mean 10 (some .long)) { frames := 2 * dd + 2, cells := 0, slots := 0, locals := 100 + 57 * dd } D gcl (gty d) NX (xw d ad ba ta imgs room work price whom bday units worth due under people askings hangs items many slip became left what which whose place deeds day won lost kept text typed rest bestSet tenths sortWorth sortDays row trace) (xw d ad ba ta imgs room work price whom bday units worth due under people askings hangs items many slip became left what which whose place deeds day won lost kept text typed rest bestSet tenths sortWorth sortDays row trace) sz [.ref (ad 0), .int x1, .int x2, .int x3, .int x4] r) (ht : ∀ (sz : Nat) (x1 x2 x3 x4 x5 : Int32) (r : Int64), ft x1 x2 x3 x4 x5 = some r → ML l yX0_taken (ws_ yX0_taken cX0_taken 9 (some .long)) { frames := 2 * dd + 3, cells := 0, slots := 0, locals := 100 + 57 * dd + 29 } D gcl (gty d) NX (xw d ad ba ta imgs room work price whom bday units worth due under people askings hangs items many slip became left what which whose place deeds day won lost kept text typed rest bestSet tenths sortWorth sortDays row trace) (xw d ad ba ta imgs room work price whom bday units worth due under people askings hangs items many slip became left what which whose place deeds day won lost kept text typed rest bestSet tenths sortWorth sortDays row trace) sz [.ref (ad 0), .int x1, .int x2, .int x3, .int x4, .int x5] r) (hf : x_mean_step fm ft tenths x1 x2 x3 x4 = some r) : ML l yX0_mean (ws_ yX0_mean cX0_mean 10 (some .long)) { frames := 2 * dd + 4, cells := 0, slots := 0, locals := 100 + 57 * dd + 57 } D gcl (gty d) NX (xw d ad ba ta imgs room work price whom bday units worth due under people askings hangs items many slip became left what which whose place deeds day won lost kept text typed rest bestSet tenths sortWorth sortDays row trace) (xw d ad ba ta imgs room work price whom bday units worth due under people askings hangs items many slip became left what which whose place deeds day won lost kept text typed rest bestSet tenths sortWorth sortDays row trace) sz [.ref (ad 0), .int x1, .int x2, .int x3, .int x4] r :=
  ML.of (by decide) [.ref (ad 0), .int x1, .int x2, .int x3, .int x4] [(0, .ref (ad 0)), (1, .int x1), (2, .int x2), (3, .int x3), (4, .int x4)] (Nat.le_of_ble_eq_true rfl) rfl (fun p e s m below meth c ls Q hx hb hml hown hts hN hA hC hl K => w_x_mean_step hm ht hx hb hml hown hts hN hA (Nat.le_refl _) (Nat.le_refl _) (Nat.le_refl _) (Nat.le_refl _) hf hC hl K)

def x_mean (tenths : Nat → Int32) (sortWorth : Nat → Int32) (sortDays : Nat → Int32) : Nat → Int32 → Int32 → Int32 → Int32 → Option Int64
  | 0, _, _, _, _ => none
  | n + 1, a, b, c, e => x_mean_step (x_mean tenths sortWorth sortDays n) (x_taken (x_mean tenths sortWorth sortDays n) sortWorth sortDays) tenths a b c e
set_option maxRecDepth 100000 in
theorem c_x_mean {l : Launch} {D : va_G} {d : Nat → ClassId} {ad : Nat → Nat} {ba : Nat → Nat} {ta : Nat → Nat} {imgs : va_W} {room : Nat → Int32} {work : Nat → Int32} {price : Nat → Int32} {whom : Nat → Int32} {bday : Nat → Int32} {units : Nat → Int32} {worth : Nat → Int32} {due : Nat → Int32} {under : Nat → Int32} {people : Int32} {askings : Int32} {hangs : Int32} {items : Int32} {many : Nat → Int32} {slip : Nat → Nat → Int32} {became : Nat → Int32} {left : Nat → Int32} {what : Nat → Int32} {which : Nat → Int32} {whose : Nat → Int32} {place : Nat → Int32} {deeds : Int32} {day : Int32} {won : Int32} {lost : Int32} {kept : Int32} {text : Nat → Int32} {typed : Int32} {rest : Nat → Int32} {bestSet : Int32} {tenths : Nat → Int32} {sortWorth : Nat → Int32} {sortDays : Nat → Int32} {row : Nat → Int32} {trace : Int64} : ∀ (n sz : Nat) (x1 x2 x3 x4 : Int32) (r : Int64), x_mean tenths sortWorth sortDays n x1 x2 x3 x4 = some r → ML l yX0_mean (ws_ yX0_mean cX0_mean 10 (some .long)) { frames := 2 * n + 2, cells := 0, slots := 0, locals := 100 + 57 * n } D gcl (gty d) NX (xw d ad ba ta imgs room work price whom bday units worth due under people askings hangs items many slip became left what which whose place deeds day won lost kept text typed rest bestSet tenths sortWorth sortDays row trace) (xw d ad ba ta imgs room work price whom bday units worth due under people askings hangs items many slip became left what which whose place deeds day won lost kept text typed rest bestSet tenths sortWorth sortDays row trace) sz [.ref (ad 0), .int x1, .int x2, .int x3, .int x4] r := by
  intro n
  induction n with
  | zero => intro sz x1 x2 x3 x4 r hf; cases hf
  | succ n ih => intro sz x1 x2 x3 x4 r hf; exact c_x_mean_step (dd := n) ih (fun sz x1 x2 x3 x4 x5 r h => c_x_taken (dd := n) ih h) hf
def x_mean7 (tenths : Nat → Int32) (sortWorth : Nat → Int32) (sortDays : Nat → Int32) (a b c e : Int32) : Option Int64 := x_mean tenths sortWorth sortDays 7 a b c e
def x_taken7 (tenths : Nat → Int32) (sortWorth : Nat → Int32) (sortDays : Nat → Int32) (j a b c e : Int32) : Option Int64 := x_taken (x_mean tenths sortWorth sortDays 7) sortWorth sortDays j a b c e
set_option maxRecDepth 100000 in
theorem c_x_taken7 {l : Launch} {sz : Nat} {D : va_G} {d : Nat → ClassId} {ad : Nat → Nat} {ba : Nat → Nat} {ta : Nat → Nat} {imgs : va_W} {room : Nat → Int32} {work : Nat → Int32} {price : Nat → Int32} {whom : Nat → Int32} {bday : Nat → Int32} {units : Nat → Int32} {worth : Nat → Int32} {due : Nat → Int32} {under : Nat → Int32} {people : Int32} {askings : Int32} {hangs : Int32} {items : Int32} {many : Nat → Int32} {slip : Nat → Nat → Int32} {became : Nat → Int32} {left : Nat → Int32} {what : Nat → Int32} {which : Nat → Int32} {whose : Nat → Int32} {place : Nat → Int32} {deeds : Int32} {day : Int32} {won : Int32} {lost : Int32} {kept : Int32} {text : Nat → Int32} {typed : Int32} {rest : Nat → Int32} {bestSet : Int32} {tenths : Nat → Int32} {sortWorth : Nat → Int32} {sortDays : Nat → Int32} {row : Nat → Int32} {trace : Int64} {x1 x2 x3 x4 x5 : Int32} {r : Int64} (hf : x_taken7 tenths sortWorth sortDays x1 x2 x3 x4 x5 = some r) : ML l yX0_taken (ws_ yX0_taken cX0_taken 9 (some .long)) { frames := 17, cells := 0, slots := 0, locals := 528 } D gcl (gty d) NX (xw d ad ba ta imgs room work price whom bday units worth due under people askings hangs items many slip became left what which whose place deeds day won lost kept text typed rest bestSet tenths sortWorth sortDays row trace) (xw d ad ba ta imgs room work price whom bday units worth due under people askings hangs items many slip became left what which whose place deeds day won lost kept text typed rest bestSet tenths sortWorth sortDays row trace) sz [.ref (ad 0), .int x1, .int x2, .int x3, .int x4, .int x5] r := c_x_taken (dd := 7) (c_x_mean 7) hf
def x_expected (room : Nat → Int32) (people : Int32) (tenths : Nat → Int32) (sortWorth : Nat → Int32) (sortDays : Nat → Int32) (x1 : Int32) (x2 : Int32) (x3 : Int32) : Option (Int64) :=
  bnd (x_isPerson people x1) fun r_2 =>
  if r_2 = 0 then (some (-1)) else
  bnd (x_in x2 0 6) fun r_12 =>
  if r_12 = 0 then (some (-1)) else
  bnd (x_in x3 0 1) fun r_21 =>
  if r_21 = 0 then (some (-1)) else
  ck x1 4 <| bnd (x_mean7 tenths sortWorth sortDays x2 (room x1.toNatClampNeg) 0 0) fun r_44 =>
  bnd (x_power x2) fun r_50 =>
  bnd (x_common64 r_44 r_50) fun r_59 =>
  if x3 = 0 then (ckd r_59 <| some (r_44 / r_59)) else
  ckd r_59 <| some (r_50 / r_59)
set_option maxHeartbeats 4000000 in
set_option maxRecDepth 100000 in
theorem w_x_expected {p : Program} {l : Launch} {e : Env} {R : Room} {s : State} {m : MethodId} {args : Array Value} {below : List Frame} {meth : Method} {c : Code} {H : Heap} {locs : List Loc} {cells slots : Nat} {Q : State → Prop} {A : Nat → Prop} {ls : Array Slot} {D : va_G} {d : Nat → ClassId} {ad : Nat → Nat} {ba : Nat → Nat} {ta : Nat → Nat} {imgs : va_W} {room : Nat → Int32} {work : Nat → Int32} {price : Nat → Int32} {whom : Nat → Int32} {bday : Nat → Int32} {units : Nat → Int32} {worth : Nat → Int32} {due : Nat → Int32} {under : Nat → Int32} {people : Int32} {askings : Int32} {hangs : Int32} {items : Int32} {many : Nat → Int32} {slip : Nat → Nat → Int32} {became : Nat → Int32} {left : Nat → Int32} {what : Nat → Int32} {which : Nat → Int32} {whose : Nat → Int32} {place : Nat → Int32} {deeds : Int32} {day : Int32} {won : Int32} {lost : Int32} {kept : Int32} {text : Nat → Int32} {typed : Int32} {rest : Nat → Int32} {bestSet : Int32} {tenths : Nat → Int32} {sortWorth : Nat → Int32} {sortDays : Nat → Int32} {row : Nat → Int32} {trace : Int64} {x1 : Int32} {x2 : Int32} {x3 : Int32} {r : Int64} (hx : p.tables.exec = Jvm.exec) (hb : c.code = cX0_expected) (hml : c.maxLocals = 10) (hown : s.vm.findClass RX0 = some m.cls) (hts : ∀ w ∈ lw_all, w.before args s = true) (hN : NX s) (hA : ∀ q, s.heap.size ≤ q → A q) (hRf : 65 ≤ R.frames) (hRl : 1495 ≤ R.locals) (hRc : cells ≤ R.cells) (hRs : slots ≤ R.slots) (hf : x_expected room people tenths sortWorth sortDays x1 x2 x3 = some r) (hC : HC D gcl (gty d) A (xw d ad ba ta imgs room work price whom bday units worth due under people askings hangs items many slip became left what which whose place deeds day won lost kept text typed rest bestSet tenths sortWorth sortDays row trace) s H locs) (hl : lv_has ls 10 [(0, .ref (ad 0)), (1, .int x1), (2, .int x2), (3, .int x3)]) (K : ∀ (H : Heap) (locs : List Loc) (ls : Array Slot) (pc : Nat), True → HC D gcl (gty d) A (xw d ad ba ta imgs room work price whom bday units worth due under people askings hangs items many slip became left what which whose place deeds day won lost kept text typed rest bestSet tenths sortWorth sortDays row trace) s H locs → decode cX0_expected pc = .ok (.lreturn, 1) → W p l e R s m args below meth c H locs cells slots Q (F0 m pc ls [.long r])) : W p l e R s m args below meth c H locs cells slots Q (F0 m 0 ls []) := by
  unfold x_expected at hf
  refine lv_aload_n hx hb dX0_expected_0 rfl (lv_at hl 0 rfl) ?_
  refine lv_iload_n hx hb dX0_expected_1 rfl (lv_at hl 1 rfl) ?_
  obtain ⟨r_2, hcall, hf⟩ := bnd_some hf
  refine hc_i (va_runV (C := RX0) (As := [.int x1]) (rest := []) ⟨hx, hb, hml, hown, hts⟩ (c_x_isPerson hcall) (cwV 1 hts (lw_V q555 q557 qs8 q48 q558) rfl rfl rfl (by decide +kernel) ⟨(Nat.le_trans (Nat.le_of_ble_eq_true rfl) hRf), (Nat.le_trans (Nat.le_of_ble_eq_true rfl) hRl)⟩) (pre_V (q0 := 26) (ci := 0) NX.calling (fun U _ hW => NX.warm hW hN) hC rfl rfl) rfl rfl hl.1 rfl (lv_room (Nat.le_of_ble_eq_true rfl)) dX0_expected_2 ⟨hRc, hRs⟩) hA hC (fun H locs hC => ?_)
  refine lv_if_eq (tgt := 27) hx hb dX0_expected_5 (by decide) (fun c_5 => ?_) (fun c_5 => ?_)
  · have hf := if_t hf c_5
    refine lv_ldc2 (v := (-1)) hx hb hown (hts _ q688) dX0_expected_27 ?_
    have e_1 := (Option.some.inj hf)
    subst e_1
    exact K H locs ls _ trivial hC dX0_expected_30
  · have hf := if_f hf c_5
    refine lv_iload_n hx hb dX0_expected_8 rfl (lv_at hl 2 rfl) ?_
    refine lv_iconst (v := 0) hx hb dX0_expected_9 (by decide) ?_
    refine lv_bipush (v := 6) hx hb dX0_expected_10 (by decide) ?_
    obtain ⟨r_12, hcall, hf⟩ := bnd_some hf
    refine hc_i (va_runS (As := [.int x2, .int 0, .int 6]) (rest := []) ⟨hx, hb, hml, hown, hts⟩ (c_x_in hcall) (va_cwS 3 hts (lw_S q358 q359 q48 q360) rfl rfl rfl (by decide +kernel) ⟨(Nat.le_trans (Nat.le_of_ble_eq_true rfl) hRf), (Nat.le_trans (Nat.le_of_ble_eq_true rfl) hRl)⟩) (pre_S (fun _ _ _ _ h => h) (fun _ _ _ => trivial) hC) rfl rfl hl.1 rfl (lv_room (Nat.le_of_ble_eq_true rfl)) dX0_expected_12 ⟨hRc, hRs⟩) hA hC (fun H locs hC => ?_)
    refine lv_if_eq (tgt := 27) hx hb dX0_expected_15 (by decide) (fun c_15 => ?_) (fun c_15 => ?_)
    · have hf := if_t hf c_15
      refine lv_ldc2 (v := (-1)) hx hb hown (hts _ q688) dX0_expected_27 ?_
      have e_1 := (Option.some.inj hf)
      subst e_1
      exact K H locs ls _ trivial hC dX0_expected_30
    · have hf := if_f hf c_15
      refine lv_iload_n hx hb dX0_expected_18 rfl (lv_at hl 3 rfl) ?_
      refine lv_iconst (v := 0) hx hb dX0_expected_19 (by decide) ?_
      refine lv_iconst (v := 1) hx hb dX0_expected_20 (by decide) ?_
      obtain ⟨r_21, hcall, hf⟩ := bnd_some hf
      refine hc_i (va_runS (As := [.int x3, .int 0, .int 1]) (rest := []) ⟨hx, hb, hml, hown, hts⟩ (c_x_in hcall) (va_cwS 3 hts (lw_S q358 q359 q48 q360) rfl rfl rfl (by decide +kernel) ⟨(Nat.le_trans (Nat.le_of_ble_eq_true rfl) hRf), (Nat.le_trans (Nat.le_of_ble_eq_true rfl) hRl)⟩) (pre_S (fun _ _ _ _ h => h) (fun _ _ _ => trivial) hC) rfl rfl hl.1 rfl (lv_room (Nat.le_of_ble_eq_true rfl)) dX0_expected_21 ⟨hRc, hRs⟩) hA hC (fun H locs hC => ?_)
      refine lv_if_ne (tgt := 31) hx hb dX0_expected_24 (by decide) (fun c_24 => ?_) (fun c_24 => ?_)
      · have hf := if_f hf c_24
        refine lv_aload_n hx hb dX0_expected_31 rfl (lv_at hl 0 rfl) ?_
        refine lv_iload_n hx hb dX0_expected_32 rfl (lv_at hl 2 rfl) ?_
        refine lv_aload_n hx hb dX0_expected_33 rfl (lv_at hl 0 rfl) ?_
        refine va_get (ci := 0) (v := .ref (ba 0)) (C := RX0) (T := TX0) (N := 13) hx hb hts in_X0 hown hC.1 hC.2.1 (26) rfl rfl 0 (by decide) (hts _ q302) (fun _ h9 => h9) rfl dX0_expected_34 ?_
        refine va_getN (ci := 1) (v := .ref (ba 1)) (C := RX1) (T := TX1) (N := 13) (host := "SleeveSlips") hx hb hts in_X1 hown hC.1 hC.2.1 (0) rfl rfl 0 (by decide) (va_Nw.use rfl (hN.1 2)) (fun _ h9 => h9) rfl dX0_expected_37 ?_
        refine lv_iload_n hx hb dX0_expected_40 rfl (lv_at hl 1 rfl) ?_
        obtain ⟨hi_41, hf⟩ := ck_some hf
        refine va_iald hx hb hC.1 hC.2.1 (1) 0 rfl rfl hi_41 dX0_expected_41 ?_
        refine lv_iconst (v := 0) hx hb dX0_expected_42 (by decide) ?_
        refine lv_iconst (v := 0) hx hb dX0_expected_43 (by decide) ?_
        obtain ⟨r_44, hcall, hf⟩ := bnd_some hf
        refine hc_l (va_runV (C := RX0) (As := [.int x2, .int (room x1.toNatClampNeg), .int 0, .int 0]) (rest := []) ⟨hx, hb, hml, hown, hts⟩ (c_x_mean 7 _ _ _ _ _ _ hcall) (cwV 4 hts (lw_V q689 q691 qs19 q48 q692) rfl rfl rfl (by decide +kernel) ⟨(Nat.le_trans (Nat.le_of_ble_eq_true rfl) hRf), (Nat.le_trans (Nat.le_of_ble_eq_true rfl) hRl)⟩) (pre_V (q0 := 26) (ci := 0) NX.calling (fun U _ hW => NX.warm hW hN) hC rfl rfl) rfl rfl hl.1 rfl (lv_room (Nat.le_of_ble_eq_true rfl)) dX0_expected_44 ⟨hRc, hRs⟩) hA hC (fun H locs hC => ?_)
        refine lv_lstore (lv' := [(4, .long r_44), (0, .ref (ad 0)), (1, .int x1), (2, .int x2), (3, .int x3)]) hx hb dX0_expected_47 hl (by decide) rfl (fun ls hl => ?_)
        refine lv_iload_n hx hb dX0_expected_49 rfl (lv_at hl 3 rfl) ?_
        obtain ⟨r_50, hcall, hf⟩ := bnd_some hf
        refine hc_l (va_runS (As := [.int x2]) (rest := []) ⟨hx, hb, hml, hown, hts⟩ (c_x_power hcall) (va_cwS 1 hts (lw_S q697 q698 q48 q699) rfl rfl rfl (by decide +kernel) ⟨(Nat.le_trans (Nat.le_of_ble_eq_true rfl) hRf), (Nat.le_trans (Nat.le_of_ble_eq_true rfl) hRl)⟩) (pre_S (fun _ _ _ _ h => h) (fun _ _ _ => trivial) hC) rfl rfl hl.1 rfl (lv_room (Nat.le_of_ble_eq_true rfl)) dX0_expected_50 ⟨hRc, hRs⟩) hA hC (fun H locs hC => ?_)
        refine lv_lstore (lv' := [(6, .long r_50), (4, .long r_44), (0, .ref (ad 0)), (1, .int x1), (2, .int x2), (3, .int x3)]) hx hb dX0_expected_53 hl (by decide) rfl (fun ls hl => ?_)
        refine lv_lload hx hb dX0_expected_55 (lv_at hl 1 rfl) ?_
        refine lv_lload hx hb dX0_expected_57 (lv_at hl 0 rfl) ?_
        obtain ⟨r_59, hcall, hf⟩ := bnd_some hf
        refine hc_l (va_runS (As := [.long r_44, .long r_50]) (rest := []) ⟨hx, hb, hml, hown, hts⟩ (c_x_common 64 _ _ _ _ hcall) (va_cwS 2 hts (lw_S q704 q705 q48 q706) rfl rfl rfl (by decide +kernel) ⟨(Nat.le_trans (Nat.le_of_ble_eq_true rfl) hRf), (Nat.le_trans (Nat.le_of_ble_eq_true rfl) hRl)⟩) (pre_S (fun _ _ _ _ h => h) (fun _ _ _ => trivial) hC) rfl rfl hl.1 rfl (lv_room (Nat.le_of_ble_eq_true rfl)) dX0_expected_59 ⟨hRc, hRs⟩) hA hC (fun H locs hC => ?_)
        refine lv_lstore (lv' := [(8, .long r_59), (6, .long r_50), (4, .long r_44), (0, .ref (ad 0)), (1, .int x1), (2, .int x2), (3, .int x3)]) hx hb dX0_expected_62 hl (by decide) rfl (fun ls hl => ?_)
        refine lv_iload_n hx hb dX0_expected_64 rfl (lv_at hl 6 rfl) ?_
        refine lv_if_ne (tgt := 76) hx hb dX0_expected_65 (by decide) (fun c_65 => ?_) (fun c_65 => ?_)
        · have hf := if_f hf c_65
          refine lv_lload hx hb dX0_expected_76 (lv_at hl 1 rfl) ?_
          refine lv_lload hx hb dX0_expected_78 (lv_at hl 0 rfl) ?_
          obtain ⟨hd_80, hf⟩ := ckd_some hf
          refine lv_ldiv hx hb dX0_expected_80 hd_80 ?_
          have e_1 := (Option.some.inj hf)
          subst e_1
          exact K H locs ls _ trivial hC dX0_expected_81
        · have hf := if_t hf c_65
          refine lv_lload hx hb dX0_expected_68 (lv_at hl 2 rfl) ?_
          refine lv_lload hx hb dX0_expected_70 (lv_at hl 0 rfl) ?_
          obtain ⟨hd_72, hf⟩ := ckd_some hf
          refine lv_ldiv hx hb dX0_expected_72 hd_72 ?_
          refine lv_goto (tgt := 81) hx hb dX0_expected_73 (by decide) ?_
          have e_1 := (Option.some.inj hf)
          subst e_1
          exact K H locs ls _ trivial hC dX0_expected_81
      · have hf := if_t hf c_24
        refine lv_ldc2 (v := (-1)) hx hb hown (hts _ q688) dX0_expected_27 ?_
        have e_1 := (Option.some.inj hf)
        subst e_1
        exact K H locs ls _ trivial hC dX0_expected_30
set_option maxRecDepth 100000 in
theorem c_x_expected {l : Launch} {sz : Nat} {D : va_G} {d : Nat → ClassId} {ad : Nat → Nat} {ba : Nat → Nat} {ta : Nat → Nat} {imgs : va_W} {room : Nat → Int32} {work : Nat → Int32} {price : Nat → Int32} {whom : Nat → Int32} {bday : Nat → Int32} {units : Nat → Int32} {worth : Nat → Int32} {due : Nat → Int32} {under : Nat → Int32} {people : Int32} {askings : Int32} {hangs : Int32} {items : Int32} {many : Nat → Int32} {slip : Nat → Nat → Int32} {became : Nat → Int32} {left : Nat → Int32} {what : Nat → Int32} {which : Nat → Int32} {whose : Nat → Int32} {place : Nat → Int32} {deeds : Int32} {day : Int32} {won : Int32} {lost : Int32} {kept : Int32} {text : Nat → Int32} {typed : Int32} {rest : Nat → Int32} {bestSet : Int32} {tenths : Nat → Int32} {sortWorth : Nat → Int32} {sortDays : Nat → Int32} {row : Nat → Int32} {trace : Int64} {x1 : Int32} {x2 : Int32} {x3 : Int32} {r : Int64} (hf : x_expected room people tenths sortWorth sortDays x1 x2 x3 = some r) : ML l yX0_expected (ws_ yX0_expected cX0_expected 10 (some .long)) { frames := 65, cells := 0, slots := 0, locals := 1495 } D gcl (gty d) NX (xw d ad ba ta imgs room work price whom bday units worth due under people askings hangs items many slip became left what which whose place deeds day won lost kept text typed rest bestSet tenths sortWorth sortDays row trace) (xw d ad ba ta imgs room work price whom bday units worth due under people askings hangs items many slip became left what which whose place deeds day won lost kept text typed rest bestSet tenths sortWorth sortDays row trace) sz [.ref (ad 0), .int x1, .int x2, .int x3] r :=
  ML.of (by decide) [.ref (ad 0), .int x1, .int x2, .int x3] [(0, .ref (ad 0)), (1, .int x1), (2, .int x2), (3, .int x3)] (Nat.le_of_ble_eq_true rfl) rfl (fun p e s m below meth c ls Q hx hb hml hown hts hN hA hC hl K => w_x_expected hx hb hml hown hts hN hA (Nat.le_refl _) (Nat.le_refl _) (Nat.le_refl _) (Nat.le_refl _) hf hC hl K)

def x_wise (tenths : Nat → Int32) (sortWorth : Nat → Int32) (sortDays : Nat → Int32) (x1 : Int32) (x2 : Int32) (x3 : Int32) : Option (Int32) :=
  bnd (x_in x1 0 2) fun r_3 =>
  if r_3 = 0 then (some (-1)) else
  ck x1 3 <| if (sortDays x1.toNatClampNeg) = 0 then (some (-1)) else
  bnd (x_in x2 1 6) fun r_22 =>
  if r_22 = 0 then (some (-1)) else
  bnd (x_in x3 1 5) fun r_31 =>
  if r_31 = 0 then (some (-1)) else
  bnd (x_taken7 tenths sortWorth sortDays x1 x2 x3 0 0) fun r_45 =>
  bnd (x_mean7 tenths sortWorth sortDays (x2 - 1) x3 0 0) fun r_55 =>
  if (lg_cmp r_45 r_55) < 0 then (some 0) else
  some 1
set_option maxHeartbeats 4000000 in
set_option maxRecDepth 100000 in
theorem w_x_wise {p : Program} {l : Launch} {e : Env} {R : Room} {s : State} {m : MethodId} {args : Array Value} {below : List Frame} {meth : Method} {c : Code} {H : Heap} {locs : List Loc} {cells slots : Nat} {Q : State → Prop} {A : Nat → Prop} {ls : Array Slot} {D : va_G} {d : Nat → ClassId} {ad : Nat → Nat} {ba : Nat → Nat} {ta : Nat → Nat} {imgs : va_W} {room : Nat → Int32} {work : Nat → Int32} {price : Nat → Int32} {whom : Nat → Int32} {bday : Nat → Int32} {units : Nat → Int32} {worth : Nat → Int32} {due : Nat → Int32} {under : Nat → Int32} {people : Int32} {askings : Int32} {hangs : Int32} {items : Int32} {many : Nat → Int32} {slip : Nat → Nat → Int32} {became : Nat → Int32} {left : Nat → Int32} {what : Nat → Int32} {which : Nat → Int32} {whose : Nat → Int32} {place : Nat → Int32} {deeds : Int32} {day : Int32} {won : Int32} {lost : Int32} {kept : Int32} {text : Nat → Int32} {typed : Int32} {rest : Nat → Int32} {bestSet : Int32} {tenths : Nat → Int32} {sortWorth : Nat → Int32} {sortDays : Nat → Int32} {row : Nat → Int32} {trace : Int64} {x1 : Int32} {x2 : Int32} {x3 : Int32} {r : Int32} (hx : p.tables.exec = Jvm.exec) (hb : c.code = cX0_wise) (hml : c.maxLocals = 4) (hown : s.vm.findClass RX0 = some m.cls) (hts : ∀ w ∈ lw_all, w.before args s = true) (hN : NX s) (hA : ∀ q, s.heap.size ≤ q → A q) (hRf : 18 ≤ R.frames) (hRl : 556 ≤ R.locals) (hRc : cells ≤ R.cells) (hRs : slots ≤ R.slots) (hf : x_wise tenths sortWorth sortDays x1 x2 x3 = some r) (hC : HC D gcl (gty d) A (xw d ad ba ta imgs room work price whom bday units worth due under people askings hangs items many slip became left what which whose place deeds day won lost kept text typed rest bestSet tenths sortWorth sortDays row trace) s H locs) (hl : lv_has ls 4 [(0, .ref (ad 0)), (1, .int x1), (2, .int x2), (3, .int x3)]) (K : ∀ (H : Heap) (locs : List Loc) (ls : Array Slot) (pc : Nat), narrow .int (.int r) = .int r → HC D gcl (gty d) A (xw d ad ba ta imgs room work price whom bday units worth due under people askings hangs items many slip became left what which whose place deeds day won lost kept text typed rest bestSet tenths sortWorth sortDays row trace) s H locs → decode cX0_wise pc = .ok (.ireturn, 1) → W p l e R s m args below meth c H locs cells slots Q (F0 m pc ls [.int r])) : W p l e R s m args below meth c H locs cells slots Q (F0 m 0 ls []) := by
  unfold x_wise at hf
  refine lv_iload_n hx hb dX0_wise_0 rfl (lv_at hl 1 rfl) ?_
  refine lv_iconst (v := 0) hx hb dX0_wise_1 (by decide) ?_
  refine lv_iconst (v := 2) hx hb dX0_wise_2 (by decide) ?_
  obtain ⟨r_3, hcall, hf⟩ := bnd_some hf
  refine hc_i (va_runS (As := [.int x1, .int 0, .int 2]) (rest := []) ⟨hx, hb, hml, hown, hts⟩ (c_x_in hcall) (va_cwS 3 hts (lw_S q358 q359 q48 q360) rfl rfl rfl (by decide +kernel) ⟨(Nat.le_trans (Nat.le_of_ble_eq_true rfl) hRf), (Nat.le_trans (Nat.le_of_ble_eq_true rfl) hRl)⟩) (pre_S (fun _ _ _ _ h => h) (fun _ _ _ => trivial) hC) rfl rfl hl.1 rfl (lv_room (Nat.le_of_ble_eq_true rfl)) dX0_wise_3 ⟨hRc, hRs⟩) hA hC (fun H locs hC => ?_)
  refine lv_if_eq (tgt := 37) hx hb dX0_wise_6 (by decide) (fun c_6 => ?_) (fun c_6 => ?_)
  · have hf := if_t hf c_6
    refine lv_iconst (v := (-1)) hx hb dX0_wise_37 (by decide) ?_
    have e_1 := (Option.some.inj hf)
    subst e_1
    exact K H locs ls _ rfl hC dX0_wise_38
  · have hf := if_f hf c_6
    refine lv_aload_n hx hb dX0_wise_9 rfl (lv_at hl 0 rfl) ?_
    refine va_get (ci := 0) (v := .ref (ad 5)) (C := RX0) (T := TX0) (N := 13) hx hb hts in_X0 hown hC.1 hC.2.1 (26) rfl rfl 9 (by decide) (hts _ q317) (fun _ h9 => h9) rfl dX0_wise_10 ?_
    refine lv_iload_n hx hb dX0_wise_13 rfl (lv_at hl 1 rfl) ?_
    obtain ⟨hi_14, hf⟩ := ck_some hf
    refine va_iald hx hb hC.1 hC.2.1 (31) 0 rfl rfl hi_14 dX0_wise_14 ?_
    refine lv_if_eq (tgt := 37) hx hb dX0_wise_15 (by decide) (fun c_15 => ?_) (fun c_15 => ?_)
    · have hf := if_t hf c_15
      refine lv_iconst (v := (-1)) hx hb dX0_wise_37 (by decide) ?_
      have e_1 := (Option.some.inj hf)
      subst e_1
      exact K H locs ls _ rfl hC dX0_wise_38
    · have hf := if_f hf c_15
      refine lv_iload_n hx hb dX0_wise_18 rfl (lv_at hl 2 rfl) ?_
      refine lv_iconst (v := 1) hx hb dX0_wise_19 (by decide) ?_
      refine lv_bipush (v := 6) hx hb dX0_wise_20 (by decide) ?_
      obtain ⟨r_22, hcall, hf⟩ := bnd_some hf
      refine hc_i (va_runS (As := [.int x2, .int 1, .int 6]) (rest := []) ⟨hx, hb, hml, hown, hts⟩ (c_x_in hcall) (va_cwS 3 hts (lw_S q358 q359 q48 q360) rfl rfl rfl (by decide +kernel) ⟨(Nat.le_trans (Nat.le_of_ble_eq_true rfl) hRf), (Nat.le_trans (Nat.le_of_ble_eq_true rfl) hRl)⟩) (pre_S (fun _ _ _ _ h => h) (fun _ _ _ => trivial) hC) rfl rfl hl.1 rfl (lv_room (Nat.le_of_ble_eq_true rfl)) dX0_wise_22 ⟨hRc, hRs⟩) hA hC (fun H locs hC => ?_)
      refine lv_if_eq (tgt := 37) hx hb dX0_wise_25 (by decide) (fun c_25 => ?_) (fun c_25 => ?_)
      · have hf := if_t hf c_25
        refine lv_iconst (v := (-1)) hx hb dX0_wise_37 (by decide) ?_
        have e_1 := (Option.some.inj hf)
        subst e_1
        exact K H locs ls _ rfl hC dX0_wise_38
      · have hf := if_f hf c_25
        refine lv_iload_n hx hb dX0_wise_28 rfl (lv_at hl 3 rfl) ?_
        refine lv_iconst (v := 1) hx hb dX0_wise_29 (by decide) ?_
        refine lv_iconst (v := 5) hx hb dX0_wise_30 (by decide) ?_
        obtain ⟨r_31, hcall, hf⟩ := bnd_some hf
        refine hc_i (va_runS (As := [.int x3, .int 1, .int 5]) (rest := []) ⟨hx, hb, hml, hown, hts⟩ (c_x_in hcall) (va_cwS 3 hts (lw_S q358 q359 q48 q360) rfl rfl rfl (by decide +kernel) ⟨(Nat.le_trans (Nat.le_of_ble_eq_true rfl) hRf), (Nat.le_trans (Nat.le_of_ble_eq_true rfl) hRl)⟩) (pre_S (fun _ _ _ _ h => h) (fun _ _ _ => trivial) hC) rfl rfl hl.1 rfl (lv_room (Nat.le_of_ble_eq_true rfl)) dX0_wise_31 ⟨hRc, hRs⟩) hA hC (fun H locs hC => ?_)
        refine lv_if_ne (tgt := 39) hx hb dX0_wise_34 (by decide) (fun c_34 => ?_) (fun c_34 => ?_)
        · have hf := if_f hf c_34
          refine lv_aload_n hx hb dX0_wise_39 rfl (lv_at hl 0 rfl) ?_
          refine lv_iload_n hx hb dX0_wise_40 rfl (lv_at hl 1 rfl) ?_
          refine lv_iload_n hx hb dX0_wise_41 rfl (lv_at hl 2 rfl) ?_
          refine lv_iload_n hx hb dX0_wise_42 rfl (lv_at hl 3 rfl) ?_
          refine lv_iconst (v := 0) hx hb dX0_wise_43 (by decide) ?_
          refine lv_iconst (v := 0) hx hb dX0_wise_44 (by decide) ?_
          obtain ⟨r_45, hcall, hf⟩ := bnd_some hf
          refine hc_l (va_runV (C := RX0) (As := [.int x1, .int x2, .int x3, .int 0, .int 0]) (rest := []) ⟨hx, hb, hml, hown, hts⟩ (c_x_taken7 hcall) (cwV 5 hts (lw_V q693 q695 qs20 q48 q696) rfl rfl rfl (by decide +kernel) ⟨(Nat.le_trans (Nat.le_of_ble_eq_true rfl) hRf), (Nat.le_trans (Nat.le_of_ble_eq_true rfl) hRl)⟩) (pre_V (q0 := 26) (ci := 0) NX.calling (fun U _ hW => NX.warm hW hN) hC rfl rfl) rfl rfl hl.1 rfl (lv_room (Nat.le_of_ble_eq_true rfl)) dX0_wise_45 ⟨hRc, hRs⟩) hA hC (fun H locs hC => ?_)
          refine lv_aload_n hx hb dX0_wise_48 rfl (lv_at hl 0 rfl) ?_
          refine lv_iload_n hx hb dX0_wise_49 rfl (lv_at hl 2 rfl) ?_
          refine lv_iconst (v := 1) hx hb dX0_wise_50 (by decide) ?_
          refine lv_isub hx hb dX0_wise_51 ?_
          refine lv_iload_n hx hb dX0_wise_52 rfl (lv_at hl 3 rfl) ?_
          refine lv_iconst (v := 0) hx hb dX0_wise_53 (by decide) ?_
          refine lv_iconst (v := 0) hx hb dX0_wise_54 (by decide) ?_
          obtain ⟨r_55, hcall, hf⟩ := bnd_some hf
          refine hc_l (va_runV (C := RX0) (As := [.int (x2 - 1), .int x3, .int 0, .int 0]) (rest := [.long r_45]) ⟨hx, hb, hml, hown, hts⟩ (c_x_mean 7 _ _ _ _ _ _ hcall) (cwV 4 hts (lw_V q689 q691 qs19 q48 q692) rfl rfl rfl (by decide +kernel) ⟨(Nat.le_trans (Nat.le_of_ble_eq_true rfl) hRf), (Nat.le_trans (Nat.le_of_ble_eq_true rfl) hRl)⟩) (pre_V (q0 := 26) (ci := 0) NX.calling (fun U _ hW => NX.warm hW hN) hC rfl rfl) rfl rfl hl.1 rfl (lv_room (Nat.le_of_ble_eq_true rfl)) dX0_wise_55 ⟨hRc, hRs⟩) hA hC (fun H locs hC => ?_)
          refine W.lcmp hx hb dX0_wise_58 ?_
          refine lv_if_lt (tgt := 66) hx hb dX0_wise_59 (by decide) (fun c_59 => ?_) (fun c_59 => ?_)
          · have hf := if_t hf c_59
            refine lv_iconst (v := 0) hx hb dX0_wise_66 (by decide) ?_
            have e_1 := (Option.some.inj hf)
            subst e_1
            exact K H locs ls _ rfl hC dX0_wise_67
          · have hf := if_f hf c_59
            refine lv_iconst (v := 1) hx hb dX0_wise_62 (by decide) ?_
            refine lv_goto (tgt := 67) hx hb dX0_wise_63 (by decide) ?_
            have e_1 := (Option.some.inj hf)
            subst e_1
            exact K H locs ls _ rfl hC dX0_wise_67
        · have hf := if_t hf c_34
          refine lv_iconst (v := (-1)) hx hb dX0_wise_37 (by decide) ?_
          have e_1 := (Option.some.inj hf)
          subst e_1
          exact K H locs ls _ rfl hC dX0_wise_38
set_option maxRecDepth 100000 in
theorem c_x_wise {l : Launch} {sz : Nat} {D : va_G} {d : Nat → ClassId} {ad : Nat → Nat} {ba : Nat → Nat} {ta : Nat → Nat} {imgs : va_W} {room : Nat → Int32} {work : Nat → Int32} {price : Nat → Int32} {whom : Nat → Int32} {bday : Nat → Int32} {units : Nat → Int32} {worth : Nat → Int32} {due : Nat → Int32} {under : Nat → Int32} {people : Int32} {askings : Int32} {hangs : Int32} {items : Int32} {many : Nat → Int32} {slip : Nat → Nat → Int32} {became : Nat → Int32} {left : Nat → Int32} {what : Nat → Int32} {which : Nat → Int32} {whose : Nat → Int32} {place : Nat → Int32} {deeds : Int32} {day : Int32} {won : Int32} {lost : Int32} {kept : Int32} {text : Nat → Int32} {typed : Int32} {rest : Nat → Int32} {bestSet : Int32} {tenths : Nat → Int32} {sortWorth : Nat → Int32} {sortDays : Nat → Int32} {row : Nat → Int32} {trace : Int64} {x1 : Int32} {x2 : Int32} {x3 : Int32} {r : Int32} (hf : x_wise tenths sortWorth sortDays x1 x2 x3 = some r) : MI l yX0_wise (ws_ yX0_wise cX0_wise 4 (some .int)) { frames := 18, cells := 0, slots := 0, locals := 556 } D gcl (gty d) NX (xw d ad ba ta imgs room work price whom bday units worth due under people askings hangs items many slip became left what which whose place deeds day won lost kept text typed rest bestSet tenths sortWorth sortDays row trace) (xw d ad ba ta imgs room work price whom bday units worth due under people askings hangs items many slip became left what which whose place deeds day won lost kept text typed rest bestSet tenths sortWorth sortDays row trace) sz [.ref (ad 0), .int x1, .int x2, .int x3] r :=
  MI.of (by decide) [.ref (ad 0), .int x1, .int x2, .int x3] [(0, .ref (ad 0)), (1, .int x1), (2, .int x2), (3, .int x3)] (Nat.le_of_ble_eq_true rfl) rfl (fun p e s m below meth c ls Q hx hb hml hown hts hN hA hC hl K => w_x_wise hx hb hml hown hts hN hA (Nat.le_refl _) (Nat.le_refl _) (Nat.le_refl _) (Nat.le_refl _) hf hC hl K)

