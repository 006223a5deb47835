set_option maxRecDepth 100000

def m_takeItem (text : Nat → Int32) (texted : Int32) (at_ : Int32) (fault : Int32) (readPeople : Int32) (readPerson : Nat → Int32) (readAskings : Int32) (readAsked : Nat → Int32) (readHangs : Int32) (readHung : Nat → Int32) : Option (Int32 × Int32 × Int32 × (Nat → Int32) × Int32 × (Nat → Int32) × Int32 × (Nat → Int32)) :=
  bnd2 (m_takeLetters text texted at_) fun r_6 at__6 =>
  bnd8 (if (lg_cmp r_6 542723566) = 0 then (if 4 ≤ readPeople then (if (lg_cmp r_6 1643) = 0 then (if 8 ≤ readAskings then (if (lg_cmp r_6 8435955) = 0 then (if 8 ≤ readHangs then (some (at__6, at_, readPeople, readPerson, readAskings, readAsked, readHangs, readHung)) else
  bnd3 (m_takeNumber text texted at__6 fault 0 (readAskings - 1) (-1)) fun r_267 at__267 fault_267 =>
  ck (2 * readHangs) 16 <| ck (2 * readHangs) 16 <| bnd3 (m_takeNumber text texted at__267 fault_267 0 (readAskings - 1) ((upd readHung (2 * readHangs).toNatClampNeg r_267) (2 * readHangs).toNatClampNeg)) fun r_302 at__302 fault_302 =>
  ck ((2 * readHangs) + 1) 16 <| some (at__302, fault_302, readPeople, readPerson, readAskings, readAsked, readHangs + 1, upd (upd readHung (2 * readHangs).toNatClampNeg r_267) ((2 * readHangs) + 1).toNatClampNeg r_302)) else
  some (at__6, at_, readPeople, readPerson, readAskings, readAsked, readHangs, readHung)) else
  bnd3 (m_takeNumber text texted at__6 fault 0 (readPeople - 1) (-1)) fun r_138 at__138 fault_138 =>
  ck (5 * readAskings) 40 <| bnd3 (m_takeNumber text texted at__138 fault_138 0 9 (-1)) fun r_155 at__155 fault_155 =>
  ck ((5 * readAskings) + 1) 40 <| bnd3 (m_takeNumber text texted at__155 fault_155 1 9 (-1)) fun r_172 at__172 fault_172 =>
  ck ((5 * readAskings) + 2) 40 <| bnd3 (m_takeNumber text texted at__172 fault_172 1 99 (-1)) fun r_189 at__189 fault_189 =>
  ck ((5 * readAskings) + 3) 40 <| ck ((5 * readAskings) + 1) 40 <| bnd3 (m_takeNumber text texted at__189 fault_189 ((upd (upd (upd (upd readAsked (5 * readAskings).toNatClampNeg r_138) ((5 * readAskings) + 1).toNatClampNeg r_155) ((5 * readAskings) + 2).toNatClampNeg r_172) ((5 * readAskings) + 3).toNatClampNeg r_189) ((5 * readAskings) + 1).toNatClampNeg) 9 (-1)) fun r_214 at__214 fault_214 =>
  ck ((5 * readAskings) + 4) 40 <| some (at__214, fault_214, readPeople, readPerson, readAskings + 1, upd (upd (upd (upd (upd readAsked (5 * readAskings).toNatClampNeg r_138) ((5 * readAskings) + 1).toNatClampNeg r_155) ((5 * readAskings) + 2).toNatClampNeg r_172) ((5 * readAskings) + 3).toNatClampNeg r_189) ((5 * readAskings) + 4).toNatClampNeg r_214, readHangs, readHung)) else
  if (lg_cmp r_6 8435955) = 0 then (if 8 ≤ readHangs then (some (at__6, at_, readPeople, readPerson, readAskings, readAsked, readHangs, readHung)) else
  bnd3 (m_takeNumber text texted at__6 fault 0 (readAskings - 1) (-1)) fun r_267 at__267 fault_267 =>
  ck (2 * readHangs) 16 <| ck (2 * readHangs) 16 <| bnd3 (m_takeNumber text texted at__267 fault_267 0 (readAskings - 1) ((upd readHung (2 * readHangs).toNatClampNeg r_267) (2 * readHangs).toNatClampNeg)) fun r_302 at__302 fault_302 =>
  ck ((2 * readHangs) + 1) 16 <| some (at__302, fault_302, readPeople, readPerson, readAskings, readAsked, readHangs + 1, upd (upd readHung (2 * readHangs).toNatClampNeg r_267) ((2 * readHangs) + 1).toNatClampNeg r_302)) else
  some (at__6, at_, readPeople, readPerson, readAskings, readAsked, readHangs, readHung)) else
  bnd3 (m_takeNumber text texted at__6 fault 1 5 (-1)) fun r_40 at__40 fault_40 =>
  ck (3 * readPeople) 12 <| bnd3 (m_takeNumber text texted at__40 fault_40 1 3 (-1)) fun r_60 at__60 fault_60 =>
  ck ((3 * readPeople) + 1) 12 <| bnd3 (m_takeNumber text texted at__60 fault_60 0 9 (-1)) fun r_81 at__81 fault_81 =>
  ck ((3 * readPeople) + 2) 12 <| some (at__81, fault_81, readPeople + 1, upd (upd (upd readPerson (3 * readPeople).toNatClampNeg r_40) ((3 * readPeople) + 1).toNatClampNeg r_60) ((3 * readPeople) + 2).toNatClampNeg r_81, readAskings, readAsked, readHangs, readHung)) else
  if (lg_cmp r_6 1643) = 0 then (if 8 ≤ readAskings then (if (lg_cmp r_6 8435955) = 0 then (if 8 ≤ readHangs then (some (at__6, at_, readPeople, readPerson, readAskings, readAsked, readHangs, readHung)) else
  bnd3 (m_takeNumber text texted at__6 fault 0 (readAskings - 1) (-1)) fun r_267 at__267 fault_267 =>
  ck (2 * readHangs) 16 <| ck (2 * readHangs) 16 <| bnd3 (m_takeNumber text texted at__267 fault_267 0 (readAskings - 1) ((upd readHung (2 * readHangs).toNatClampNeg r_267) (2 * readHangs).toNatClampNeg)) fun r_302 at__302 fault_302 =>
  ck ((2 * readHangs) + 1) 16 <| some (at__302, fault_302, readPeople, readPerson, readAskings, readAsked, readHangs + 1, upd (upd readHung (2 * readHangs).toNatClampNeg r_267) ((2 * readHangs) + 1).toNatClampNeg r_302)) else
  some (at__6, at_, readPeople, readPerson, readAskings, readAsked, readHangs, readHung)) else
  bnd3 (m_takeNumber text texted at__6 fault 0 (readPeople - 1) (-1)) fun r_138 at__138 fault_138 =>
  ck (5 * readAskings) 40 <| bnd3 (m_takeNumber text texted at__138 fault_138 0 9 (-1)) fun r_155 at__155 fault_155 =>
  ck ((5 * readAskings) + 1) 40 <| bnd3 (m_takeNumber text texted at__155 fault_155 1 9 (-1)) fun r_172 at__172 fault_172 =>
  ck ((5 * readAskings) + 2) 40 <| bnd3 (m_takeNumber text texted at__172 fault_172 1 99 (-1)) fun r_189 at__189 fault_189 =>
  ck ((5 * readAskings) + 3) 40 <| ck ((5 * readAskings) + 1) 40 <| bnd3 (m_takeNumber text texted at__189 fault_189 ((upd (upd (upd (upd readAsked (5 * readAskings).toNatClampNeg r_138) ((5 * readAskings) + 1).toNatClampNeg r_155) ((5 * readAskings) + 2).toNatClampNeg r_172) ((5 * readAskings) + 3).toNatClampNeg r_189) ((5 * readAskings) + 1).toNatClampNeg) 9 (-1)) fun r_214 at__214 fault_214 =>
  ck ((5 * readAskings) + 4) 40 <| some (at__214, fault_214, readPeople, readPerson, readAskings + 1, upd (upd (upd (upd (upd readAsked (5 * readAskings).toNatClampNeg r_138) ((5 * readAskings) + 1).toNatClampNeg r_155) ((5 * readAskings) + 2).toNatClampNeg r_172) ((5 * readAskings) + 3).toNatClampNeg r_189) ((5 * readAskings) + 4).toNatClampNeg r_214, readHangs, readHung)) else
  if (lg_cmp r_6 8435955) = 0 then (if 8 ≤ readHangs then (some (at__6, at_, readPeople, readPerson, readAskings, readAsked, readHangs, readHung)) else
  bnd3 (m_takeNumber text texted at__6 fault 0 (readAskings - 1) (-1)) fun r_267 at__267 fault_267 =>
  ck (2 * readHangs) 16 <| ck (2 * readHangs) 16 <| bnd3 (m_takeNumber text texted at__267 fault_267 0 (readAskings - 1) ((upd readHung (2 * readHangs).toNatClampNeg r_267) (2 * readHangs).toNatClampNeg)) fun r_302 at__302 fault_302 =>
  ck ((2 * readHangs) + 1) 16 <| some (at__302, fault_302, readPeople, readPerson, readAskings, readAsked, readHangs + 1, upd (upd readHung (2 * readHangs).toNatClampNeg r_267) ((2 * readHangs) + 1).toNatClampNeg r_302)) else
  some (at__6, at_, readPeople, readPerson, readAskings, readAsked, readHangs, readHung)) (fun (at__324 : Int32) (fault_324 : Int32) (readPeople_324 : Int32) (readPerson_324 : Nat → Int32) (readAskings_324 : Int32) (readAsked_324 : Nat → Int32) (readHangs_324 : Int32) (readHung_324 : Nat → Int32) =>
  bnd2 (if 0 ≤ fault_324 then (some (at__324, fault_324)) else
  bnd2 (m_isEnd text texted at__324) fun r_332 at__332 =>
  if r_332 = 0 then (ck at__332 300 <| if (text at__332.toNatClampNeg) = 59 then (some (at__332, fault_324)) else
  some (at__332, at__332)) else
  some (at__332, at__332)) (fun (at__360 : Int32) (fault_360 : Int32) =>
  some (at__360 + 1, fault_360, readPeople_324, readPerson_324, readAskings_324, readAsked_324, readHangs_324, readHung_324)))
set_option maxHeartbeats 4000000 in
set_option maxRecDepth 100000 in
theorem w_m_takeItem {p : Program} {l : Launch} {e : Env} {R : Room} {s : State} {m : MethodId} {args : Array Value} {below : List Frame} {meth : Method} {c : Code} {H : Heap} {locs : List Loc} {cells slots : Nat} {Q : State → Prop} {A : Nat → Prop} {ls : Array Slot} {D : va_G} {d : Nat → ClassId} {ad : Nat → Nat} {w : Nat → Int32} {isKept : Nat → Int32} {people : Int32} {room : Nat → Int32} {work : Nat → Int32} {price : Nat → Int32} {askings : Int32} {asked : Nat → Int32} {hangs : Int32} {hung : Nat → Int32} {tenths : Nat → Int32} {sortWorth : Nat → Int32} {sortDays : Nat → Int32} {sorts : Int32} {text : Nat → Int32} {texted : Int32} {trace : Int64} {at_ : Int32} {fault : Int32} {readPeople : Int32} {readPerson : Nat → Int32} {readAskings : Int32} {readAsked : Nat → Int32} {readHangs : Int32} {readHung : Nat → Int32} {rest : Nat → Int32} {brings : Nat → Int64} {later : Nat → Int64} {at__r : Int32} {fault_r : Int32} {readPeople_r : Int32} {readPerson_r : Nat → Int32} {readAskings_r : Int32} {readAsked_r : Nat → Int32} {readHangs_r : Int32} {readHung_r : Nat → Int32} (hx : p.tables.exec = Jvm.exec) (hb : c.code = cX10_takeItem) (hml : c.maxLocals = 5) (hown : s.vm.findClass RX10 = some m.cls) (hts : ∀ w ∈ lw_all, w.before args s = true) (hA : ∀ q, s.heap.size ≤ q → A q) (hRf : 2 ≤ R.frames) (hRl : 51 ≤ R.locals) (hRc : cells ≤ R.cells) (hRs : slots ≤ R.slots) (hf : m_takeItem text texted at_ fault readPeople readPerson readAskings readAsked readHangs readHung = some (at__r, fault_r, readPeople_r, readPerson_r, readAskings_r, readAsked_r, readHangs_r, readHung_r)) (hC : HC D gcl (gty d) A (mw d ad w isKept people room work price askings asked hangs hung tenths sortWorth sortDays sorts text texted trace at_ fault readPeople readPerson readAskings readAsked readHangs readHung rest brings later) s H locs) (hl : lv_has ls 5 [(0, .ref (ad 0))]) (K : ∀ (H : Heap) (locs : List Loc) (ls : Array Slot) (pc : Nat), True → HC D gcl (gty d) A (mw d ad w isKept people room work price askings asked hangs hung tenths sortWorth sortDays sorts text texted trace at__r fault_r readPeople_r readPerson_r readAskings_r readAsked_r readHangs_r readHung_r rest brings later) s H locs → decode cX10_takeItem pc = .ok (.return_, 1) → W p l e R s m args below meth c H locs cells slots Q (F0 m pc ls [])) : W p l e R s m args below meth c H locs cells slots Q (F0 m 0 ls []) := by
  unfold m_takeItem at hf
  refine lv_aload_n hx hb dX10_takeItem_0 rfl (lv_at hl 0 rfl) ?_
  refine va_get (ci := 10) (v := .int at_) (C := RX10) (T := TX10) (N := 28) hx hb hts in_X10 hown hC.1 hC.2.1 0 rfl rfl 17 (by decide) (hts _ q823) (fun _ h9 => h9) rfl dX10_takeItem_1 ?_
  refine lv_istore_n (lv' := [(1, .int at_), (0, .ref (ad 0))]) hx hb dX10_takeItem_4 rfl hl (by decide) rfl (fun ls hl => ?_)
  refine lv_aload_n hx hb dX10_takeItem_5 rfl (lv_at hl 1 rfl) ?_
  obtain ⟨r_6, at__6, hcall, hf⟩ := bnd2_some hf
  refine hc_l (va_runV (C := RX10) (As := []) (rest := []) ⟨hx, hb, hml, hown, hts⟩ (c_m_takeLetters hcall) (cwV 0 hts (lw_V q918 q920 qs25 q59 q921) rfl rfl rfl (by decide +kernel) ⟨(Nat.le_trans (Nat.le_of_ble_eq_true rfl) hRf), (Nat.le_trans (Nat.le_of_ble_eq_true rfl) hRl)⟩) (pre_V (q0 := 0) (ci := 10) (fun _ _ _ _ h => h) (fun _ _ _ => trivial) hC rfl rfl) rfl rfl hl.1 rfl (lv_room (Nat.le_of_ble_eq_true rfl)) dX10_takeItem_6 ⟨hRc, hRs⟩) hA hC (fun H locs hC => ?_)
  refine lv_lstore_n (lv' := [(2, .long r_6), (1, .int at_), (0, .ref (ad 0))]) hx hb dX10_takeItem_9 rfl hl (by decide) rfl (fun ls hl => ?_)
  refine lv_lload_n hx hb dX10_takeItem_10 rfl (lv_at hl 0 rfl) ?_
  refine lv_ldc2 (v := 542723566) hx hb hown (hts _ q926) dX10_takeItem_11 ?_
  refine W.lcmp hx hb dX10_takeItem_14 ?_
  obtain ⟨at__324, fault_324, readPeople_324, readPerson_324, readAskings_324, readAsked_324, readHangs_324, readHung_324, hj, hf⟩ := bnd8_some hf
  have J_324 : ∀ (H : Heap) (locs : List Loc) (ls : Array Slot), HC D gcl (gty d) A (mw d ad w isKept people room work price askings asked hangs hung tenths sortWorth sortDays sorts text texted trace at__324 fault_324 readPeople_324 readPerson_324 readAskings_324 readAsked_324 readHangs_324 readHung_324 rest brings later) s H locs → lv_has ls 5 [(0, .ref (ad 0))] → W p l e R s m args below meth c H locs cells slots Q (F0 m 324 ls []) := by
    intro H locs ls hC hl
    refine lv_aload_n hx hb dX10_takeItem_324 rfl (lv_at hl 0 rfl) ?_
    refine va_get (ci := 10) (v := .int fault_324) (C := RX10) (T := TX10) (N := 28) hx hb hts in_X10 hown hC.1 hC.2.1 0 rfl rfl 18 (by decide) (hts _ q824) (fun _ h9 => h9) rfl dX10_takeItem_325 ?_
    obtain ⟨at__360, fault_360, hj, hf⟩ := bnd2_some hf
    have J_360 : ∀ (H : Heap) (locs : List Loc) (ls : Array Slot), HC D gcl (gty d) A (mw d ad w isKept people room work price askings asked hangs hung tenths sortWorth sortDays sorts text texted trace at__360 fault_360 readPeople_324 readPerson_324 readAskings_324 readAsked_324 readHangs_324 readHung_324 rest brings later) s H locs → lv_has ls 5 [(0, .ref (ad 0))] → W p l e R s m args below meth c H locs cells slots Q (F0 m 360 ls []) := by
      intro H locs ls hC hl
      refine lv_aload_n hx hb dX10_takeItem_360 rfl (lv_at hl 0 rfl) ?_
      refine lv_dup hx hb dX10_takeItem_361 rfl ?_
      refine va_get (ci := 10) (v := .int at__360) (C := RX10) (T := TX10) (N := 28) hx hb hts in_X10 hown hC.1 hC.2.1 0 rfl rfl 17 (by decide) (hts _ q823) (fun _ h9 => h9) rfl dX10_takeItem_362 ?_
      refine lv_iconst (v := 1) hx hb dX10_takeItem_365 (by decide) ?_
      refine lv_iadd hx hb dX10_takeItem_366 ?_
      refine va_put (ci := 10) (v := .int (at__360 + 1)) (ty := .int) (C := RX10) (T := TX10) (N := 28) hx hb hts in_X10 tyX10 tyX10_ok nmX10 hown hC.1 hC.2.1 hC.2.2.1 hC.2.2.2 0 rfl rfl 17 (by decide) (hts _ q823) (fun _ h9 => h9) rfl (tyX10_ok 17 (by decide)) rfl rfl (Nat.le_of_ble_eq_true rfl) dX10_takeItem_367 (fun H locs hP hD hS => ?_)
      have hC : HC D gcl (gty d) A (mw d ad w isKept people room work price askings asked hangs hung tenths sortWorth sortDays sorts text texted trace (at__360 + 1) fault_360 readPeople_324 readPerson_324 readAskings_324 readAsked_324 readHangs_324 readHung_324 rest brings later) s H locs := ⟨hC.1, hP, hD, hS⟩
      obtain ⟨e_1, e_2, e_3, e_4, e_5, e_6, e_7, e_8⟩ := so_8 (Option.some.inj hf)
      subst e_1
      subst e_2
      subst e_3
      subst e_4
      subst e_5
      subst e_6
      subst e_7
      subst e_8
      exact K H locs ls _ trivial hC dX10_takeItem_370
    have hf := hj
    refine lv_if_ge (tgt := 360) hx hb dX10_takeItem_328 (by decide) (fun c_328 => ?_) (fun c_328 => ?_)
    · have hf := if_t hf c_328
      obtain ⟨e_1, e_2⟩ := so_2 (Option.some.inj hf)
      subst e_1
      subst e_2
      exact J_360 H locs ls hC (lv_sub hl [0] rfl)
    · have hf := if_f hf c_328
      refine lv_aload_n hx hb dX10_takeItem_331 rfl (lv_at hl 0 rfl) ?_
      obtain ⟨r_332, at__332, hcall, hf⟩ := bnd2_some hf
      refine hc_i (va_runV (C := RX10) (As := []) (rest := []) ⟨hx, hb, hml, hown, hts⟩ (c_m_isEnd hcall) (cwV 0 hts (lw_V q910 q912 qs23 q59 q913) rfl rfl rfl (by decide +kernel) ⟨(Nat.le_trans (Nat.le_of_ble_eq_true rfl) hRf), (Nat.le_trans (Nat.le_of_ble_eq_true rfl) hRl)⟩) (pre_V (q0 := 0) (ci := 10) (fun _ _ _ _ h => h) (fun _ _ _ => trivial) hC rfl rfl) rfl rfl hl.1 rfl (lv_room (Nat.le_of_ble_eq_true rfl)) dX10_takeItem_332 ⟨hRc, hRs⟩) hA hC (fun H locs hC => ?_)
      refine lv_if_ne (tgt := 352) hx hb dX10_takeItem_335 (by decide) (fun c_335 => ?_) (fun c_335 => ?_)
      · have hf := if_f hf c_335
        refine lv_aload_n hx hb dX10_takeItem_352 rfl (lv_at hl 0 rfl) ?_
        refine lv_aload_n hx hb dX10_takeItem_353 rfl (lv_at hl 0 rfl) ?_
        refine va_get (ci := 10) (v := .int at__332) (C := RX10) (T := TX10) (N := 28) hx hb hts in_X10 hown hC.1 hC.2.1 0 rfl rfl 17 (by decide) (hts _ q823) (fun _ h9 => h9) rfl dX10_takeItem_354 ?_
        refine va_put (ci := 10) (v := .int at__332) (ty := .int) (C := RX10) (T := TX10) (N := 28) hx hb hts in_X10 tyX10 tyX10_ok nmX10 hown hC.1 hC.2.1 hC.2.2.1 hC.2.2.2 0 rfl rfl 18 (by decide) (hts _ q824) (fun _ h9 => h9) rfl (tyX10_ok 18 (by decide)) rfl rfl (Nat.le_of_ble_eq_true rfl) dX10_takeItem_357 (fun H locs hP hD hS => ?_)
        have hC : HC D gcl (gty d) A (mw d ad w isKept people room work price askings asked hangs hung tenths sortWorth sortDays sorts text texted trace at__332 at__332 readPeople_324 readPerson_324 readAskings_324 readAsked_324 readHangs_324 readHung_324 rest brings later) s H locs := ⟨hC.1, hP, hD, hS⟩
        obtain ⟨e_1, e_2⟩ := so_2 (Option.some.inj hf)
        subst e_1
        subst e_2
        exact J_360 H locs ls hC (lv_sub hl [0] rfl)
      · have hf := if_t hf c_335
        refine lv_aload_n hx hb dX10_takeItem_338 rfl (lv_at hl 0 rfl) ?_
        refine va_get (ci := 10) (v := .ref (ad 11)) (C := RX10) (T := TX10) (N := 28) hx hb hts in_X10 hown hC.1 hC.2.1 0 rfl rfl 14 (by decide) (hts _ q820) (fun _ h9 => h9) rfl dX10_takeItem_339 ?_
        refine lv_aload_n hx hb dX10_takeItem_342 rfl (lv_at hl 0 rfl) ?_
        refine va_get (ci := 10) (v := .int at__332) (C := RX10) (T := TX10) (N := 28) hx hb hts in_X10 hown hC.1 hC.2.1 0 rfl rfl 17 (by decide) (hts _ q823) (fun _ h9 => h9) rfl dX10_takeItem_343 ?_
        obtain ⟨hi_346, hf⟩ := ck_some hf
        refine va_iald hx hb hC.1 hC.2.1 11 0 rfl rfl hi_346 dX10_takeItem_346 ?_
        refine lv_bipush (v := 59) hx hb dX10_takeItem_347 (by decide) ?_
        refine lv_icmp_eq (tgt := 360) hx hb dX10_takeItem_349 (by decide) (fun c_349 => ?_) (fun c_349 => ?_)
        · have hf := if_t hf c_349
          obtain ⟨e_1, e_2⟩ := so_2 (Option.some.inj hf)
          subst e_1
          subst e_2
          exact J_360 H locs ls hC (lv_sub hl [0] rfl)
        · have hf := if_f hf c_349
          refine lv_aload_n hx hb dX10_takeItem_352 rfl (lv_at hl 0 rfl) ?_
          refine lv_aload_n hx hb dX10_takeItem_353 rfl (lv_at hl 0 rfl) ?_
          refine va_get (ci := 10) (v := .int at__332) (C := RX10) (T := TX10) (N := 28) hx hb hts in_X10 hown hC.1 hC.2.1 0 rfl rfl 17 (by decide) (hts _ q823) (fun _ h9 => h9) rfl dX10_takeItem_354 ?_
          refine va_put (ci := 10) (v := .int at__332) (ty := .int) (C := RX10) (T := TX10) (N := 28) hx hb hts in_X10 tyX10 tyX10_ok nmX10 hown hC.1 hC.2.1 hC.2.2.1 hC.2.2.2 0 rfl rfl 18 (by decide) (hts _ q824) (fun _ h9 => h9) rfl (tyX10_ok 18 (by decide)) rfl rfl (Nat.le_of_ble_eq_true rfl) dX10_takeItem_357 (fun H locs hP hD hS => ?_)
          have hC : HC D gcl (gty d) A (mw d ad w isKept people room work price askings asked hangs hung tenths sortWorth sortDays sorts text texted trace at__332 at__332 readPeople_324 readPerson_324 readAskings_324 readAsked_324 readHangs_324 readHung_324 rest brings later) s H locs := ⟨hC.1, hP, hD, hS⟩
          obtain ⟨e_1, e_2⟩ := so_2 (Option.some.inj hf)
          subst e_1
          subst e_2
          exact J_360 H locs ls hC (lv_sub hl [0] rfl)
  have hf := hj
  refine lv_if_ne (tgt := 98) hx hb dX10_takeItem_15 (by decide) (fun c_15 => ?_) (fun c_15 => ?_)
  · have hf := if_f hf c_15
    refine lv_lload_n hx hb dX10_takeItem_98 rfl (lv_at hl 0 rfl) ?_
    refine lv_ldc2 (v := 1643) hx hb hown (hts _ q936) dX10_takeItem_99 ?_
    refine W.lcmp hx hb dX10_takeItem_102 ?_
    refine lv_if_ne (tgt := 231) hx hb dX10_takeItem_103 (by decide) (fun c_103 => ?_) (fun c_103 => ?_)
    · have hf := if_f hf c_103
      refine lv_lload_n hx hb dX10_takeItem_231 rfl (lv_at hl 0 rfl) ?_
      refine lv_ldc2 (v := 8435955) hx hb hown (hts _ q937) dX10_takeItem_232 ?_
      refine W.lcmp hx hb dX10_takeItem_235 ?_
      refine lv_if_ne (tgt := 319) hx hb dX10_takeItem_236 (by decide) (fun c_236 => ?_) (fun c_236 => ?_)
      · have hf := if_f hf c_236
        refine lv_aload_n hx hb dX10_takeItem_319 rfl (lv_at hl 2 rfl) ?_
        refine lv_iload_n hx hb dX10_takeItem_320 rfl (lv_at hl 1 rfl) ?_
        refine va_put (ci := 10) (v := .int at_) (ty := .int) (C := RX10) (T := TX10) (N := 28) hx hb hts in_X10 tyX10 tyX10_ok nmX10 hown hC.1 hC.2.1 hC.2.2.1 hC.2.2.2 0 rfl rfl 18 (by decide) (hts _ q824) (fun _ h9 => h9) rfl (tyX10_ok 18 (by decide)) rfl rfl (Nat.le_of_ble_eq_true rfl) dX10_takeItem_321 (fun H locs hP hD hS => ?_)
        have hC : HC D gcl (gty d) A (mw d ad w isKept people room work price askings asked hangs hung tenths sortWorth sortDays sorts text texted trace at__6 at_ readPeople readPerson readAskings readAsked readHangs readHung rest brings later) s H locs := ⟨hC.1, hP, hD, hS⟩
        obtain ⟨e_1, e_2, e_3, e_4, e_5, e_6, e_7, e_8⟩ := so_8 (Option.some.inj hf)
        subst e_1
        subst e_2
        subst e_3
        subst e_4
        subst e_5
        subst e_6
        subst e_7
        subst e_8
        exact J_324 H locs ls hC (lv_sub hl [2] rfl)
      · have hf := if_t hf c_236
        refine lv_aload_n hx hb dX10_takeItem_239 rfl (lv_at hl 2 rfl) ?_
        refine va_get (ci := 10) (v := .int readHangs) (C := RX10) (T := TX10) (N := 28) hx hb hts in_X10 hown hC.1 hC.2.1 0 rfl rfl 23 (by decide) (hts _ q829) (fun _ h9 => h9) rfl dX10_takeItem_240 ?_
        refine lv_bipush (v := 8) hx hb dX10_takeItem_243 (by decide) ?_
        refine lv_icmp_ge (tgt := 319) hx hb dX10_takeItem_245 (by decide) (fun c_245 => ?_) (fun c_245 => ?_)
        · have hf := if_t hf c_245
          refine lv_aload_n hx hb dX10_takeItem_319 rfl (lv_at hl 2 rfl) ?_
          refine lv_iload_n hx hb dX10_takeItem_320 rfl (lv_at hl 1 rfl) ?_
          refine va_put (ci := 10) (v := .int at_) (ty := .int) (C := RX10) (T := TX10) (N := 28) hx hb hts in_X10 tyX10 tyX10_ok nmX10 hown hC.1 hC.2.1 hC.2.2.1 hC.2.2.2 0 rfl rfl 18 (by decide) (hts _ q824) (fun _ h9 => h9) rfl (tyX10_ok 18 (by decide)) rfl rfl (Nat.le_of_ble_eq_true rfl) dX10_takeItem_321 (fun H locs hP hD hS => ?_)
          have hC : HC D gcl (gty d) A (mw d ad w isKept people room work price askings asked hangs hung tenths sortWorth sortDays sorts text texted trace at__6 at_ readPeople readPerson readAskings readAsked readHangs readHung rest brings later) s H locs := ⟨hC.1, hP, hD, hS⟩
          obtain ⟨e_1, e_2, e_3, e_4, e_5, e_6, e_7, e_8⟩ := so_8 (Option.some.inj hf)
          subst e_1
          subst e_2
          subst e_3
          subst e_4
          subst e_5
          subst e_6
          subst e_7
          subst e_8
          exact J_324 H locs ls hC (lv_sub hl [2] rfl)
        · have hf := if_f hf c_245
          refine lv_aload_n hx hb dX10_takeItem_248 rfl (lv_at hl 2 rfl) ?_
          refine va_get (ci := 10) (v := .ref (ad 14)) (C := RX10) (T := TX10) (N := 28) hx hb hts in_X10 hown hC.1 hC.2.1 0 rfl rfl 24 (by decide) (hts _ q830) (fun _ h9 => h9) rfl dX10_takeItem_249 ?_
          refine lv_iconst (v := 2) hx hb dX10_takeItem_252 (by decide) ?_
          refine lv_aload_n hx hb dX10_takeItem_253 rfl (lv_at hl 2 rfl) ?_
          refine va_get (ci := 10) (v := .int readHangs) (C := RX10) (T := TX10) (N := 28) hx hb hts in_X10 hown hC.1 hC.2.1 0 rfl rfl 23 (by decide) (hts _ q829) (fun _ h9 => h9) rfl dX10_takeItem_254 ?_
          refine lv_imul hx hb dX10_takeItem_257 ?_
          refine lv_aload_n hx hb dX10_takeItem_258 rfl (lv_at hl 2 rfl) ?_
          refine lv_iconst (v := 0) hx hb dX10_takeItem_259 (by decide) ?_
          refine lv_aload_n hx hb dX10_takeItem_260 rfl (lv_at hl 2 rfl) ?_
          refine va_get (ci := 10) (v := .int readAskings) (C := RX10) (T := TX10) (N := 28) hx hb hts in_X10 hown hC.1 hC.2.1 0 rfl rfl 21 (by decide) (hts _ q827) (fun _ h9 => h9) rfl dX10_takeItem_261 ?_
          refine lv_iconst (v := 1) hx hb dX10_takeItem_264 (by decide) ?_
          refine lv_isub hx hb dX10_takeItem_265 ?_
          refine lv_iconst (v := (-1)) hx hb dX10_takeItem_266 (by decide) ?_
          obtain ⟨r_267, at__267, fault_267, hcall, hf⟩ := bnd3_some hf
          refine hc_i (va_runV (C := RX10) (As := [.int 0, .int (readAskings - 1), .int (-1)]) (rest := [.int (2 * readHangs), .ref (ad 14)]) ⟨hx, hb, hml, hown, hts⟩ (c_m_takeNumber hcall) (cwV 3 hts (lw_V q927 q929 qs26 q59 q930) rfl rfl rfl (by decide +kernel) ⟨(Nat.le_trans (Nat.le_of_ble_eq_true rfl) hRf), (Nat.le_trans (Nat.le_of_ble_eq_true rfl) hRl)⟩) (pre_V (q0 := 0) (ci := 10) (fun _ _ _ _ h => h) (fun _ _ _ => trivial) hC rfl rfl) rfl rfl hl.1 rfl (lv_room (Nat.le_of_ble_eq_true rfl)) dX10_takeItem_267 ⟨hRc, hRs⟩) hA hC (fun H locs hC => ?_)
          obtain ⟨hi_270, hf⟩ := ck_some hf
          refine va_iast hx hb hC.1 hC.2.1 hC.2.2.1 hC.2.2.2 14 0 rfl rfl hi_270 dX10_takeItem_270 (fun H locs hP hD hS => ?_)
          have hC : HC D gcl (gty d) A (mw d ad w isKept people room work price askings asked hangs hung tenths sortWorth sortDays sorts text texted trace at__267 fault_267 readPeople readPerson readAskings readAsked readHangs (upd readHung (2 * readHangs).toNatClampNeg r_267) rest brings later) s H locs := ⟨hC.1, hP, hD, hS⟩
          refine lv_aload_n hx hb dX10_takeItem_271 rfl (lv_at hl 2 rfl) ?_
          refine va_get (ci := 10) (v := .ref (ad 14)) (C := RX10) (T := TX10) (N := 28) hx hb hts in_X10 hown hC.1 hC.2.1 0 rfl rfl 24 (by decide) (hts _ q830) (fun _ h9 => h9) rfl dX10_takeItem_272 ?_
          refine lv_iconst (v := 2) hx hb dX10_takeItem_275 (by decide) ?_
          refine lv_aload_n hx hb dX10_takeItem_276 rfl (lv_at hl 2 rfl) ?_
          refine va_get (ci := 10) (v := .int readHangs) (C := RX10) (T := TX10) (N := 28) hx hb hts in_X10 hown hC.1 hC.2.1 0 rfl rfl 23 (by decide) (hts _ q829) (fun _ h9 => h9) rfl dX10_takeItem_277 ?_
          refine lv_imul hx hb dX10_takeItem_280 ?_
          refine lv_iconst (v := 1) hx hb dX10_takeItem_281 (by decide) ?_
          refine lv_iadd hx hb dX10_takeItem_282 ?_
          refine lv_aload_n hx hb dX10_takeItem_283 rfl (lv_at hl 2 rfl) ?_
          refine lv_iconst (v := 0) hx hb dX10_takeItem_284 (by decide) ?_
          refine lv_aload_n hx hb dX10_takeItem_285 rfl (lv_at hl 2 rfl) ?_
          refine va_get (ci := 10) (v := .int readAskings) (C := RX10) (T := TX10) (N := 28) hx hb hts in_X10 hown hC.1 hC.2.1 0 rfl rfl 21 (by decide) (hts _ q827) (fun _ h9 => h9) rfl dX10_takeItem_286 ?_
          refine lv_iconst (v := 1) hx hb dX10_takeItem_289 (by decide) ?_
          refine lv_isub hx hb dX10_takeItem_290 ?_
          refine lv_aload_n hx hb dX10_takeItem_291 rfl (lv_at hl 2 rfl) ?_
          refine va_get (ci := 10) (v := .ref (ad 14)) (C := RX10) (T := TX10) (N := 28) hx hb hts in_X10 hown hC.1 hC.2.1 0 rfl rfl 24 (by decide) (hts _ q830) (fun _ h9 => h9) rfl dX10_takeItem_292 ?_
          refine lv_iconst (v := 2) hx hb dX10_takeItem_295 (by decide) ?_
          refine lv_aload_n hx hb dX10_takeItem_296 rfl (lv_at hl 2 rfl) ?_
          refine va_get (ci := 10) (v := .int readHangs) (C := RX10) (T := TX10) (N := 28) hx hb hts in_X10 hown hC.1 hC.2.1 0 rfl rfl 23 (by decide) (hts _ q829) (fun _ h9 => h9) rfl dX10_takeItem_297 ?_
          refine lv_imul hx hb dX10_takeItem_300 ?_
          obtain ⟨hi_301, hf⟩ := ck_some hf
          refine va_iald hx hb hC.1 hC.2.1 14 0 rfl rfl hi_301 dX10_takeItem_301 ?_
          obtain ⟨r_302, at__302, fault_302, hcall, hf⟩ := bnd3_some hf
          refine hc_i (va_runV (C := RX10) (As := [.int 0, .int (readAskings - 1), .int ((upd readHung (2 * readHangs).toNatClampNeg r_267) (2 * readHangs).toNatClampNeg)]) (rest := [.int ((2 * readHangs) + 1), .ref (ad 14)]) ⟨hx, hb, hml, hown, hts⟩ (c_m_takeNumber hcall) (cwV 3 hts (lw_V q927 q929 qs26 q59 q930) rfl rfl rfl (by decide +kernel) ⟨(Nat.le_trans (Nat.le_of_ble_eq_true rfl) hRf), (Nat.le_trans (Nat.le_of_ble_eq_true rfl) hRl)⟩) (pre_V (q0 := 0) (ci := 10) (fun _ _ _ _ h => h) (fun _ _ _ => trivial) hC rfl rfl) rfl rfl hl.1 rfl (lv_room (Nat.le_of_ble_eq_true rfl)) dX10_takeItem_302 ⟨hRc, hRs⟩) hA hC (fun H locs hC => ?_)
          obtain ⟨hi_305, hf⟩ := ck_some hf
          refine va_iast hx hb hC.1 hC.2.1 hC.2.2.1 hC.2.2.2 14 0 rfl rfl hi_305 dX10_takeItem_305 (fun H locs hP hD hS => ?_)
          have hC : HC D gcl (gty d) A (mw d ad w isKept people room work price askings asked hangs hung tenths sortWorth sortDays sorts text texted trace at__302 fault_302 readPeople readPerson readAskings readAsked readHangs (upd (upd readHung (2 * readHangs).toNatClampNeg r_267) ((2 * readHangs) + 1).toNatClampNeg r_302) rest brings later) s H locs := ⟨hC.1, hP, hD, hS⟩
          refine lv_aload_n hx hb dX10_takeItem_306 rfl (lv_at hl 2 rfl) ?_
          refine lv_dup hx hb dX10_takeItem_307 rfl ?_
          refine va_get (ci := 10) (v := .int readHangs) (C := RX10) (T := TX10) (N := 28) hx hb hts in_X10 hown hC.1 hC.2.1 0 rfl rfl 23 (by decide) (hts _ q829) (fun _ h9 => h9) rfl dX10_takeItem_308 ?_
          refine lv_iconst (v := 1) hx hb dX10_takeItem_311 (by decide) ?_
          refine lv_iadd hx hb dX10_takeItem_312 ?_
          refine va_put (ci := 10) (v := .int (readHangs + 1)) (ty := .int) (C := RX10) (T := TX10) (N := 28) hx hb hts in_X10 tyX10 tyX10_ok nmX10 hown hC.1 hC.2.1 hC.2.2.1 hC.2.2.2 0 rfl rfl 23 (by decide) (hts _ q829) (fun _ h9 => h9) rfl (tyX10_ok 23 (by decide)) rfl rfl (Nat.le_of_ble_eq_true rfl) dX10_takeItem_313 (fun H locs hP hD hS => ?_)
          have hC : HC D gcl (gty d) A (mw d ad w isKept people room work price askings asked hangs hung tenths sortWorth sortDays sorts text texted trace at__302 fault_302 readPeople readPerson readAskings readAsked (readHangs + 1) (upd (upd readHung (2 * readHangs).toNatClampNeg r_267) ((2 * readHangs) + 1).toNatClampNeg r_302) rest brings later) s H locs := ⟨hC.1, hP, hD, hS⟩
          refine lv_goto (tgt := 324) hx hb dX10_takeItem_316 (by decide) ?_
          obtain ⟨e_1, e_2, e_3, e_4, e_5, e_6, e_7, e_8⟩ := so_8 (Option.some.inj hf)
          subst e_1
          subst e_2
          subst e_3
          subst e_4
          subst e_5
          subst e_6
          subst e_7
          subst e_8
          exact J_324 H locs ls hC (lv_sub hl [2] rfl)
    · have hf := if_t hf c_103
      refine lv_aload_n hx hb dX10_takeItem_106 rfl (lv_at hl 2 rfl) ?_
      refine va_get (ci := 10) (v := .int readAskings) (C := RX10) (T := TX10) (N := 28) hx hb hts in_X10 hown hC.1 hC.2.1 0 rfl rfl 21 (by decide) (hts _ q827) (fun _ h9 => h9) rfl dX10_takeItem_107 ?_
      refine lv_bipush (v := 8) hx hb dX10_takeItem_110 (by decide) ?_
      refine lv_icmp_ge (tgt := 231) hx hb dX10_takeItem_112 (by decide) (fun c_112 => ?_) (fun c_112 => ?_)
      · have hf := if_t hf c_112
        refine lv_lload_n hx hb dX10_takeItem_231 rfl (lv_at hl 0 rfl) ?_
        refine lv_ldc2 (v := 8435955) hx hb hown (hts _ q937) dX10_takeItem_232 ?_
        refine W.lcmp hx hb dX10_takeItem_235 ?_
        refine lv_if_ne (tgt := 319) hx hb dX10_takeItem_236 (by decide) (fun c_236 => ?_) (fun c_236 => ?_)
        · have hf := if_f hf c_236
          refine lv_aload_n hx hb dX10_takeItem_319 rfl (lv_at hl 2 rfl) ?_
          refine lv_iload_n hx hb dX10_takeItem_320 rfl (lv_at hl 1 rfl) ?_
          refine va_put (ci := 10) (v := .int at_) (ty := .int) (C := RX10) (T := TX10) (N := 28) hx hb hts in_X10 tyX10 tyX10_ok nmX10 hown hC.1 hC.2.1 hC.2.2.1 hC.2.2.2 0 rfl rfl 18 (by decide) (hts _ q824) (fun _ h9 => h9) rfl (tyX10_ok 18 (by decide)) rfl rfl (Nat.le_of_ble_eq_true rfl) dX10_takeItem_321 (fun H locs hP hD hS => ?_)
          have hC : HC D gcl (gty d) A (mw d ad w isKept people room work price askings asked hangs hung tenths sortWorth sortDays sorts text texted trace at__6 at_ readPeople readPerson readAskings readAsked readHangs readHung rest brings later) s H locs := ⟨hC.1, hP, hD, hS⟩
          obtain ⟨e_1, e_2, e_3, e_4, e_5, e_6, e_7, e_8⟩ := so_8 (Option.some.inj hf)
          subst e_1
          subst e_2
          subst e_3
          subst e_4
          subst e_5
          subst e_6
          subst e_7
          subst e_8
          exact J_324 H locs ls hC (lv_sub hl [2] rfl)
        · have hf := if_t hf c_236
          refine lv_aload_n hx hb dX10_takeItem_239 rfl (lv_at hl 2 rfl) ?_
          refine va_get (ci := 10) (v := .int readHangs) (C := RX10) (T := TX10) (N := 28) hx hb hts in_X10 hown hC.1 hC.2.1 0 rfl rfl 23 (by decide) (hts _ q829) (fun _ h9 => h9) rfl dX10_takeItem_240 ?_
          refine lv_bipush (v := 8) hx hb dX10_takeItem_243 (by decide) ?_
          refine lv_icmp_ge (tgt := 319) hx hb dX10_takeItem_245 (by decide) (fun c_245 => ?_) (fun c_245 => ?_)
          · have hf := if_t hf c_245
            refine lv_aload_n hx hb dX10_takeItem_319 rfl (lv_at hl 2 rfl) ?_
            refine lv_iload_n hx hb dX10_takeItem_320 rfl (lv_at hl 1 rfl) ?_
            refine va_put (ci := 10) (v := .int at_) (ty := .int) (C := RX10) (T := TX10) (N := 28) hx hb hts in_X10 tyX10 tyX10_ok nmX10 hown hC.1 hC.2.1 hC.2.2.1 hC.2.2.2 0 rfl rfl 18 (by decide) (hts _ q824) (fun _ h9 => h9) rfl (tyX10_ok 18 (by decide)) rfl rfl (Nat.le_of_ble_eq_true rfl) dX10_takeItem_321 (fun H locs hP hD hS => ?_)
            have hC : HC D gcl (gty d) A (mw d ad w isKept people room work price askings asked hangs hung tenths sortWorth sortDays sorts text texted trace at__6 at_ readPeople readPerson readAskings readAsked readHangs readHung rest brings later) s H locs := ⟨hC.1, hP, hD, hS⟩
            obtain ⟨e_1, e_2, e_3, e_4, e_5, e_6, e_7, e_8⟩ := so_8 (Option.some.inj hf)
            subst e_1
            subst e_2
            subst e_3
            subst e_4
            subst e_5
            subst e_6
            subst e_7
            subst e_8
            exact J_324 H locs ls hC (lv_sub hl [2] rfl)
          · have hf := if_f hf c_245
            refine lv_aload_n hx hb dX10_takeItem_248 rfl (lv_at hl 2 rfl) ?_
            refine va_get (ci := 10) (v := .ref (ad 14)) (C := RX10) (T := TX10) (N := 28) hx hb hts in_X10 hown hC.1 hC.2.1 0 rfl rfl 24 (by decide) (hts _ q830) (fun _ h9 => h9) rfl dX10_takeItem_249 ?_
            refine lv_iconst (v := 2) hx hb dX10_takeItem_252 (by decide) ?_
            refine lv_aload_n hx hb dX10_takeItem_253 rfl (lv_at hl 2 rfl) ?_
            refine va_get (ci := 10) (v := .int readHangs) (C := RX10) (T := TX10) (N := 28) hx hb hts in_X10 hown hC.1 hC.2.1 0 rfl rfl 23 (by decide) (hts _ q829) (fun _ h9 => h9) rfl dX10_takeItem_254 ?_
            refine lv_imul hx hb dX10_takeItem_257 ?_
            refine lv_aload_n hx hb dX10_takeItem_258 rfl (lv_at hl 2 rfl) ?_
            refine lv_iconst (v := 0) hx hb dX10_takeItem_259 (by decide) ?_
            refine lv_aload_n hx hb dX10_takeItem_260 rfl (lv_at hl 2 rfl) ?_
            refine va_get (ci := 10) (v := .int readAskings) (C := RX10) (T := TX10) (N := 28) hx hb hts in_X10 hown hC.1 hC.2.1 0 rfl rfl 21 (by decide) (hts _ q827) (fun _ h9 => h9) rfl dX10_takeItem_261 ?_
            refine lv_iconst (v := 1) hx hb dX10_takeItem_264 (by decide) ?_
            refine lv_isub hx hb dX10_takeItem_265 ?_
            refine lv_iconst (v := (-1)) hx hb dX10_takeItem_266 (by decide) ?_
            obtain ⟨r_267, at__267, fault_267, hcall, hf⟩ := bnd3_some hf
            refine hc_i (va_runV (C := RX10) (As := [.int 0, .int (readAskings - 1), .int (-1)]) (rest := [.int (2 * readHangs), .ref (ad 14)]) ⟨hx, hb, hml, hown, hts⟩ (c_m_takeNumber hcall) (cwV 3 hts (lw_V q927 q929 qs26 q59 q930) rfl rfl rfl (by decide +kernel) ⟨(Nat.le_trans (Nat.le_of_ble_eq_true rfl) hRf), (Nat.le_trans (Nat.le_of_ble_eq_true rfl) hRl)⟩) (pre_V (q0 := 0) (ci := 10) (fun _ _ _ _ h => h) (fun _ _ _ => trivial) hC rfl rfl) rfl rfl hl.1 rfl (lv_room (Nat.le_of_ble_eq_true rfl)) dX10_takeItem_267 ⟨hRc, hRs⟩) hA hC (fun H locs hC => ?_)
            obtain ⟨hi_270, hf⟩ := ck_some hf
            refine va_iast hx hb hC.1 hC.2.1 hC.2.2.1 hC.2.2.2 14 0 rfl rfl hi_270 dX10_takeItem_270 (fun H locs hP hD hS => ?_)
            have hC : HC D gcl (gty d) A (mw d ad w isKept people room work price askings asked hangs hung tenths sortWorth sortDays sorts text texted trace at__267 fault_267 readPeople readPerson readAskings readAsked readHangs (upd readHung (2 * readHangs).toNatClampNeg r_267) rest brings later) s H locs := ⟨hC.1, hP, hD, hS⟩
            refine lv_aload_n hx hb dX10_takeItem_271 rfl (lv_at hl 2 rfl) ?_
            refine va_get (ci := 10) (v := .ref (ad 14)) (C := RX10) (T := TX10) (N := 28) hx hb hts in_X10 hown hC.1 hC.2.1 0 rfl rfl 24 (by decide) (hts _ q830) (fun _ h9 => h9) rfl dX10_takeItem_272 ?_
            refine lv_iconst (v := 2) hx hb dX10_takeItem_275 (by decide) ?_
            refine lv_aload_n hx hb dX10_takeItem_276 rfl (lv_at hl 2 rfl) ?_
            refine va_get (ci := 10) (v := .int readHangs) (C := RX10) (T := TX10) (N := 28) hx hb hts in_X10 hown hC.1 hC.2.1 0 rfl rfl 23 (by decide) (hts _ q829) (fun _ h9 => h9) rfl dX10_takeItem_277 ?_
            refine lv_imul hx hb dX10_takeItem_280 ?_
            refine lv_iconst (v := 1) hx hb dX10_takeItem_281 (by decide) ?_
            refine lv_iadd hx hb dX10_takeItem_282 ?_
            refine lv_aload_n hx hb dX10_takeItem_283 rfl (lv_at hl 2 rfl) ?_
            refine lv_iconst (v := 0) hx hb dX10_takeItem_284 (by decide) ?_
            refine lv_aload_n hx hb dX10_takeItem_285 rfl (lv_at hl 2 rfl) ?_
            refine va_get (ci := 10) (v := .int readAskings) (C := RX10) (T := TX10) (N := 28) hx hb hts in_X10 hown hC.1 hC.2.1 0 rfl rfl 21 (by decide) (hts _ q827) (fun _ h9 => h9) rfl dX10_takeItem_286 ?_
            refine lv_iconst (v := 1) hx hb dX10_takeItem_289 (by decide) ?_
            refine lv_isub hx hb dX10_takeItem_290 ?_
            refine lv_aload_n hx hb dX10_takeItem_291 rfl (lv_at hl 2 rfl) ?_
            refine va_get (ci := 10) (v := .ref (ad 14)) (C := RX10) (T := TX10) (N := 28) hx hb hts in_X10 hown hC.1 hC.2.1 0 rfl rfl 24 (by decide) (hts _ q830) (fun _ h9 => h9) rfl dX10_takeItem_292 ?_
            refine lv_iconst (v := 2) hx hb dX10_takeItem_295 (by decide) ?_
            refine lv_aload_n hx hb dX10_takeItem_296 rfl (lv_at hl 2 rfl) ?_
            refine va_get (ci := 10) (v := .int readHangs) (C := RX10) (T := TX10) (N := 28) hx hb hts in_X10 hown hC.1 hC.2.1 0 rfl rfl 23 (by decide) (hts _ q829) (fun _ h9 => h9) rfl dX10_takeItem_297 ?_
            refine lv_imul hx hb dX10_takeItem_300 ?_
            obtain ⟨hi_301, hf⟩ := ck_some hf
            refine va_iald hx hb hC.1 hC.2.1 14 0 rfl rfl hi_301 dX10_takeItem_301 ?_
            obtain ⟨r_302, at__302, fault_302, hcall, hf⟩ := bnd3_some hf
            refine hc_i (va_runV (C := RX10) (As := [.int 0, .int (readAskings - 1), .int ((upd readHung (2 * readHangs).toNatClampNeg r_267) (2 * readHangs).toNatClampNeg)]) (rest := [.int ((2 * readHangs) + 1), .ref (ad 14)]) ⟨hx, hb, hml, hown, hts⟩ (c_m_takeNumber hcall) (cwV 3 hts (lw_V q927 q929 qs26 q59 q930) rfl rfl rfl (by decide +kernel) ⟨(Nat.le_trans (Nat.le_of_ble_eq_true rfl) hRf), (Nat.le_trans (Nat.le_of_ble_eq_true rfl) hRl)⟩) (pre_V (q0 := 0) (ci := 10) (fun _ _ _ _ h => h) (fun _ _ _ => trivial) hC rfl rfl) rfl rfl hl.1 rfl (lv_room (Nat.le_of_ble_eq_true rfl)) dX10_takeItem_302 ⟨hRc, hRs⟩) hA hC (fun H locs hC => ?_)
            obtain ⟨hi_305, hf⟩ := ck_some hf
            refine va_iast hx hb hC.1 hC.2.1 hC.2.2.1 hC.2.2.2 14 0 rfl rfl hi_305 dX10_takeItem_305 (fun H locs hP hD hS => ?_)
            have hC : HC D gcl (gty d) A (mw d ad w isKept people room work price askings asked hangs hung tenths sortWorth sortDays sorts text texted trace at__302 fault_302 readPeople readPerson readAskings readAsked readHangs (upd (upd readHung (2 * readHangs).toNatClampNeg r_267) ((2 * readHangs) + 1).toNatClampNeg r_302) rest brings later) s H locs := ⟨hC.1, hP, hD, hS⟩
            refine lv_aload_n hx hb dX10_takeItem_306 rfl (lv_at hl 2 rfl) ?_
            refine lv_dup hx hb dX10_takeItem_307 rfl ?_
            refine va_get (ci := 10) (v := .int readHangs) (C := RX10) (T := TX10) (N := 28) hx hb hts in_X10 hown hC.1 hC.2.1 0 rfl rfl 23 (by decide) (hts _ q829) (fun _ h9 => h9) rfl dX10_takeItem_308 ?_
            refine lv_iconst (v := 1) hx hb dX10_takeItem_311 (by decide) ?_
            refine lv_iadd hx hb dX10_takeItem_312 ?_
            refine va_put (ci := 10) (v := .int (readHangs + 1)) (ty := .int) (C := RX10) (T := TX10) (N := 28) hx hb hts in_X10 tyX10 tyX10_ok nmX10 hown hC.1 hC.2.1 hC.2.2.1 hC.2.2.2 0 rfl rfl 23 (by decide) (hts _ q829) (fun _ h9 => h9) rfl (tyX10_ok 23 (by decide)) rfl rfl (Nat.le_of_ble_eq_true rfl) dX10_takeItem_313 (fun H locs hP hD hS => ?_)
            have hC : HC D gcl (gty d) A (mw d ad w isKept people room work price askings asked hangs hung tenths sortWorth sortDays sorts text texted trace at__302 fault_302 readPeople readPerson readAskings readAsked (readHangs + 1) (upd (upd readHung (2 * readHangs).toNatClampNeg r_267) ((2 * readHangs) + 1).toNatClampNeg r_302) rest brings later) s H locs := ⟨hC.1, hP, hD, hS⟩
            refine lv_goto (tgt := 324) hx hb dX10_takeItem_316 (by decide) ?_
            obtain ⟨e_1, e_2, e_3, e_4, e_5, e_6, e_7, e_8⟩ := so_8 (Option.some.inj hf)
            subst e_1
            subst e_2
            subst e_3
            subst e_4
            subst e_5
            subst e_6
            subst e_7
            subst e_8
            exact J_324 H locs ls hC (lv_sub hl [2] rfl)
      · have hf := if_f hf c_112
        refine lv_iconst (v := 5) hx hb dX10_takeItem_115 (by decide) ?_
        refine lv_aload_n hx hb dX10_takeItem_116 rfl (lv_at hl 2 rfl) ?_
        refine va_get (ci := 10) (v := .int readAskings) (C := RX10) (T := TX10) (N := 28) hx hb hts in_X10 hown hC.1 hC.2.1 0 rfl rfl 21 (by decide) (hts _ q827) (fun _ h9 => h9) rfl dX10_takeItem_117 ?_
        refine lv_imul hx hb dX10_takeItem_120 ?_
        refine lv_istore (lv' := [(4, .int (5 * readAskings)), (2, .long r_6), (1, .int at_), (0, .ref (ad 0))]) hx hb dX10_takeItem_121 hl (by decide) rfl (fun ls hl => ?_)
        refine lv_aload_n hx hb dX10_takeItem_123 rfl (lv_at hl 3 rfl) ?_
        refine va_get (ci := 10) (v := .ref (ad 13)) (C := RX10) (T := TX10) (N := 28) hx hb hts in_X10 hown hC.1 hC.2.1 0 rfl rfl 22 (by decide) (hts _ q828) (fun _ h9 => h9) rfl dX10_takeItem_124 ?_
        refine lv_iload hx hb dX10_takeItem_127 (lv_at hl 0 rfl) ?_
        refine lv_aload_n hx hb dX10_takeItem_129 rfl (lv_at hl 3 rfl) ?_
        refine lv_iconst (v := 0) hx hb dX10_takeItem_130 (by decide) ?_
        refine lv_aload_n hx hb dX10_takeItem_131 rfl (lv_at hl 3 rfl) ?_
        refine va_get (ci := 10) (v := .int readPeople) (C := RX10) (T := TX10) (N := 28) hx hb hts in_X10 hown hC.1 hC.2.1 0 rfl rfl 19 (by decide) (hts _ q825) (fun _ h9 => h9) rfl dX10_takeItem_132 ?_
        refine lv_iconst (v := 1) hx hb dX10_takeItem_135 (by decide) ?_
        refine lv_isub hx hb dX10_takeItem_136 ?_
        refine lv_iconst (v := (-1)) hx hb dX10_takeItem_137 (by decide) ?_
        obtain ⟨r_138, at__138, fault_138, hcall, hf⟩ := bnd3_some hf
        refine hc_i (va_runV (C := RX10) (As := [.int 0, .int (readPeople - 1), .int (-1)]) (rest := [.int (5 * readAskings), .ref (ad 13)]) ⟨hx, hb, hml, hown, hts⟩ (c_m_takeNumber hcall) (cwV 3 hts (lw_V q927 q929 qs26 q59 q930) rfl rfl rfl (by decide +kernel) ⟨(Nat.le_trans (Nat.le_of_ble_eq_true rfl) hRf), (Nat.le_trans (Nat.le_of_ble_eq_true rfl) hRl)⟩) (pre_V (q0 := 0) (ci := 10) (fun _ _ _ _ h => h) (fun _ _ _ => trivial) hC rfl rfl) rfl rfl hl.1 rfl (lv_room (Nat.le_of_ble_eq_true rfl)) dX10_takeItem_138 ⟨hRc, hRs⟩) hA hC (fun H locs hC => ?_)
        obtain ⟨hi_141, hf⟩ := ck_some hf
        refine va_iast hx hb hC.1 hC.2.1 hC.2.2.1 hC.2.2.2 13 0 rfl rfl hi_141 dX10_takeItem_141 (fun H locs hP hD hS => ?_)
        have hC : HC D gcl (gty d) A (mw d ad w isKept people room work price askings asked hangs hung tenths sortWorth sortDays sorts text texted trace at__138 fault_138 readPeople readPerson readAskings (upd readAsked (5 * readAskings).toNatClampNeg r_138) readHangs readHung rest brings later) s H locs := ⟨hC.1, hP, hD, hS⟩
        refine lv_aload_n hx hb dX10_takeItem_142 rfl (lv_at hl 3 rfl) ?_
        refine va_get (ci := 10) (v := .ref (ad 13)) (C := RX10) (T := TX10) (N := 28) hx hb hts in_X10 hown hC.1 hC.2.1 0 rfl rfl 22 (by decide) (hts _ q828) (fun _ h9 => h9) rfl dX10_takeItem_143 ?_
        refine lv_iload hx hb dX10_takeItem_146 (lv_at hl 0 rfl) ?_
        refine lv_iconst (v := 1) hx hb dX10_takeItem_148 (by decide) ?_
        refine lv_iadd hx hb dX10_takeItem_149 ?_
        refine lv_aload_n hx hb dX10_takeItem_150 rfl (lv_at hl 3 rfl) ?_
        refine lv_iconst (v := 0) hx hb dX10_takeItem_151 (by decide) ?_
        refine lv_bipush (v := 9) hx hb dX10_takeItem_152 (by decide) ?_
        refine lv_iconst (v := (-1)) hx hb dX10_takeItem_154 (by decide) ?_
        obtain ⟨r_155, at__155, fault_155, hcall, hf⟩ := bnd3_some hf
        refine hc_i (va_runV (C := RX10) (As := [.int 0, .int 9, .int (-1)]) (rest := [.int ((5 * readAskings) + 1), .ref (ad 13)]) ⟨hx, hb, hml, hown, hts⟩ (c_m_takeNumber hcall) (cwV 3 hts (lw_V q927 q929 qs26 q59 q930) rfl rfl rfl (by decide +kernel) ⟨(Nat.le_trans (Nat.le_of_ble_eq_true rfl) hRf), (Nat.le_trans (Nat.le_of_ble_eq_true rfl) hRl)⟩) (pre_V (q0 := 0) (ci := 10) (fun _ _ _ _ h => h) (fun _ _ _ => trivial) hC rfl rfl) rfl rfl hl.1 rfl (lv_room (Nat.le_of_ble_eq_true rfl)) dX10_takeItem_155 ⟨hRc, hRs⟩) hA hC (fun H locs hC => ?_)
        obtain ⟨hi_158, hf⟩ := ck_some hf
        refine va_iast hx hb hC.1 hC.2.1 hC.2.2.1 hC.2.2.2 13 0 rfl rfl hi_158 dX10_takeItem_158 (fun H locs hP hD hS => ?_)
        have hC : HC D gcl (gty d) A (mw d ad w isKept people room work price askings asked hangs hung tenths sortWorth sortDays sorts text texted trace at__155 fault_155 readPeople readPerson readAskings (upd (upd readAsked (5 * readAskings).toNatClampNeg r_138) ((5 * readAskings) + 1).toNatClampNeg r_155) readHangs readHung rest brings later) s H locs := ⟨hC.1, hP, hD, hS⟩
        refine lv_aload_n hx hb dX10_takeItem_159 rfl (lv_at hl 3 rfl) ?_
        refine va_get (ci := 10) (v := .ref (ad 13)) (C := RX10) (T := TX10) (N := 28) hx hb hts in_X10 hown hC.1 hC.2.1 0 rfl rfl 22 (by decide) (hts _ q828) (fun _ h9 => h9) rfl dX10_takeItem_160 ?_
        refine lv_iload hx hb dX10_takeItem_163 (lv_at hl 0 rfl) ?_
        refine lv_iconst (v := 2) hx hb dX10_takeItem_165 (by decide) ?_
        refine lv_iadd hx hb dX10_takeItem_166 ?_
        refine lv_aload_n hx hb dX10_takeItem_167 rfl (lv_at hl 3 rfl) ?_
        refine lv_iconst (v := 1) hx hb dX10_takeItem_168 (by decide) ?_
        refine lv_bipush (v := 9) hx hb dX10_takeItem_169 (by decide) ?_
        refine lv_iconst (v := (-1)) hx hb dX10_takeItem_171 (by decide) ?_
        obtain ⟨r_172, at__172, fault_172, hcall, hf⟩ := bnd3_some hf
        refine hc_i (va_runV (C := RX10) (As := [.int 1, .int 9, .int (-1)]) (rest := [.int ((5 * readAskings) + 2), .ref (ad 13)]) ⟨hx, hb, hml, hown, hts⟩ (c_m_takeNumber hcall) (cwV 3 hts (lw_V q927 q929 qs26 q59 q930) rfl rfl rfl (by decide +kernel) ⟨(Nat.le_trans (Nat.le_of_ble_eq_true rfl) hRf), (Nat.le_trans (Nat.le_of_ble_eq_true rfl) hRl)⟩) (pre_V (q0 := 0) (ci := 10) (fun _ _ _ _ h => h) (fun _ _ _ => trivial) hC rfl rfl) rfl rfl hl.1 rfl (lv_room (Nat.le_of_ble_eq_true rfl)) dX10_takeItem_172 ⟨hRc, hRs⟩) hA hC (fun H locs hC => ?_)
        obtain ⟨hi_175, hf⟩ := ck_some hf
        refine va_iast hx hb hC.1 hC.2.1 hC.2.2.1 hC.2.2.2 13 0 rfl rfl hi_175 dX10_takeItem_175 (fun H locs hP hD hS => ?_)
        have hC : HC D gcl (gty d) A (mw d ad w isKept people room work price askings asked hangs hung tenths sortWorth sortDays sorts text texted trace at__172 fault_172 readPeople readPerson readAskings (upd (upd (upd readAsked (5 * readAskings).toNatClampNeg r_138) ((5 * readAskings) + 1).toNatClampNeg r_155) ((5 * readAskings) + 2).toNatClampNeg r_172) readHangs readHung rest brings later) s H locs := ⟨hC.1, hP, hD, hS⟩
        refine lv_aload_n hx hb dX10_takeItem_176 rfl (lv_at hl 3 rfl) ?_
        refine va_get (ci := 10) (v := .ref (ad 13)) (C := RX10) (T := TX10) (N := 28) hx hb hts in_X10 hown hC.1 hC.2.1 0 rfl rfl 22 (by decide) (hts _ q828) (fun _ h9 => h9) rfl dX10_takeItem_177 ?_
        refine lv_iload hx hb dX10_takeItem_180 (lv_at hl 0 rfl) ?_
        refine lv_iconst (v := 3) hx hb dX10_takeItem_182 (by decide) ?_
        refine lv_iadd hx hb dX10_takeItem_183 ?_
        refine lv_aload_n hx hb dX10_takeItem_184 rfl (lv_at hl 3 rfl) ?_
        refine lv_iconst (v := 1) hx hb dX10_takeItem_185 (by decide) ?_
        refine lv_bipush (v := 99) hx hb dX10_takeItem_186 (by decide) ?_
        refine lv_iconst (v := (-1)) hx hb dX10_takeItem_188 (by decide) ?_
        obtain ⟨r_189, at__189, fault_189, hcall, hf⟩ := bnd3_some hf
        refine hc_i (va_runV (C := RX10) (As := [.int 1, .int 99, .int (-1)]) (rest := [.int ((5 * readAskings) + 3), .ref (ad 13)]) ⟨hx, hb, hml, hown, hts⟩ (c_m_takeNumber hcall) (cwV 3 hts (lw_V q927 q929 qs26 q59 q930) rfl rfl rfl (by decide +kernel) ⟨(Nat.le_trans (Nat.le_of_ble_eq_true rfl) hRf), (Nat.le_trans (Nat.le_of_ble_eq_true rfl) hRl)⟩) (pre_V (q0 := 0) (ci := 10) (fun _ _ _ _ h => h) (fun _ _ _ => trivial) hC rfl rfl) rfl rfl hl.1 rfl (lv_room (Nat.le_of_ble_eq_true rfl)) dX10_takeItem_189 ⟨hRc, hRs⟩) hA hC (fun H locs hC => ?_)
        obtain ⟨hi_192, hf⟩ := ck_some hf
        refine va_iast hx hb hC.1 hC.2.1 hC.2.2.1 hC.2.2.2 13 0 rfl rfl hi_192 dX10_takeItem_192 (fun H locs hP hD hS => ?_)
        have hC : HC D gcl (gty d) A (mw d ad w isKept people room work price askings asked hangs hung tenths sortWorth sortDays sorts text texted trace at__189 fault_189 readPeople readPerson readAskings (upd (upd (upd (upd readAsked (5 * readAskings).toNatClampNeg r_138) ((5 * readAskings) + 1).toNatClampNeg r_155) ((5 * readAskings) + 2).toNatClampNeg r_172) ((5 * readAskings) + 3).toNatClampNeg r_189) readHangs readHung rest brings later) s H locs := ⟨hC.1, hP, hD, hS⟩
        refine lv_aload_n hx hb dX10_takeItem_193 rfl (lv_at hl 3 rfl) ?_
        refine va_get (ci := 10) (v := .ref (ad 13)) (C := RX10) (T := TX10) (N := 28) hx hb hts in_X10 hown hC.1 hC.2.1 0 rfl rfl 22 (by decide) (hts _ q828) (fun _ h9 => h9) rfl dX10_takeItem_194 ?_
        refine lv_iload hx hb dX10_takeItem_197 (lv_at hl 0 rfl) ?_
        refine lv_iconst (v := 4) hx hb dX10_takeItem_199 (by decide) ?_
        refine lv_iadd hx hb dX10_takeItem_200 ?_
        refine lv_aload_n hx hb dX10_takeItem_201 rfl (lv_at hl 3 rfl) ?_
        refine lv_aload_n hx hb dX10_takeItem_202 rfl (lv_at hl 3 rfl) ?_
        refine va_get (ci := 10) (v := .ref (ad 13)) (C := RX10) (T := TX10) (N := 28) hx hb hts in_X10 hown hC.1 hC.2.1 0 rfl rfl 22 (by decide) (hts _ q828) (fun _ h9 => h9) rfl dX10_takeItem_203 ?_
        refine lv_iload hx hb dX10_takeItem_206 (lv_at hl 0 rfl) ?_
        refine lv_iconst (v := 1) hx hb dX10_takeItem_208 (by decide) ?_
        refine lv_iadd hx hb dX10_takeItem_209 ?_
        obtain ⟨hi_210, hf⟩ := ck_some hf
        refine va_iald hx hb hC.1 hC.2.1 13 0 rfl rfl hi_210 dX10_takeItem_210 ?_
        refine lv_bipush (v := 9) hx hb dX10_takeItem_211 (by decide) ?_
        refine lv_iconst (v := (-1)) hx hb dX10_takeItem_213 (by decide) ?_
        obtain ⟨r_214, at__214, fault_214, hcall, hf⟩ := bnd3_some hf
        refine hc_i (va_runV (C := RX10) (As := [.int ((upd (upd (upd (upd readAsked (5 * readAskings).toNatClampNeg r_138) ((5 * readAskings) + 1).toNatClampNeg r_155) ((5 * readAskings) + 2).toNatClampNeg r_172) ((5 * readAskings) + 3).toNatClampNeg r_189) ((5 * readAskings) + 1).toNatClampNeg), .int 9, .int (-1)]) (rest := [.int ((5 * readAskings) + 4), .ref (ad 13)]) ⟨hx, hb, hml, hown, hts⟩ (c_m_takeNumber hcall) (cwV 3 hts (lw_V q927 q929 qs26 q59 q930) rfl rfl rfl (by decide +kernel) ⟨(Nat.le_trans (Nat.le_of_ble_eq_true rfl) hRf), (Nat.le_trans (Nat.le_of_ble_eq_true rfl) hRl)⟩) (pre_V (q0 := 0) (ci := 10) (fun _ _ _ _ h => h) (fun _ _ _ => trivial) hC rfl rfl) rfl rfl hl.1 rfl (lv_room (Nat.le_of_ble_eq_true rfl)) dX10_takeItem_214 ⟨hRc, hRs⟩) hA hC (fun H locs hC => ?_)
        obtain ⟨hi_217, hf⟩ := ck_some hf
        refine va_iast hx hb hC.1 hC.2.1 hC.2.2.1 hC.2.2.2 13 0 rfl rfl hi_217 dX10_takeItem_217 (fun H locs hP hD hS => ?_)
        have hC : HC D gcl (gty d) A (mw d ad w isKept people room work price askings asked hangs hung tenths sortWorth sortDays sorts text texted trace at__214 fault_214 readPeople readPerson readAskings (upd (upd (upd (upd (upd readAsked (5 * readAskings).toNatClampNeg r_138) ((5 * readAskings) + 1).toNatClampNeg r_155) ((5 * readAskings) + 2).toNatClampNeg r_172) ((5 * readAskings) + 3).toNatClampNeg r_189) ((5 * readAskings) + 4).toNatClampNeg r_214) readHangs readHung rest brings later) s H locs := ⟨hC.1, hP, hD, hS⟩
        refine lv_aload_n hx hb dX10_takeItem_218 rfl (lv_at hl 3 rfl) ?_
        refine lv_dup hx hb dX10_takeItem_219 rfl ?_
        refine va_get (ci := 10) (v := .int readAskings) (C := RX10) (T := TX10) (N := 28) hx hb hts in_X10 hown hC.1 hC.2.1 0 rfl rfl 21 (by decide) (hts _ q827) (fun _ h9 => h9) rfl dX10_takeItem_220 ?_
        refine lv_iconst (v := 1) hx hb dX10_takeItem_223 (by decide) ?_
        refine lv_iadd hx hb dX10_takeItem_224 ?_
        refine va_put (ci := 10) (v := .int (readAskings + 1)) (ty := .int) (C := RX10) (T := TX10) (N := 28) hx hb hts in_X10 tyX10 tyX10_ok nmX10 hown hC.1 hC.2.1 hC.2.2.1 hC.2.2.2 0 rfl rfl 21 (by decide) (hts _ q827) (fun _ h9 => h9) rfl (tyX10_ok 21 (by decide)) rfl rfl (Nat.le_of_ble_eq_true rfl) dX10_takeItem_225 (fun H locs hP hD hS => ?_)
        have hC : HC D gcl (gty d) A (mw d ad w isKept people room work price askings asked hangs hung tenths sortWorth sortDays sorts text texted trace at__214 fault_214 readPeople readPerson (readAskings + 1) (upd (upd (upd (upd (upd readAsked (5 * readAskings).toNatClampNeg r_138) ((5 * readAskings) + 1).toNatClampNeg r_155) ((5 * readAskings) + 2).toNatClampNeg r_172) ((5 * readAskings) + 3).toNatClampNeg r_189) ((5 * readAskings) + 4).toNatClampNeg r_214) readHangs readHung rest brings later) s H locs := ⟨hC.1, hP, hD, hS⟩
        refine lv_goto (tgt := 324) hx hb dX10_takeItem_228 (by decide) ?_
        obtain ⟨e_1, e_2, e_3, e_4, e_5, e_6, e_7, e_8⟩ := so_8 (Option.some.inj hf)
        subst e_1
        subst e_2
        subst e_3
        subst e_4
        subst e_5
        subst e_6
        subst e_7
        subst e_8
        exact J_324 H locs ls hC (lv_sub hl [3] rfl)
  · have hf := if_t hf c_15
    refine lv_aload_n hx hb dX10_takeItem_18 rfl (lv_at hl 2 rfl) ?_
    refine va_get (ci := 10) (v := .int readPeople) (C := RX10) (T := TX10) (N := 28) hx hb hts in_X10 hown hC.1 hC.2.1 0 rfl rfl 19 (by decide) (hts _ q825) (fun _ h9 => h9) rfl dX10_takeItem_19 ?_
    refine lv_iconst (v := 4) hx hb dX10_takeItem_22 (by decide) ?_
    refine lv_icmp_ge (tgt := 98) hx hb dX10_takeItem_23 (by decide) (fun c_23 => ?_) (fun c_23 => ?_)
    · have hf := if_t hf c_23
      refine lv_lload_n hx hb dX10_takeItem_98 rfl (lv_at hl 0 rfl) ?_
      refine lv_ldc2 (v := 1643) hx hb hown (hts _ q936) dX10_takeItem_99 ?_
      refine W.lcmp hx hb dX10_takeItem_102 ?_
      refine lv_if_ne (tgt := 231) hx hb dX10_takeItem_103 (by decide) (fun c_103 => ?_) (fun c_103 => ?_)
      · have hf := if_f hf c_103
        refine lv_lload_n hx hb dX10_takeItem_231 rfl (lv_at hl 0 rfl) ?_
        refine lv_ldc2 (v := 8435955) hx hb hown (hts _ q937) dX10_takeItem_232 ?_
        refine W.lcmp hx hb dX10_takeItem_235 ?_
        refine lv_if_ne (tgt := 319) hx hb dX10_takeItem_236 (by decide) (fun c_236 => ?_) (fun c_236 => ?_)
        · have hf := if_f hf c_236
          refine lv_aload_n hx hb dX10_takeItem_319 rfl (lv_at hl 2 rfl) ?_
          refine lv_iload_n hx hb dX10_takeItem_320 rfl (lv_at hl 1 rfl) ?_
          refine va_put (ci := 10) (v := .int at_) (ty := .int) (C := RX10) (T := TX10) (N := 28) hx hb hts in_X10 tyX10 tyX10_ok nmX10 hown hC.1 hC.2.1 hC.2.2.1 hC.2.2.2 0 rfl rfl 18 (by decide) (hts _ q824) (fun _ h9 => h9) rfl (tyX10_ok 18 (by decide)) rfl rfl (Nat.le_of_ble_eq_true rfl) dX10_takeItem_321 (fun H locs hP hD hS => ?_)
          have hC : HC D gcl (gty d) A (mw d ad w isKept people room work price askings asked hangs hung tenths sortWorth sortDays sorts text texted trace at__6 at_ readPeople readPerson readAskings readAsked readHangs readHung rest brings later) s H locs := ⟨hC.1, hP, hD, hS⟩
          obtain ⟨e_1, e_2, e_3, e_4, e_5, e_6, e_7, e_8⟩ := so_8 (Option.some.inj hf)
          subst e_1
          subst e_2
          subst e_3
          subst e_4
          subst e_5
          subst e_6
          subst e_7
          subst e_8
          exact J_324 H locs ls hC (lv_sub hl [2] rfl)
        · have hf := if_t hf c_236
          refine lv_aload_n hx hb dX10_takeItem_239 rfl (lv_at hl 2 rfl) ?_
          refine va_get (ci := 10) (v := .int readHangs) (C := RX10) (T := TX10) (N := 28) hx hb hts in_X10 hown hC.1 hC.2.1 0 rfl rfl 23 (by decide) (hts _ q829) (fun _ h9 => h9) rfl dX10_takeItem_240 ?_
          refine lv_bipush (v := 8) hx hb dX10_takeItem_243 (by decide) ?_
          refine lv_icmp_ge (tgt := 319) hx hb dX10_takeItem_245 (by decide) (fun c_245 => ?_) (fun c_245 => ?_)
          · have hf := if_t hf c_245
            refine lv_aload_n hx hb dX10_takeItem_319 rfl (lv_at hl 2 rfl) ?_
            refine lv_iload_n hx hb dX10_takeItem_320 rfl (lv_at hl 1 rfl) ?_
            refine va_put (ci := 10) (v := .int at_) (ty := .int) (C := RX10) (T := TX10) (N := 28) hx hb hts in_X10 tyX10 tyX10_ok nmX10 hown hC.1 hC.2.1 hC.2.2.1 hC.2.2.2 0 rfl rfl 18 (by decide) (hts _ q824) (fun _ h9 => h9) rfl (tyX10_ok 18 (by decide)) rfl rfl (Nat.le_of_ble_eq_true rfl) dX10_takeItem_321 (fun H locs hP hD hS => ?_)
            have hC : HC D gcl (gty d) A (mw d ad w isKept people room work price askings asked hangs hung tenths sortWorth sortDays sorts text texted trace at__6 at_ readPeople readPerson readAskings readAsked readHangs readHung rest brings later) s H locs := ⟨hC.1, hP, hD, hS⟩
            obtain ⟨e_1, e_2, e_3, e_4, e_5, e_6, e_7, e_8⟩ := so_8 (Option.some.inj hf)
            subst e_1
            subst e_2
            subst e_3
            subst e_4
            subst e_5
            subst e_6
            subst e_7
            subst e_8
            exact J_324 H locs ls hC (lv_sub hl [2] rfl)
          · have hf := if_f hf c_245
            refine lv_aload_n hx hb dX10_takeItem_248 rfl (lv_at hl 2 rfl) ?_
            refine va_get (ci := 10) (v := .ref (ad 14)) (C := RX10) (T := TX10) (N := 28) hx hb hts in_X10 hown hC.1 hC.2.1 0 rfl rfl 24 (by decide) (hts _ q830) (fun _ h9 => h9) rfl dX10_takeItem_249 ?_
            refine lv_iconst (v := 2) hx hb dX10_takeItem_252 (by decide) ?_
            refine lv_aload_n hx hb dX10_takeItem_253 rfl (lv_at hl 2 rfl) ?_
            refine va_get (ci := 10) (v := .int readHangs) (C := RX10) (T := TX10) (N := 28) hx hb hts in_X10 hown hC.1 hC.2.1 0 rfl rfl 23 (by decide) (hts _ q829) (fun _ h9 => h9) rfl dX10_takeItem_254 ?_
            refine lv_imul hx hb dX10_takeItem_257 ?_
            refine lv_aload_n hx hb dX10_takeItem_258 rfl (lv_at hl 2 rfl) ?_
            refine lv_iconst (v := 0) hx hb dX10_takeItem_259 (by decide) ?_
            refine lv_aload_n hx hb dX10_takeItem_260 rfl (lv_at hl 2 rfl) ?_
            refine va_get (ci := 10) (v := .int readAskings) (C := RX10) (T := TX10) (N := 28) hx hb hts in_X10 hown hC.1 hC.2.1 0 rfl rfl 21 (by decide) (hts _ q827) (fun _ h9 => h9) rfl dX10_takeItem_261 ?_
            refine lv_iconst (v := 1) hx hb dX10_takeItem_264 (by decide) ?_
            refine lv_isub hx hb dX10_takeItem_265 ?_
            refine lv_iconst (v := (-1)) hx hb dX10_takeItem_266 (by decide) ?_
            obtain ⟨r_267, at__267, fault_267, hcall, hf⟩ := bnd3_some hf
            refine hc_i (va_runV (C := RX10) (As := [.int 0, .int (readAskings - 1), .int (-1)]) (rest := [.int (2 * readHangs), .ref (ad 14)]) ⟨hx, hb, hml, hown, hts⟩ (c_m_takeNumber hcall) (cwV 3 hts (lw_V q927 q929 qs26 q59 q930) rfl rfl rfl (by decide +kernel) ⟨(Nat.le_trans (Nat.le_of_ble_eq_true rfl) hRf), (Nat.le_trans (Nat.le_of_ble_eq_true rfl) hRl)⟩) (pre_V (q0 := 0) (ci := 10) (fun _ _ _ _ h => h) (fun _ _ _ => trivial) hC rfl rfl) rfl rfl hl.1 rfl (lv_room (Nat.le_of_ble_eq_true rfl)) dX10_takeItem_267 ⟨hRc, hRs⟩) hA hC (fun H locs hC => ?_)
            obtain ⟨hi_270, hf⟩ := ck_some hf
            refine va_iast hx hb hC.1 hC.2.1 hC.2.2.1 hC.2.2.2 14 0 rfl rfl hi_270 dX10_takeItem_270 (fun H locs hP hD hS => ?_)
            have hC : HC D gcl (gty d) A (mw d ad w isKept people room work price askings asked hangs hung tenths sortWorth sortDays sorts text texted trace at__267 fault_267 readPeople readPerson readAskings readAsked readHangs (upd readHung (2 * readHangs).toNatClampNeg r_267) rest brings later) s H locs := ⟨hC.1, hP, hD, hS⟩
            refine lv_aload_n hx hb dX10_takeItem_271 rfl (lv_at hl 2 rfl) ?_
            refine va_get (ci := 10) (v := .ref (ad 14)) (C := RX10) (T := TX10) (N := 28) hx hb hts in_X10 hown hC.1 hC.2.1 0 rfl rfl 24 (by decide) (hts _ q830) (fun _ h9 => h9) rfl dX10_takeItem_272 ?_
            refine lv_iconst (v := 2) hx hb dX10_takeItem_275 (by decide) ?_
            refine lv_aload_n hx hb dX10_takeItem_276 rfl (lv_at hl 2 rfl) ?_
            refine va_get (ci := 10) (v := .int readHangs) (C := RX10) (T := TX10) (N := 28) hx hb hts in_X10 hown hC.1 hC.2.1 0 rfl rfl 23 (by decide) (hts _ q829) (fun _ h9 => h9) rfl dX10_takeItem_277 ?_
            refine lv_imul hx hb dX10_takeItem_280 ?_
            refine lv_iconst (v := 1) hx hb dX10_takeItem_281 (by decide) ?_
            refine lv_iadd hx hb dX10_takeItem_282 ?_
            refine lv_aload_n hx hb dX10_takeItem_283 rfl (lv_at hl 2 rfl) ?_
            refine lv_iconst (v := 0) hx hb dX10_takeItem_284 (by decide) ?_
            refine lv_aload_n hx hb dX10_takeItem_285 rfl (lv_at hl 2 rfl) ?_
            refine va_get (ci := 10) (v := .int readAskings) (C := RX10) (T := TX10) (N := 28) hx hb hts in_X10 hown hC.1 hC.2.1 0 rfl rfl 21 (by decide) (hts _ q827) (fun _ h9 => h9) rfl dX10_takeItem_286 ?_
            refine lv_iconst (v := 1) hx hb dX10_takeItem_289 (by decide) ?_
            refine lv_isub hx hb dX10_takeItem_290 ?_
            refine lv_aload_n hx hb dX10_takeItem_291 rfl (lv_at hl 2 rfl) ?_
            refine va_get (ci := 10) (v := .ref (ad 14)) (C := RX10) (T := TX10) (N := 28) hx hb hts in_X10 hown hC.1 hC.2.1 0 rfl rfl 24 (by decide) (hts _ q830) (fun _ h9 => h9) rfl dX10_takeItem_292 ?_
            refine lv_iconst (v := 2) hx hb dX10_takeItem_295 (by decide) ?_
            refine lv_aload_n hx hb dX10_takeItem_296 rfl (lv_at hl 2 rfl) ?_
            refine va_get (ci := 10) (v := .int readHangs) (C := RX10) (T := TX10) (N := 28) hx hb hts in_X10 hown hC.1 hC.2.1 0 rfl rfl 23 (by decide) (hts _ q829) (fun _ h9 => h9) rfl dX10_takeItem_297 ?_
            refine lv_imul hx hb dX10_takeItem_300 ?_
            obtain ⟨hi_301, hf⟩ := ck_some hf
            refine va_iald hx hb hC.1 hC.2.1 14 0 rfl rfl hi_301 dX10_takeItem_301 ?_
            obtain ⟨r_302, at__302, fault_302, hcall, hf⟩ := bnd3_some hf
            refine hc_i (va_runV (C := RX10) (As := [.int 0, .int (readAskings - 1), .int ((upd readHung (2 * readHangs).toNatClampNeg r_267) (2 * readHangs).toNatClampNeg)]) (rest := [.int ((2 * readHangs) + 1), .ref (ad 14)]) ⟨hx, hb, hml, hown, hts⟩ (c_m_takeNumber hcall) (cwV 3 hts (lw_V q927 q929 qs26 q59 q930) rfl rfl rfl (by decide +kernel) ⟨(Nat.le_trans (Nat.le_of_ble_eq_true rfl) hRf), (Nat.le_trans (Nat.le_of_ble_eq_true rfl) hRl)⟩) (pre_V (q0 := 0) (ci := 10) (fun _ _ _ _ h => h) (fun _ _ _ => trivial) hC rfl rfl) rfl rfl hl.1 rfl (lv_room (Nat.le_of_ble_eq_true rfl)) dX10_takeItem_302 ⟨hRc, hRs⟩) hA hC (fun H locs hC => ?_)
            obtain ⟨hi_305, hf⟩ := ck_some hf
            refine va_iast hx hb hC.1 hC.2.1 hC.2.2.1 hC.2.2.2 14 0 rfl rfl hi_305 dX10_takeItem_305 (fun H locs hP hD hS => ?_)
            have hC : HC D gcl (gty d) A (mw d ad w isKept people room work price askings asked hangs hung tenths sortWorth sortDays sorts text texted trace at__302 fault_302 readPeople readPerson readAskings readAsked readHangs (upd (upd readHung (2 * readHangs).toNatClampNeg r_267) ((2 * readHangs) + 1).toNatClampNeg r_302) rest brings later) s H locs := ⟨hC.1, hP, hD, hS⟩
            refine lv_aload_n hx hb dX10_takeItem_306 rfl (lv_at hl 2 rfl) ?_
            refine lv_dup hx hb dX10_takeItem_307 rfl ?_
            refine va_get (ci := 10) (v := .int readHangs) (C := RX10) (T := TX10) (N := 28) hx hb hts in_X10 hown hC.1 hC.2.1 0 rfl rfl 23 (by decide) (hts _ q829) (fun _ h9 => h9) rfl dX10_takeItem_308 ?_
            refine lv_iconst (v := 1) hx hb dX10_takeItem_311 (by decide) ?_
            refine lv_iadd hx hb dX10_takeItem_312 ?_
            refine va_put (ci := 10) (v := .int (readHangs + 1)) (ty := .int) (C := RX10) (T := TX10) (N := 28) hx hb hts in_X10 tyX10 tyX10_ok nmX10 hown hC.1 hC.2.1 hC.2.2.1 hC.2.2.2 0 rfl rfl 23 (by decide) (hts _ q829) (fun _ h9 => h9) rfl (tyX10_ok 23 (by decide)) rfl rfl (Nat.le_of_ble_eq_true rfl) dX10_takeItem_313 (fun H locs hP hD hS => ?_)
            have hC : HC D gcl (gty d) A (mw d ad w isKept people room work price askings asked hangs hung tenths sortWorth sortDays sorts text texted trace at__302 fault_302 readPeople readPerson readAskings readAsked (readHangs + 1) (upd (upd readHung (2 * readHangs).toNatClampNeg r_267) ((2 * readHangs) + 1).toNatClampNeg r_302) rest brings later) s H locs := ⟨hC.1, hP, hD, hS⟩
            refine lv_goto (tgt := 324) hx hb dX10_takeItem_316 (by decide) ?_
            obtain ⟨e_1, e_2, e_3, e_4, e_5, e_6, e_7, e_8⟩ := so_8 (Option.some.inj hf)
            subst e_1
            subst e_2
            subst e_3
            subst e_4
            subst e_5
            subst e_6
            subst e_7
            subst e_8
            exact J_324 H locs ls hC (lv_sub hl [2] rfl)
      · have hf := if_t hf c_103
        refine lv_aload_n hx hb dX10_takeItem_106 rfl (lv_at hl 2 rfl) ?_
        refine va_get (ci := 10) (v := .int readAskings) (C := RX10) (T := TX10) (N := 28) hx hb hts in_X10 hown hC.1 hC.2.1 0 rfl rfl 21 (by decide) (hts _ q827) (fun _ h9 => h9) rfl dX10_takeItem_107 ?_
        refine lv_bipush (v := 8) hx hb dX10_takeItem_110 (by decide) ?_
        refine lv_icmp_ge (tgt := 231) hx hb dX10_takeItem_112 (by decide) (fun c_112 => ?_) (fun c_112 => ?_)
        · have hf := if_t hf c_112
          refine lv_lload_n hx hb dX10_takeItem_231 rfl (lv_at hl 0 rfl) ?_
          refine lv_ldc2 (v := 8435955) hx hb hown (hts _ q937) dX10_takeItem_232 ?_
          refine W.lcmp hx hb dX10_takeItem_235 ?_
          refine lv_if_ne (tgt := 319) hx hb dX10_takeItem_236 (by decide) (fun c_236 => ?_) (fun c_236 => ?_)
          · have hf := if_f hf c_236
            refine lv_aload_n hx hb dX10_takeItem_319 rfl (lv_at hl 2 rfl) ?_
            refine lv_iload_n hx hb dX10_takeItem_320 rfl (lv_at hl 1 rfl) ?_
            refine va_put (ci := 10) (v := .int at_) (ty := .int) (C := RX10) (T := TX10) (N := 28) hx hb hts in_X10 tyX10 tyX10_ok nmX10 hown hC.1 hC.2.1 hC.2.2.1 hC.2.2.2 0 rfl rfl 18 (by decide) (hts _ q824) (fun _ h9 => h9) rfl (tyX10_ok 18 (by decide)) rfl rfl (Nat.le_of_ble_eq_true rfl) dX10_takeItem_321 (fun H locs hP hD hS => ?_)
            have hC : HC D gcl (gty d) A (mw d ad w isKept people room work price askings asked hangs hung tenths sortWorth sortDays sorts text texted trace at__6 at_ readPeople readPerson readAskings readAsked readHangs readHung rest brings later) s H locs := ⟨hC.1, hP, hD, hS⟩
            obtain ⟨e_1, e_2, e_3, e_4, e_5, e_6, e_7, e_8⟩ := so_8 (Option.some.inj hf)
            subst e_1
            subst e_2
            subst e_3
            subst e_4
            subst e_5
            subst e_6
            subst e_7
            subst e_8
            exact J_324 H locs ls hC (lv_sub hl [2] rfl)
          · have hf := if_t hf c_236
            refine lv_aload_n hx hb dX10_takeItem_239 rfl (lv_at hl 2 rfl) ?_
            refine va_get (ci := 10) (v := .int readHangs) (C := RX10) (T := TX10) (N := 28) hx hb hts in_X10 hown hC.1 hC.2.1 0 rfl rfl 23 (by decide) (hts _ q829) (fun _ h9 => h9) rfl dX10_takeItem_240 ?_
            refine lv_bipush (v := 8) hx hb dX10_takeItem_243 (by decide) ?_
            refine lv_icmp_ge (tgt := 319) hx hb dX10_takeItem_245 (by decide) (fun c_245 => ?_) (fun c_245 => ?_)
            · have hf := if_t hf c_245
              refine lv_aload_n hx hb dX10_takeItem_319 rfl (lv_at hl 2 rfl) ?_
              refine lv_iload_n hx hb dX10_takeItem_320 rfl (lv_at hl 1 rfl) ?_
              refine va_put (ci := 10) (v := .int at_) (ty := .int) (C := RX10) (T := TX10) (N := 28) hx hb hts in_X10 tyX10 tyX10_ok nmX10 hown hC.1 hC.2.1 hC.2.2.1 hC.2.2.2 0 rfl rfl 18 (by decide) (hts _ q824) (fun _ h9 => h9) rfl (tyX10_ok 18 (by decide)) rfl rfl (Nat.le_of_ble_eq_true rfl) dX10_takeItem_321 (fun H locs hP hD hS => ?_)
              have hC : HC D gcl (gty d) A (mw d ad w isKept people room work price askings asked hangs hung tenths sortWorth sortDays sorts text texted trace at__6 at_ readPeople readPerson readAskings readAsked readHangs readHung rest brings later) s H locs := ⟨hC.1, hP, hD, hS⟩
              obtain ⟨e_1, e_2, e_3, e_4, e_5, e_6, e_7, e_8⟩ := so_8 (Option.some.inj hf)
              subst e_1
              subst e_2
              subst e_3
              subst e_4
              subst e_5
              subst e_6
              subst e_7
              subst e_8
              exact J_324 H locs ls hC (lv_sub hl [2] rfl)
            · have hf := if_f hf c_245
              refine lv_aload_n hx hb dX10_takeItem_248 rfl (lv_at hl 2 rfl) ?_
              refine va_get (ci := 10) (v := .ref (ad 14)) (C := RX10) (T := TX10) (N := 28) hx hb hts in_X10 hown hC.1 hC.2.1 0 rfl rfl 24 (by decide) (hts _ q830) (fun _ h9 => h9) rfl dX10_takeItem_249 ?_
              refine lv_iconst (v := 2) hx hb dX10_takeItem_252 (by decide) ?_
              refine lv_aload_n hx hb dX10_takeItem_253 rfl (lv_at hl 2 rfl) ?_
              refine va_get (ci := 10) (v := .int readHangs) (C := RX10) (T := TX10) (N := 28) hx hb hts in_X10 hown hC.1 hC.2.1 0 rfl rfl 23 (by decide) (hts _ q829) (fun _ h9 => h9) rfl dX10_takeItem_254 ?_
              refine lv_imul hx hb dX10_takeItem_257 ?_
              refine lv_aload_n hx hb dX10_takeItem_258 rfl (lv_at hl 2 rfl) ?_
              refine lv_iconst (v := 0) hx hb dX10_takeItem_259 (by decide) ?_
              refine lv_aload_n hx hb dX10_takeItem_260 rfl (lv_at hl 2 rfl) ?_
              refine va_get (ci := 10) (v := .int readAskings) (C := RX10) (T := TX10) (N := 28) hx hb hts in_X10 hown hC.1 hC.2.1 0 rfl rfl 21 (by decide) (hts _ q827) (fun _ h9 => h9) rfl dX10_takeItem_261 ?_
              refine lv_iconst (v := 1) hx hb dX10_takeItem_264 (by decide) ?_
              refine lv_isub hx hb dX10_takeItem_265 ?_
              refine lv_iconst (v := (-1)) hx hb dX10_takeItem_266 (by decide) ?_
              obtain ⟨r_267, at__267, fault_267, hcall, hf⟩ := bnd3_some hf
              refine hc_i (va_runV (C := RX10) (As := [.int 0, .int (readAskings - 1), .int (-1)]) (rest := [.int (2 * readHangs), .ref (ad 14)]) ⟨hx, hb, hml, hown, hts⟩ (c_m_takeNumber hcall) (cwV 3 hts (lw_V q927 q929 qs26 q59 q930) rfl rfl rfl (by decide +kernel) ⟨(Nat.le_trans (Nat.le_of_ble_eq_true rfl) hRf), (Nat.le_trans (Nat.le_of_ble_eq_true rfl) hRl)⟩) (pre_V (q0 := 0) (ci := 10) (fun _ _ _ _ h => h) (fun _ _ _ => trivial) hC rfl rfl) rfl rfl hl.1 rfl (lv_room (Nat.le_of_ble_eq_true rfl)) dX10_takeItem_267 ⟨hRc, hRs⟩) hA hC (fun H locs hC => ?_)
              obtain ⟨hi_270, hf⟩ := ck_some hf
              refine va_iast hx hb hC.1 hC.2.1 hC.2.2.1 hC.2.2.2 14 0 rfl rfl hi_270 dX10_takeItem_270 (fun H locs hP hD hS => ?_)
              have hC : HC D gcl (gty d) A (mw d ad w isKept people room work price askings asked hangs hung tenths sortWorth sortDays sorts text texted trace at__267 fault_267 readPeople readPerson readAskings readAsked readHangs (upd readHung (2 * readHangs).toNatClampNeg r_267) rest brings later) s H locs := ⟨hC.1, hP, hD, hS⟩
              refine lv_aload_n hx hb dX10_takeItem_271 rfl (lv_at hl 2 rfl) ?_
              refine va_get (ci := 10) (v := .ref (ad 14)) (C := RX10) (T := TX10) (N := 28) hx hb hts in_X10 hown hC.1 hC.2.1 0 rfl rfl 24 (by decide) (hts _ q830) (fun _ h9 => h9) rfl dX10_takeItem_272 ?_
              refine lv_iconst (v := 2) hx hb dX10_takeItem_275 (by decide) ?_
              refine lv_aload_n hx hb dX10_takeItem_276 rfl (lv_at hl 2 rfl) ?_
              refine va_get (ci := 10) (v := .int readHangs) (C := RX10) (T := TX10) (N := 28) hx hb hts in_X10 hown hC.1 hC.2.1 0 rfl rfl 23 (by decide) (hts _ q829) (fun _ h9 => h9) rfl dX10_takeItem_277 ?_
              refine lv_imul hx hb dX10_takeItem_280 ?_
              refine lv_iconst (v := 1) hx hb dX10_takeItem_281 (by decide) ?_
              refine lv_iadd hx hb dX10_takeItem_282 ?_
              refine lv_aload_n hx hb dX10_takeItem_283 rfl (lv_at hl 2 rfl) ?_
              refine lv_iconst (v := 0) hx hb dX10_takeItem_284 (by decide) ?_
              refine lv_aload_n hx hb dX10_takeItem_285 rfl (lv_at hl 2 rfl) ?_
              refine va_get (ci := 10) (v := .int readAskings) (C := RX10) (T := TX10) (N := 28) hx hb hts in_X10 hown hC.1 hC.2.1 0 rfl rfl 21 (by decide) (hts _ q827) (fun _ h9 => h9) rfl dX10_takeItem_286 ?_
              refine lv_iconst (v := 1) hx hb dX10_takeItem_289 (by decide) ?_
              refine lv_isub hx hb dX10_takeItem_290 ?_
              refine lv_aload_n hx hb dX10_takeItem_291 rfl (lv_at hl 2 rfl) ?_
              refine va_get (ci := 10) (v := .ref (ad 14)) (C := RX10) (T := TX10) (N := 28) hx hb hts in_X10 hown hC.1 hC.2.1 0 rfl rfl 24 (by decide) (hts _ q830) (fun _ h9 => h9) rfl dX10_takeItem_292 ?_
              refine lv_iconst (v := 2) hx hb dX10_takeItem_295 (by decide) ?_
              refine lv_aload_n hx hb dX10_takeItem_296 rfl (lv_at hl 2 rfl) ?_
              refine va_get (ci := 10) (v := .int readHangs) (C := RX10) (T := TX10) (N := 28) hx hb hts in_X10 hown hC.1 hC.2.1 0 rfl rfl 23 (by decide) (hts _ q829) (fun _ h9 => h9) rfl dX10_takeItem_297 ?_
              refine lv_imul hx hb dX10_takeItem_300 ?_
              obtain ⟨hi_301, hf⟩ := ck_some hf
              refine va_iald hx hb hC.1 hC.2.1 14 0 rfl rfl hi_301 dX10_takeItem_301 ?_
              obtain ⟨r_302, at__302, fault_302, hcall, hf⟩ := bnd3_some hf
              refine hc_i (va_runV (C := RX10) (As := [.int 0, .int (readAskings - 1), .int ((upd readHung (2 * readHangs).toNatClampNeg r_267) (2 * readHangs).toNatClampNeg)]) (rest := [.int ((2 * readHangs) + 1), .ref (ad 14)]) ⟨hx, hb, hml, hown, hts⟩ (c_m_takeNumber hcall) (cwV 3 hts (lw_V q927 q929 qs26 q59 q930) rfl rfl rfl (by decide +kernel) ⟨(Nat.le_trans (Nat.le_of_ble_eq_true rfl) hRf), (Nat.le_trans (Nat.le_of_ble_eq_true rfl) hRl)⟩) (pre_V (q0 := 0) (ci := 10) (fun _ _ _ _ h => h) (fun _ _ _ => trivial) hC rfl rfl) rfl rfl hl.1 rfl (lv_room (Nat.le_of_ble_eq_true rfl)) dX10_takeItem_302 ⟨hRc, hRs⟩) hA hC (fun H locs hC => ?_)
              obtain ⟨hi_305, hf⟩ := ck_some hf
              refine va_iast hx hb hC.1 hC.2.1 hC.2.2.1 hC.2.2.2 14 0 rfl rfl hi_305 dX10_takeItem_305 (fun H locs hP hD hS => ?_)
              have hC : HC D gcl (gty d) A (mw d ad w isKept people room work price askings asked hangs hung tenths sortWorth sortDays sorts text texted trace at__302 fault_302 readPeople readPerson readAskings readAsked readHangs (upd (upd readHung (2 * readHangs).toNatClampNeg r_267) ((2 * readHangs) + 1).toNatClampNeg r_302) rest brings later) s H locs := ⟨hC.1, hP, hD, hS⟩
              refine lv_aload_n hx hb dX10_takeItem_306 rfl (lv_at hl 2 rfl) ?_
              refine lv_dup hx hb dX10_takeItem_307 rfl ?_
              refine va_get (ci := 10) (v := .int readHangs) (C := RX10) (T := TX10) (N := 28) hx hb hts in_X10 hown hC.1 hC.2.1 0 rfl rfl 23 (by decide) (hts _ q829) (fun _ h9 => h9) rfl dX10_takeItem_308 ?_
              refine lv_iconst (v := 1) hx hb dX10_takeItem_311 (by decide) ?_
              refine lv_iadd hx hb dX10_takeItem_312 ?_
              refine va_put (ci := 10) (v := .int (readHangs + 1)) (ty := .int) (C := RX10) (T := TX10) (N := 28) hx hb hts in_X10 tyX10 tyX10_ok nmX10 hown hC.1 hC.2.1 hC.2.2.1 hC.2.2.2 0 rfl rfl 23 (by decide) (hts _ q829) (fun _ h9 => h9) rfl (tyX10_ok 23 (by decide)) rfl rfl (Nat.le_of_ble_eq_true rfl) dX10_takeItem_313 (fun H locs hP hD hS => ?_)
              have hC : HC D gcl (gty d) A (mw d ad w isKept people room work price askings asked hangs hung tenths sortWorth sortDays sorts text texted trace at__302 fault_302 readPeople readPerson readAskings readAsked (readHangs + 1) (upd (upd readHung (2 * readHangs).toNatClampNeg r_267) ((2 * readHangs) + 1).toNatClampNeg r_302) rest brings later) s H locs := ⟨hC.1, hP, hD, hS⟩
              refine lv_goto (tgt := 324) hx hb dX10_takeItem_316 (by decide) ?_
              obtain ⟨e_1, e_2, e_3, e_4, e_5, e_6, e_7, e_8⟩ := so_8 (Option.some.inj hf)
              subst e_1
              subst e_2
              subst e_3
              subst e_4
              subst e_5
              subst e_6
              subst e_7
              subst e_8
              exact J_324 H locs ls hC (lv_sub hl [2] rfl)
        · have hf := if_f hf c_112
          refine lv_iconst (v := 5) hx hb dX10_takeItem_115 (by decide) ?_
          refine lv_aload_n hx hb dX10_takeItem_116 rfl (lv_at hl 2 rfl) ?_
          refine va_get (ci := 10) (v := .int readAskings) (C := RX10) (T := TX10) (N := 28) hx hb hts in_X10 hown hC.1 hC.2.1 0 rfl rfl 21 (by decide) (hts _ q827) (fun _ h9 => h9) rfl dX10_takeItem_117 ?_
          refine lv_imul hx hb dX10_takeItem_120 ?_
          refine lv_istore (lv' := [(4, .int (5 * readAskings)), (2, .long r_6), (1, .int at_), (0, .ref (ad 0))]) hx hb dX10_takeItem_121 hl (by decide) rfl (fun ls hl => ?_)
          refine lv_aload_n hx hb dX10_takeItem_123 rfl (lv_at hl 3 rfl) ?_
          refine va_get (ci := 10) (v := .ref (ad 13)) (C := RX10) (T := TX10) (N := 28) hx hb hts in_X10 hown hC.1 hC.2.1 0 rfl rfl 22 (by decide) (hts _ q828) (fun _ h9 => h9) rfl dX10_takeItem_124 ?_
          refine lv_iload hx hb dX10_takeItem_127 (lv_at hl 0 rfl) ?_
          refine lv_aload_n hx hb dX10_takeItem_129 rfl (lv_at hl 3 rfl) ?_
          refine lv_iconst (v := 0) hx hb dX10_takeItem_130 (by decide) ?_
          refine lv_aload_n hx hb dX10_takeItem_131 rfl (lv_at hl 3 rfl) ?_
          refine va_get (ci := 10) (v := .int readPeople) (C := RX10) (T := TX10) (N := 28) hx hb hts in_X10 hown hC.1 hC.2.1 0 rfl rfl 19 (by decide) (hts _ q825) (fun _ h9 => h9) rfl dX10_takeItem_132 ?_
          refine lv_iconst (v := 1) hx hb dX10_takeItem_135 (by decide) ?_
          refine lv_isub hx hb dX10_takeItem_136 ?_
          refine lv_iconst (v := (-1)) hx hb dX10_takeItem_137 (by decide) ?_
          obtain ⟨r_138, at__138, fault_138, hcall, hf⟩ := bnd3_some hf
          refine hc_i (va_runV (C := RX10) (As := [.int 0, .int (readPeople - 1), .int (-1)]) (rest := [.int (5 * readAskings), .ref (ad 13)]) ⟨hx, hb, hml, hown, hts⟩ (c_m_takeNumber hcall) (cwV 3 hts (lw_V q927 q929 qs26 q59 q930) rfl rfl rfl (by decide +kernel) ⟨(Nat.le_trans (Nat.le_of_ble_eq_true rfl) hRf), (Nat.le_trans (Nat.le_of_ble_eq_true rfl) hRl)⟩) (pre_V (q0 := 0) (ci := 10) (fun _ _ _ _ h => h) (fun _ _ _ => trivial) hC rfl rfl) rfl rfl hl.1 rfl (lv_room (Nat.le_of_ble_eq_true rfl)) dX10_takeItem_138 ⟨hRc, hRs⟩) hA hC (fun H locs hC => ?_)
          obtain ⟨hi_141, hf⟩ := ck_some hf
          refine va_iast hx hb hC.1 hC.2.1 hC.2.2.1 hC.2.2.2 13 0 rfl rfl hi_141 dX10_takeItem_141 (fun H locs hP hD hS => ?_)
          have hC : HC D gcl (gty d) A (mw d ad w isKept people room work price askings asked hangs hung tenths sortWorth sortDays sorts text texted trace at__138 fault_138 readPeople readPerson readAskings (upd readAsked (5 * readAskings).toNatClampNeg r_138) readHangs readHung rest brings later) s H locs := ⟨hC.1, hP, hD, hS⟩
          refine lv_aload_n hx hb dX10_takeItem_142 rfl (lv_at hl 3 rfl) ?_
          refine va_get (ci := 10) (v := .ref (ad 13)) (C := RX10) (T := TX10) (N := 28) hx hb hts in_X10 hown hC.1 hC.2.1 0 rfl rfl 22 (by decide) (hts _ q828) (fun _ h9 => h9) rfl dX10_takeItem_143 ?_
          refine lv_iload hx hb dX10_takeItem_146 (lv_at hl 0 rfl) ?_
          refine lv_iconst (v := 1) hx hb dX10_takeItem_148 (by decide) ?_
          refine lv_iadd hx hb dX10_takeItem_149 ?_
          refine lv_aload_n hx hb dX10_takeItem_150 rfl (lv_at hl 3 rfl) ?_
          refine lv_iconst (v := 0) hx hb dX10_takeItem_151 (by decide) ?_
          refine lv_bipush (v := 9) hx hb dX10_takeItem_152 (by decide) ?_
          refine lv_iconst (v := (-1)) hx hb dX10_takeItem_154 (by decide) ?_
          obtain ⟨r_155, at__155, fault_155, hcall, hf⟩ := bnd3_some hf
          refine hc_i (va_runV (C := RX10) (As := [.int 0, .int 9, .int (-1)]) (rest := [.int ((5 * readAskings) + 1), .ref (ad 13)]) ⟨hx, hb, hml, hown, hts⟩ (c_m_takeNumber hcall) (cwV 3 hts (lw_V q927 q929 qs26 q59 q930) rfl rfl rfl (by decide +kernel) ⟨(Nat.le_trans (Nat.le_of_ble_eq_true rfl) hRf), (Nat.le_trans (Nat.le_of_ble_eq_true rfl) hRl)⟩) (pre_V (q0 := 0) (ci := 10) (fun _ _ _ _ h => h) (fun _ _ _ => trivial) hC rfl rfl) rfl rfl hl.1 rfl (lv_room (Nat.le_of_ble_eq_true rfl)) dX10_takeItem_155 ⟨hRc, hRs⟩) hA hC (fun H locs hC => ?_)
          obtain ⟨hi_158, hf⟩ := ck_some hf
          refine va_iast hx hb hC.1 hC.2.1 hC.2.2.1 hC.2.2.2 13 0 rfl rfl hi_158 dX10_takeItem_158 (fun H locs hP hD hS => ?_)
          have hC : HC D gcl (gty d) A (mw d ad w isKept people room work price askings asked hangs hung tenths sortWorth sortDays sorts text texted trace at__155 fault_155 readPeople readPerson readAskings (upd (upd readAsked (5 * readAskings).toNatClampNeg r_138) ((5 * readAskings) + 1).toNatClampNeg r_155) readHangs readHung rest brings later) s H locs := ⟨hC.1, hP, hD, hS⟩
          refine lv_aload_n hx hb dX10_takeItem_159 rfl (lv_at hl 3 rfl) ?_
          refine va_get (ci := 10) (v := .ref (ad 13)) (C := RX10) (T := TX10) (N := 28) hx hb hts in_X10 hown hC.1 hC.2.1 0 rfl rfl 22 (by decide) (hts _ q828) (fun _ h9 => h9) rfl dX10_takeItem_160 ?_
          refine lv_iload hx hb dX10_takeItem_163 (lv_at hl 0 rfl) ?_
          refine lv_iconst (v := 2) hx hb dX10_takeItem_165 (by decide) ?_
          refine lv_iadd hx hb dX10_takeItem_166 ?_
          refine lv_aload_n hx hb dX10_takeItem_167 rfl (lv_at hl 3 rfl) ?_
          refine lv_iconst (v := 1) hx hb dX10_takeItem_168 (by decide) ?_
          refine lv_bipush (v := 9) hx hb dX10_takeItem_169 (by decide) ?_
          refine lv_iconst (v := (-1)) hx hb dX10_takeItem_171 (by decide) ?_
          obtain ⟨r_172, at__172, fault_172, hcall, hf⟩ := bnd3_some hf
          refine hc_i (va_runV (C := RX10) (As := [.int 1, .int 9, .int (-1)]) (rest := [.int ((5 * readAskings) + 2), .ref (ad 13)]) ⟨hx, hb, hml, hown, hts⟩ (c_m_takeNumber hcall) (cwV 3 hts (lw_V q927 q929 qs26 q59 q930) rfl rfl rfl (by decide +kernel) ⟨(Nat.le_trans (Nat.le_of_ble_eq_true rfl) hRf), (Nat.le_trans (Nat.le_of_ble_eq_true rfl) hRl)⟩) (pre_V (q0 := 0) (ci := 10) (fun _ _ _ _ h => h) (fun _ _ _ => trivial) hC rfl rfl) rfl rfl hl.1 rfl (lv_room (Nat.le_of_ble_eq_true rfl)) dX10_takeItem_172 ⟨hRc, hRs⟩) hA hC (fun H locs hC => ?_)
          obtain ⟨hi_175, hf⟩ := ck_some hf
          refine va_iast hx hb hC.1 hC.2.1 hC.2.2.1 hC.2.2.2 13 0 rfl rfl hi_175 dX10_takeItem_175 (fun H locs hP hD hS => ?_)
          have hC : HC D gcl (gty d) A (mw d ad w isKept people room work price askings asked hangs hung tenths sortWorth sortDays sorts text texted trace at__172 fault_172 readPeople readPerson readAskings (upd (upd (upd readAsked (5 * readAskings).toNatClampNeg r_138) ((5 * readAskings) + 1).toNatClampNeg r_155) ((5 * readAskings) + 2).toNatClampNeg r_172) readHangs readHung rest brings later) s H locs := ⟨hC.1, hP, hD, hS⟩
          refine lv_aload_n hx hb dX10_takeItem_176 rfl (lv_at hl 3 rfl) ?_
          refine va_get (ci := 10) (v := .ref (ad 13)) (C := RX10) (T := TX10) (N := 28) hx hb hts in_X10 hown hC.1 hC.2.1 0 rfl rfl 22 (by decide) (hts _ q828) (fun _ h9 => h9) rfl dX10_takeItem_177 ?_
          refine lv_iload hx hb dX10_takeItem_180 (lv_at hl 0 rfl) ?_
          refine lv_iconst (v := 3) hx hb dX10_takeItem_182 (by decide) ?_
          refine lv_iadd hx hb dX10_takeItem_183 ?_
          refine lv_aload_n hx hb dX10_takeItem_184 rfl (lv_at hl 3 rfl) ?_
          refine lv_iconst (v := 1) hx hb dX10_takeItem_185 (by decide) ?_
          refine lv_bipush (v := 99) hx hb dX10_takeItem_186 (by decide) ?_
          refine lv_iconst (v := (-1)) hx hb dX10_takeItem_188 (by decide) ?_
          obtain ⟨r_189, at__189, fault_189, hcall, hf⟩ := bnd3_some hf
          refine hc_i (va_runV (C := RX10) (As := [.int 1, .int 99, .int (-1)]) (rest := [.int ((5 * readAskings) + 3), .ref (ad 13)]) ⟨hx, hb, hml, hown, hts⟩ (c_m_takeNumber hcall) (cwV 3 hts (lw_V q927 q929 qs26 q59 q930) rfl rfl rfl (by decide +kernel) ⟨(Nat.le_trans (Nat.le_of_ble_eq_true rfl) hRf), (Nat.le_trans (Nat.le_of_ble_eq_true rfl) hRl)⟩) (pre_V (q0 := 0) (ci := 10) (fun _ _ _ _ h => h) (fun _ _ _ => trivial) hC rfl rfl) rfl rfl hl.1 rfl (lv_room (Nat.le_of_ble_eq_true rfl)) dX10_takeItem_189 ⟨hRc, hRs⟩) hA hC (fun H locs hC => ?_)
          obtain ⟨hi_192, hf⟩ := ck_some hf
          refine va_iast hx hb hC.1 hC.2.1 hC.2.2.1 hC.2.2.2 13 0 rfl rfl hi_192 dX10_takeItem_192 (fun H locs hP hD hS => ?_)
          have hC : HC D gcl (gty d) A (mw d ad w isKept people room work price askings asked hangs hung tenths sortWorth sortDays sorts text texted trace at__189 fault_189 readPeople readPerson readAskings (upd (upd (upd (upd readAsked (5 * readAskings).toNatClampNeg r_138) ((5 * readAskings) + 1).toNatClampNeg r_155) ((5 * readAskings) + 2).toNatClampNeg r_172) ((5 * readAskings) + 3).toNatClampNeg r_189) readHangs readHung rest brings later) s H locs := ⟨hC.1, hP, hD, hS⟩
          refine lv_aload_n hx hb dX10_takeItem_193 rfl (lv_at hl 3 rfl) ?_
          refine va_get (ci := 10) (v := .ref (ad 13)) (C := RX10) (T := TX10) (N := 28) hx hb hts in_X10 hown hC.1 hC.2.1 0 rfl rfl 22 (by decide) (hts _ q828) (fun _ h9 => h9) rfl dX10_takeItem_194 ?_
          refine lv_iload hx hb dX10_takeItem_197 (lv_at hl 0 rfl) ?_
          refine lv_iconst (v := 4) hx hb dX10_takeItem_199 (by decide) ?_
          refine lv_iadd hx hb dX10_takeItem_200 ?_
          refine lv_aload_n hx hb dX10_takeItem_201 rfl (lv_at hl 3 rfl) ?_
          refine lv_aload_n hx hb dX10_takeItem_202 rfl (lv_at hl 3 rfl) ?_
          refine va_get (ci := 10) (v := .ref (ad 13)) (C := RX10) (T := TX10) (N := 28) hx hb hts in_X10 hown hC.1 hC.2.1 0 rfl rfl 22 (by decide) (hts _ q828) (fun _ h9 => h9) rfl dX10_takeItem_203 ?_
          refine lv_iload hx hb dX10_takeItem_206 (lv_at hl 0 rfl) ?_
          refine lv_iconst (v := 1) hx hb dX10_takeItem_208 (by decide) ?_
          refine lv_iadd hx hb dX10_takeItem_209 ?_
          obtain ⟨hi_210, hf⟩ := ck_some hf
          refine va_iald hx hb hC.1 hC.2.1 13 0 rfl rfl hi_210 dX10_takeItem_210 ?_
          refine lv_bipush (v := 9) hx hb dX10_takeItem_211 (by decide) ?_
          refine lv_iconst (v := (-1)) hx hb dX10_takeItem_213 (by decide) ?_
          obtain ⟨r_214, at__214, fault_214, hcall, hf⟩ := bnd3_some hf
          refine hc_i (va_runV (C := RX10) (As := [.int ((upd (upd (upd (upd readAsked (5 * readAskings).toNatClampNeg r_138) ((5 * readAskings) + 1).toNatClampNeg r_155) ((5 * readAskings) + 2).toNatClampNeg r_172) ((5 * readAskings) + 3).toNatClampNeg r_189) ((5 * readAskings) + 1).toNatClampNeg), .int 9, .int (-1)]) (rest := [.int ((5 * readAskings) + 4), .ref (ad 13)]) ⟨hx, hb, hml, hown, hts⟩ (c_m_takeNumber hcall) (cwV 3 hts (lw_V q927 q929 qs26 q59 q930) rfl rfl rfl (by decide +kernel) ⟨(Nat.le_trans (Nat.le_of_ble_eq_true rfl) hRf), (Nat.le_trans (Nat.le_of_ble_eq_true rfl) hRl)⟩) (pre_V (q0 := 0) (ci := 10) (fun _ _ _ _ h => h) (fun _ _ _ => trivial) hC rfl rfl) rfl rfl hl.1 rfl (lv_room (Nat.le_of_ble_eq_true rfl)) dX10_takeItem_214 ⟨hRc, hRs⟩) hA hC (fun H locs hC => ?_)
          obtain ⟨hi_217, hf⟩ := ck_some hf
          refine va_iast hx hb hC.1 hC.2.1 hC.2.2.1 hC.2.2.2 13 0 rfl rfl hi_217 dX10_takeItem_217 (fun H locs hP hD hS => ?_)
          have hC : HC D gcl (gty d) A (mw d ad w isKept people room work price askings asked hangs hung tenths sortWorth sortDays sorts text texted trace at__214 fault_214 readPeople readPerson readAskings (upd (upd (upd (upd (upd readAsked (5 * readAskings).toNatClampNeg r_138) ((5 * readAskings) + 1).toNatClampNeg r_155) ((5 * readAskings) + 2).toNatClampNeg r_172) ((5 * readAskings) + 3).toNatClampNeg r_189) ((5 * readAskings) + 4).toNatClampNeg r_214) readHangs readHung rest brings later) s H locs := ⟨hC.1, hP, hD, hS⟩
          refine lv_aload_n hx hb dX10_takeItem_218 rfl (lv_at hl 3 rfl) ?_
          refine lv_dup hx hb dX10_takeItem_219 rfl ?_
          refine va_get (ci := 10) (v := .int readAskings) (C := RX10) (T := TX10) (N := 28) hx hb hts in_X10 hown hC.1 hC.2.1 0 rfl rfl 21 (by decide) (hts _ q827) (fun _ h9 => h9) rfl dX10_takeItem_220 ?_
          refine lv_iconst (v := 1) hx hb dX10_takeItem_223 (by decide) ?_
          refine lv_iadd hx hb dX10_takeItem_224 ?_
          refine va_put (ci := 10) (v := .int (readAskings + 1)) (ty := .int) (C := RX10) (T := TX10) (N := 28) hx hb hts in_X10 tyX10 tyX10_ok nmX10 hown hC.1 hC.2.1 hC.2.2.1 hC.2.2.2 0 rfl rfl 21 (by decide) (hts _ q827) (fun _ h9 => h9) rfl (tyX10_ok 21 (by decide)) rfl rfl (Nat.le_of_ble_eq_true rfl) dX10_takeItem_225 (fun H locs hP hD hS => ?_)
          have hC : HC D gcl (gty d) A (mw d ad w isKept people room work price askings asked hangs hung tenths sortWorth sortDays sorts text texted trace at__214 fault_214 readPeople readPerson (readAskings + 1) (upd (upd (upd (upd (upd readAsked (5 * readAskings).toNatClampNeg r_138) ((5 * readAskings) + 1).toNatClampNeg r_155) ((5 * readAskings) + 2).toNatClampNeg r_172) ((5 * readAskings) + 3).toNatClampNeg r_189) ((5 * readAskings) + 4).toNatClampNeg r_214) readHangs readHung rest brings later) s H locs := ⟨hC.1, hP, hD, hS⟩
          refine lv_goto (tgt := 324) hx hb dX10_takeItem_228 (by decide) ?_
          obtain ⟨e_1, e_2, e_3, e_4, e_5, e_6, e_7, e_8⟩ := so_8 (Option.some.inj hf)
          subst e_1
          subst e_2
          subst e_3
          subst e_4
          subst e_5
          subst e_6
          subst e_7
          subst e_8
          exact J_324 H locs ls hC (lv_sub hl [3] rfl)
    · have hf := if_f hf c_23
      refine lv_aload_n hx hb dX10_takeItem_26 rfl (lv_at hl 2 rfl) ?_
      refine va_get (ci := 10) (v := .ref (ad 12)) (C := RX10) (T := TX10) (N := 28) hx hb hts in_X10 hown hC.1 hC.2.1 0 rfl rfl 20 (by decide) (hts _ q826) (fun _ h9 => h9) rfl dX10_takeItem_27 ?_
      refine lv_iconst (v := 3) hx hb dX10_takeItem_30 (by decide) ?_
      refine lv_aload_n hx hb dX10_takeItem_31 rfl (lv_at hl 2 rfl) ?_
      refine va_get (ci := 10) (v := .int readPeople) (C := RX10) (T := TX10) (N := 28) hx hb hts in_X10 hown hC.1 hC.2.1 0 rfl rfl 19 (by decide) (hts _ q825) (fun _ h9 => h9) rfl dX10_takeItem_32 ?_
      refine lv_imul hx hb dX10_takeItem_35 ?_
      refine lv_aload_n hx hb dX10_takeItem_36 rfl (lv_at hl 2 rfl) ?_
      refine lv_iconst (v := 1) hx hb dX10_takeItem_37 (by decide) ?_
      refine lv_iconst (v := 5) hx hb dX10_takeItem_38 (by decide) ?_
      refine lv_iconst (v := (-1)) hx hb dX10_takeItem_39 (by decide) ?_
      obtain ⟨r_40, at__40, fault_40, hcall, hf⟩ := bnd3_some hf
      refine hc_i (va_runV (C := RX10) (As := [.int 1, .int 5, .int (-1)]) (rest := [.int (3 * readPeople), .ref (ad 12)]) ⟨hx, hb, hml, hown, hts⟩ (c_m_takeNumber hcall) (cwV 3 hts (lw_V q927 q929 qs26 q59 q930) rfl rfl rfl (by decide +kernel) ⟨(Nat.le_trans (Nat.le_of_ble_eq_true rfl) hRf), (Nat.le_trans (Nat.le_of_ble_eq_true rfl) hRl)⟩) (pre_V (q0 := 0) (ci := 10) (fun _ _ _ _ h => h) (fun _ _ _ => trivial) hC rfl rfl) rfl rfl hl.1 rfl (lv_room (Nat.le_of_ble_eq_true rfl)) dX10_takeItem_40 ⟨hRc, hRs⟩) hA hC (fun H locs hC => ?_)
      obtain ⟨hi_43, hf⟩ := ck_some hf
      refine va_iast hx hb hC.1 hC.2.1 hC.2.2.1 hC.2.2.2 12 0 rfl rfl hi_43 dX10_takeItem_43 (fun H locs hP hD hS => ?_)
      have hC : HC D gcl (gty d) A (mw d ad w isKept people room work price askings asked hangs hung tenths sortWorth sortDays sorts text texted trace at__40 fault_40 readPeople (upd readPerson (3 * readPeople).toNatClampNeg r_40) readAskings readAsked readHangs readHung rest brings later) s H locs := ⟨hC.1, hP, hD, hS⟩
      refine lv_aload_n hx hb dX10_takeItem_44 rfl (lv_at hl 2 rfl) ?_
      refine va_get (ci := 10) (v := .ref (ad 12)) (C := RX10) (T := TX10) (N := 28) hx hb hts in_X10 hown hC.1 hC.2.1 0 rfl rfl 20 (by decide) (hts _ q826) (fun _ h9 => h9) rfl dX10_takeItem_45 ?_
      refine lv_iconst (v := 3) hx hb dX10_takeItem_48 (by decide) ?_
      refine lv_aload_n hx hb dX10_takeItem_49 rfl (lv_at hl 2 rfl) ?_
      refine va_get (ci := 10) (v := .int readPeople) (C := RX10) (T := TX10) (N := 28) hx hb hts in_X10 hown hC.1 hC.2.1 0 rfl rfl 19 (by decide) (hts _ q825) (fun _ h9 => h9) rfl dX10_takeItem_50 ?_
      refine lv_imul hx hb dX10_takeItem_53 ?_
      refine lv_iconst (v := 1) hx hb dX10_takeItem_54 (by decide) ?_
      refine lv_iadd hx hb dX10_takeItem_55 ?_
      refine lv_aload_n hx hb dX10_takeItem_56 rfl (lv_at hl 2 rfl) ?_
      refine lv_iconst (v := 1) hx hb dX10_takeItem_57 (by decide) ?_
      refine lv_iconst (v := 3) hx hb dX10_takeItem_58 (by decide) ?_
      refine lv_iconst (v := (-1)) hx hb dX10_takeItem_59 (by decide) ?_
      obtain ⟨r_60, at__60, fault_60, hcall, hf⟩ := bnd3_some hf
      refine hc_i (va_runV (C := RX10) (As := [.int 1, .int 3, .int (-1)]) (rest := [.int ((3 * readPeople) + 1), .ref (ad 12)]) ⟨hx, hb, hml, hown, hts⟩ (c_m_takeNumber hcall) (cwV 3 hts (lw_V q927 q929 qs26 q59 q930) rfl rfl rfl (by decide +kernel) ⟨(Nat.le_trans (Nat.le_of_ble_eq_true rfl) hRf), (Nat.le_trans (Nat.le_of_ble_eq_true rfl) hRl)⟩) (pre_V (q0 := 0) (ci := 10) (fun _ _ _ _ h => h) (fun _ _ _ => trivial) hC rfl rfl) rfl rfl hl.1 rfl (lv_room (Nat.le_of_ble_eq_true rfl)) dX10_takeItem_60 ⟨hRc, hRs⟩) hA hC (fun H locs hC => ?_)
      obtain ⟨hi_63, hf⟩ := ck_some hf
      refine va_iast hx hb hC.1 hC.2.1 hC.2.2.1 hC.2.2.2 12 0 rfl rfl hi_63 dX10_takeItem_63 (fun H locs hP hD hS => ?_)
      have hC : HC D gcl (gty d) A (mw d ad w isKept people room work price askings asked hangs hung tenths sortWorth sortDays sorts text texted trace at__60 fault_60 readPeople (upd (upd readPerson (3 * readPeople).toNatClampNeg r_40) ((3 * readPeople) + 1).toNatClampNeg r_60) readAskings readAsked readHangs readHung rest brings later) s H locs := ⟨hC.1, hP, hD, hS⟩
      refine lv_aload_n hx hb dX10_takeItem_64 rfl (lv_at hl 2 rfl) ?_
      refine va_get (ci := 10) (v := .ref (ad 12)) (C := RX10) (T := TX10) (N := 28) hx hb hts in_X10 hown hC.1 hC.2.1 0 rfl rfl 20 (by decide) (hts _ q826) (fun _ h9 => h9) rfl dX10_takeItem_65 ?_
      refine lv_iconst (v := 3) hx hb dX10_takeItem_68 (by decide) ?_
      refine lv_aload_n hx hb dX10_takeItem_69 rfl (lv_at hl 2 rfl) ?_
      refine va_get (ci := 10) (v := .int readPeople) (C := RX10) (T := TX10) (N := 28) hx hb hts in_X10 hown hC.1 hC.2.1 0 rfl rfl 19 (by decide) (hts _ q825) (fun _ h9 => h9) rfl dX10_takeItem_70 ?_
      refine lv_imul hx hb dX10_takeItem_73 ?_
      refine lv_iconst (v := 2) hx hb dX10_takeItem_74 (by decide) ?_
      refine lv_iadd hx hb dX10_takeItem_75 ?_
      refine lv_aload_n hx hb dX10_takeItem_76 rfl (lv_at hl 2 rfl) ?_
      refine lv_iconst (v := 0) hx hb dX10_takeItem_77 (by decide) ?_
      refine lv_bipush (v := 9) hx hb dX10_takeItem_78 (by decide) ?_
      refine lv_iconst (v := (-1)) hx hb dX10_takeItem_80 (by decide) ?_
      obtain ⟨r_81, at__81, fault_81, hcall, hf⟩ := bnd3_some hf
      refine hc_i (va_runV (C := RX10) (As := [.int 0, .int 9, .int (-1)]) (rest := [.int ((3 * readPeople) + 2), .ref (ad 12)]) ⟨hx, hb, hml, hown, hts⟩ (c_m_takeNumber hcall) (cwV 3 hts (lw_V q927 q929 qs26 q59 q930) rfl rfl rfl (by decide +kernel) ⟨(Nat.le_trans (Nat.le_of_ble_eq_true rfl) hRf), (Nat.le_trans (Nat.le_of_ble_eq_true rfl) hRl)⟩) (pre_V (q0 := 0) (ci := 10) (fun _ _ _ _ h => h) (fun _ _ _ => trivial) hC rfl rfl) rfl rfl hl.1 rfl (lv_room (Nat.le_of_ble_eq_true rfl)) dX10_takeItem_81 ⟨hRc, hRs⟩) hA hC (fun H locs hC => ?_)
      obtain ⟨hi_84, hf⟩ := ck_some hf
      refine va_iast hx hb hC.1 hC.2.1 hC.2.2.1 hC.2.2.2 12 0 rfl rfl hi_84 dX10_takeItem_84 (fun H locs hP hD hS => ?_)
      have hC : HC D gcl (gty d) A (mw d ad w isKept people room work price askings asked hangs hung tenths sortWorth sortDays sorts text texted trace at__81 fault_81 readPeople (upd (upd (upd readPerson (3 * readPeople).toNatClampNeg r_40) ((3 * readPeople) + 1).toNatClampNeg r_60) ((3 * readPeople) + 2).toNatClampNeg r_81) readAskings readAsked readHangs readHung rest brings later) s H locs := ⟨hC.1, hP, hD, hS⟩
      refine lv_aload_n hx hb dX10_takeItem_85 rfl (lv_at hl 2 rfl) ?_
      refine lv_dup hx hb dX10_takeItem_86 rfl ?_
      refine va_get (ci := 10) (v := .int readPeople) (C := RX10) (T := TX10) (N := 28) hx hb hts in_X10 hown hC.1 hC.2.1 0 rfl rfl 19 (by decide) (hts _ q825) (fun _ h9 => h9) rfl dX10_takeItem_87 ?_
      refine lv_iconst (v := 1) hx hb dX10_takeItem_90 (by decide) ?_
      refine lv_iadd hx hb dX10_takeItem_91 ?_
      refine va_put (ci := 10) (v := .int (readPeople + 1)) (ty := .int) (C := RX10) (T := TX10) (N := 28) hx hb hts in_X10 tyX10 tyX10_ok nmX10 hown hC.1 hC.2.1 hC.2.2.1 hC.2.2.2 0 rfl rfl 19 (by decide) (hts _ q825) (fun _ h9 => h9) rfl (tyX10_ok 19 (by decide)) rfl rfl (Nat.le_of_ble_eq_true rfl) dX10_takeItem_92 (fun H locs hP hD hS => ?_)
      have hC : HC D gcl (gty d) A (mw d ad w isKept people room work price askings asked hangs hung tenths sortWorth sortDays sorts text texted trace at__81 fault_81 (readPeople + 1) (upd (upd (upd readPerson (3 * readPeople).toNatClampNeg r_40) ((3 * readPeople) + 1).toNatClampNeg r_60) ((3 * readPeople) + 2).toNatClampNeg r_81) readAskings readAsked readHangs readHung rest brings later) s H locs := ⟨hC.1, hP, hD, hS⟩
      refine lv_goto (tgt := 324) hx hb dX10_takeItem_95 (by decide) ?_
      obtain ⟨e_1, e_2, e_3, e_4, e_5, e_6, e_7, e_8⟩ := so_8 (Option.some.inj hf)
      subst e_1
      subst e_2
      subst e_3
      subst e_4
      subst e_5
      subst e_6
      subst e_7
      subst e_8
      exact J_324 H locs ls hC (lv_sub hl [2] rfl)
set_option maxRecDepth 100000 in
theorem c_m_takeItem {l : Launch} {sz : Nat} {D : va_G} {d : Nat → ClassId} {ad : Nat → Nat} {w : Nat → Int32} {isKept : Nat → Int32} {people : Int32} {room : Nat → Int32} {work : Nat → Int32} {price : Nat → Int32} {askings : Int32} {asked : Nat → Int32} {hangs : Int32} {hung : Nat → Int32} {tenths : Nat → Int32} {sortWorth : Nat → Int32} {sortDays : Nat → Int32} {sorts : Int32} {text : Nat → Int32} {texted : Int32} {trace : Int64} {at_ : Int32} {fault : Int32} {readPeople : Int32} {readPerson : Nat → Int32} {readAskings : Int32} {readAsked : Nat → Int32} {readHangs : Int32} {readHung : Nat → Int32} {rest : Nat → Int32} {brings : Nat → Int64} {later : Nat → Int64} {at__r : Int32} {fault_r : Int32} {readPeople_r : Int32} {readPerson_r : Nat → Int32} {readAskings_r : Int32} {readAsked_r : Nat → Int32} {readHangs_r : Int32} {readHung_r : Nat → Int32} (hf : m_takeItem text texted at_ fault readPeople readPerson readAskings readAsked readHangs readHung = some (at__r, fault_r, readPeople_r, readPerson_r, readAskings_r, readAsked_r, readHangs_r, readHung_r)) : MV l yX10_takeItem (ws_ yX10_takeItem cX10_takeItem 5 none) { frames := 2, cells := 0, slots := 0, locals := 51 } D gcl (gty d) (fun _ => True) (mw d ad w isKept people room work price askings asked hangs hung tenths sortWorth sortDays sorts text texted trace at_ fault readPeople readPerson readAskings readAsked readHangs readHung rest brings later) (mw d ad w isKept people room work price askings asked hangs hung tenths sortWorth sortDays sorts text texted trace at__r fault_r readPeople_r readPerson_r readAskings_r readAsked_r readHangs_r readHung_r rest brings later) sz [.ref (ad 0)] :=
  MV.of (by decide) [.ref (ad 0)] [(0, .ref (ad 0))] (Nat.le_of_ble_eq_true rfl) rfl (fun p e s m below meth c ls Q hx hb hml hown hts hN hA hC hl K => w_m_takeItem hx hb hml hown hts hA (Nat.le_refl _) (Nat.le_refl _) (Nat.le_refl _) (Nat.le_refl _) hf hC hl K)

def m_town_L26 (text : Nat → Int32) (texted : Int32) : Nat → Int32 → Int32 → Int32 → (Nat → Int32) → Int32 → (Nat → Int32) → Int32 → (Nat → Int32) → Option (Int32 × Int32 × Int32 × (Nat → Int32) × Int32 × (Nat → Int32) × Int32 × (Nat → Int32))
  | 0, _, _, _, _, _, _, _, _ => none
  | n_26 + 1, at__26, fault_26, readPeople_26, readPerson_26, readAskings_26, readAsked_26, readHangs_26, readHung_26 =>
  if 0 ≤ fault_26 then (some (at__26, fault_26, readPeople_26, readPerson_26, readAskings_26, readAsked_26, readHangs_26, readHung_26)) else
  bnd2 (m_isEnd text texted at__26) fun r_34 at__34 =>
  if r_34 = 0 then (bnd8 (m_takeItem text texted at__34 fault_26 readPeople_26 readPerson_26 readAskings_26 readAsked_26 readHangs_26 readHung_26) fun at__41 fault_41 readPeople_41 readPerson_41 readAskings_41 readAsked_41 readHangs_41 readHung_41 =>
  m_town_L26 text texted n_26 at__41 fault_41 readPeople_41 readPerson_41 readAskings_41 readAsked_41 readHangs_41 readHung_41) else
  some (at__34, fault_26, readPeople_26, readPerson_26, readAskings_26, readAsked_26, readHangs_26, readHung_26)
theorem m_town_L26_s (text : Nat → Int32) (texted : Int32) (n_26 : Nat) (at__26 : Int32) (fault_26 : Int32) (readPeople_26 : Int32) (readPerson_26 : Nat → Int32) (readAskings_26 : Int32) (readAsked_26 : Nat → Int32) (readHangs_26 : Int32) (readHung_26 : Nat → Int32) : m_town_L26 text texted (n_26 + 1) at__26 fault_26 readPeople_26 readPerson_26 readAskings_26 readAsked_26 readHangs_26 readHung_26 = (
  if 0 ≤ fault_26 then (some (at__26, fault_26, readPeople_26, readPerson_26, readAskings_26, readAsked_26, readHangs_26, readHung_26)) else
  bnd2 (m_isEnd text texted at__26) fun r_34 at__34 =>
  if r_34 = 0 then (bnd8 (m_takeItem text texted at__34 fault_26 readPeople_26 readPerson_26 readAskings_26 readAsked_26 readHangs_26 readHung_26) fun at__41 fault_41 readPeople_41 readPerson_41 readAskings_41 readAsked_41 readHangs_41 readHung_41 =>
  m_town_L26 text texted n_26 at__41 fault_41 readPeople_41 readPerson_41 readAskings_41 readAsked_41 readHangs_41 readHung_41) else
  some (at__34, fault_26, readPeople_26, readPerson_26, readAskings_26, readAsked_26, readHangs_26, readHung_26)) := rfl
def m_town_L72 (readPeople_47 : Int32) (readPerson_47 : Nat → Int32) : Nat → Int32 → (Nat → Int32) → (Nat → Int32) → (Nat → Int32) → Option ((Nat → Int32) × (Nat → Int32) × (Nat → Int32))
  | 0, _, _, _, _ => none
  | n_72 + 1, x1_72, room_72, work_72, price_72 =>
  if readPeople_47 ≤ x1_72 then (some (room_72, work_72, price_72)) else
  ck (3 * x1_72) 12 <| ck x1_72 4 <| ck ((3 * x1_72) + 1) 12 <| ck x1_72 4 <| ck ((3 * x1_72) + 2) 12 <| ck x1_72 4 <| m_town_L72 readPeople_47 readPerson_47 n_72 (x1_72 + 1) (upd room_72 x1_72.toNatClampNeg (readPerson_47 (3 * x1_72).toNatClampNeg)) (upd work_72 x1_72.toNatClampNeg (readPerson_47 ((3 * x1_72) + 1).toNatClampNeg)) (upd price_72 x1_72.toNatClampNeg (readPerson_47 ((3 * x1_72) + 2).toNatClampNeg))
theorem m_town_L72_s (readPeople_47 : Int32) (readPerson_47 : Nat → Int32) (n_72 : Nat) (x1_72 : Int32) (room_72 : Nat → Int32) (work_72 : Nat → Int32) (price_72 : Nat → Int32) : m_town_L72 readPeople_47 readPerson_47 (n_72 + 1) x1_72 room_72 work_72 price_72 = (
  if readPeople_47 ≤ x1_72 then (some (room_72, work_72, price_72)) else
  ck (3 * x1_72) 12 <| ck x1_72 4 <| ck ((3 * x1_72) + 1) 12 <| ck x1_72 4 <| ck ((3 * x1_72) + 2) 12 <| ck x1_72 4 <| m_town_L72 readPeople_47 readPerson_47 n_72 (x1_72 + 1) (upd room_72 x1_72.toNatClampNeg (readPerson_47 (3 * x1_72).toNatClampNeg)) (upd work_72 x1_72.toNatClampNeg (readPerson_47 ((3 * x1_72) + 1).toNatClampNeg)) (upd price_72 x1_72.toNatClampNeg (readPerson_47 ((3 * x1_72) + 2).toNatClampNeg))) := rfl
def m_town_L142 (readAskings_47 : Int32) (readAsked_47 : Nat → Int32) : Nat → Int32 → (Nat → Int32) → Option ((Nat → Int32))
  | 0, _, _ => none
  | n_142 + 1, x1_142, asked_142 =>
  if (5 * readAskings_47) ≤ x1_142 then (some asked_142) else
  ck x1_142 40 <| ck x1_142 40 <| m_town_L142 readAskings_47 readAsked_47 n_142 (x1_142 + 1) (upd asked_142 x1_142.toNatClampNeg (readAsked_47 x1_142.toNatClampNeg))
theorem m_town_L142_s (readAskings_47 : Int32) (readAsked_47 : Nat → Int32) (n_142 : Nat) (x1_142 : Int32) (asked_142 : Nat → Int32) : m_town_L142 readAskings_47 readAsked_47 (n_142 + 1) x1_142 asked_142 = (
  if (5 * readAskings_47) ≤ x1_142 then (some asked_142) else
  ck x1_142 40 <| ck x1_142 40 <| m_town_L142 readAskings_47 readAsked_47 n_142 (x1_142 + 1) (upd asked_142 x1_142.toNatClampNeg (readAsked_47 x1_142.toNatClampNeg))) := rfl
def m_town_L180 (readHangs_47 : Int32) (readHung_47 : Nat → Int32) : Nat → Int32 → (Nat → Int32) → Option ((Nat → Int32))
  | 0, _, _ => none
  | n_180 + 1, x1_180, hung_180 =>
  if (2 * readHangs_47) ≤ x1_180 then (some hung_180) else
  ck x1_180 16 <| ck x1_180 16 <| m_town_L180 readHangs_47 readHung_47 n_180 (x1_180 + 1) (upd hung_180 x1_180.toNatClampNeg (readHung_47 x1_180.toNatClampNeg))
theorem m_town_L180_s (readHangs_47 : Int32) (readHung_47 : Nat → Int32) (n_180 : Nat) (x1_180 : Int32) (hung_180 : Nat → Int32) : m_town_L180 readHangs_47 readHung_47 (n_180 + 1) x1_180 hung_180 = (
  if (2 * readHangs_47) ≤ x1_180 then (some hung_180) else
  ck x1_180 16 <| ck x1_180 16 <| m_town_L180 readHangs_47 readHung_47 n_180 (x1_180 + 1) (upd hung_180 x1_180.toNatClampNeg (readHung_47 x1_180.toNatClampNeg))) := rfl
def m_town_L210 : Nat → Int32 → (Nat → Int32) → Option ((Nat → Int32))
  | 0, _, _ => none
  | n_210 + 1, x1_210, w_210 =>
  if 100 ≤ x1_210 then (some w_210) else
  ck x1_210 300 <| m_town_L210 n_210 (x1_210 + 1) (upd w_210 x1_210.toNatClampNeg 0)
theorem m_town_L210_s (n_210 : Nat) (x1_210 : Int32) (w_210 : Nat → Int32) : m_town_L210 (n_210 + 1) x1_210 w_210 = (
  if 100 ≤ x1_210 then (some w_210) else
  ck x1_210 300 <| m_town_L210 n_210 (x1_210 + 1) (upd w_210 x1_210.toNatClampNeg 0)) := rfl
def m_town (w : Nat → Int32) (isKept : Nat → Int32) (people : Int32) (room : Nat → Int32) (work : Nat → Int32) (price : Nat → Int32) (askings : Int32) (asked : Nat → Int32) (hangs : Int32) (hung : Nat → Int32) (text : Nat → Int32) (texted : Int32) (readPerson : Nat → Int32) (readAsked : Nat → Int32) (readHung : Nat → Int32) : Option (Int32 × (Nat → Int32) × (Nat → Int32) × Int32 × (Nat → Int32) × (Nat → Int32) × (Nat → Int32) × Int32 × (Nat → Int32) × Int32 × (Nat → Int32) × Int32 × Int32 × Int32 × Int32 × (Nat → Int32) × Int32 × (Nat → Int32) × Int32 × (Nat → Int32)) :=
  bnd8 (m_town_L26 text texted g_fuel 0 (-9) 0 readPerson 0 readAsked 0 readHung) (fun at__47 fault_47 readPeople_47 readPerson_47 readAskings_47 readAsked_47 readHangs_47 readHung_47 =>
  if fault_47 < 0 then (bnd3 (m_town_L72 readPeople_47 readPerson_47 g_fuel 0 room work price) (fun room_132 work_132 price_132 =>
  bnd (m_town_L142 readAskings_47 readAsked_47 g_fuel 0 asked) (fun asked_170 =>
  bnd (m_town_L180 readHangs_47 readHung_47 g_fuel 0 hung) (fun hung_208 =>
  bnd (m_town_L210 g_fuel 0 w) (fun w_229 =>
  some ((readPeople_47 + readAskings_47) + readHangs_47, w_229, upd (upd isKept (0 : Int32).toNatClampNeg 0) (1 : Int32).toNatClampNeg 0, readPeople_47, room_132, work_132, price_132, readAskings_47, asked_170, readHangs_47, hung_208, 0, at__47, fault_47, readPeople_47, readPerson_47, readAskings_47, readAsked_47, readHangs_47, readHung_47)))))) else
  some ((-10) - fault_47, w, isKept, people, room, work, price, askings, asked, hangs, hung, texted, at__47, fault_47, readPeople_47, readPerson_47, readAskings_47, readAsked_47, readHangs_47, readHung_47))
set_option maxHeartbeats 4000000 in
set_option maxRecDepth 100000 in
theorem w_m_town {p : Program} {l : Launch} {e : Env} {R : Room} {s : State} {m : MethodId} {args : Array Value} {below : List Frame} {meth : Method} {c : Code} {H : Heap} {locs : List Loc} {cells slots : Nat} {Q : State → Prop} {A : Nat → Prop} {ls : Array Slot} {D : va_G} {d : Nat → ClassId} {ad : Nat → Nat} {w : Nat → Int32} {isKept : Nat → Int32} {people : Int32} {room : Nat → Int32} {work : Nat → Int32} {price : Nat → Int32} {askings : Int32} {asked : Nat → Int32} {hangs : Int32} {hung : Nat → Int32} {tenths : Nat → Int32} {sortWorth : Nat → Int32} {sortDays : Nat → Int32} {sorts : Int32} {text : Nat → Int32} {texted : Int32} {trace : Int64} {at_ : Int32} {fault : Int32} {readPeople : Int32} {readPerson : Nat → Int32} {readAskings : Int32} {readAsked : Nat → Int32} {readHangs : Int32} {readHung : Nat → Int32} {rest : Nat → Int32} {brings : Nat → Int64} {later : Nat → Int64} {r : Int32} {w_r : Nat → Int32} {isKept_r : Nat → Int32} {people_r : Int32} {room_r : Nat → Int32} {work_r : Nat → Int32} {price_r : Nat → Int32} {askings_r : Int32} {asked_r : Nat → Int32} {hangs_r : Int32} {hung_r : Nat → Int32} {texted_r : Int32} {at__r : Int32} {fault_r : Int32} {readPeople_r : Int32} {readPerson_r : Nat → Int32} {readAskings_r : Int32} {readAsked_r : Nat → Int32} {readHangs_r : Int32} {readHung_r : Nat → Int32} (hx : p.tables.exec = Jvm.exec) (hb : c.code = cX10_town) (hml : c.maxLocals = 2) (hown : s.vm.findClass RX10 = some m.cls) (hts : ∀ w ∈ lw_all, w.before args s = true) (hA : ∀ q, s.heap.size ≤ q → A q) (hRf : 3 ≤ R.frames) (hRl : 75 ≤ R.locals) (hRc : cells ≤ R.cells) (hRs : slots ≤ R.slots) (hf : m_town w isKept people room work price askings asked hangs hung text texted readPerson readAsked readHung = some (r, w_r, isKept_r, people_r, room_r, work_r, price_r, askings_r, asked_r, hangs_r, hung_r, texted_r, at__r, fault_r, readPeople_r, readPerson_r, readAskings_r, readAsked_r, readHangs_r, readHung_r)) (hC : HC D gcl (gty d) A (mw d ad w isKept people room work price askings asked hangs hung tenths sortWorth sortDays sorts text texted trace at_ fault readPeople readPerson readAskings readAsked readHangs readHung rest brings later) s H locs) (hl : lv_has ls 2 [(0, .ref (ad 0))]) (K : ∀ (H : Heap) (locs : List Loc) (ls : Array Slot) (pc : Nat), narrow .int (.int r) = .int r → HC D gcl (gty d) A (mw d ad w_r isKept_r people_r room_r work_r price_r askings_r asked_r hangs_r hung_r tenths sortWorth sortDays sorts text texted_r trace at__r fault_r readPeople_r readPerson_r readAskings_r readAsked_r readHangs_r readHung_r rest brings later) s H locs → decode cX10_town pc = .ok (.ireturn, 1) → W p l e R s m args below meth c H locs cells slots Q (F0 m pc ls [.int r])) : W p l e R s m args below meth c H locs cells slots Q (F0 m 0 ls []) := by
  unfold m_town at hf
  refine lv_aload_n hx hb dX10_town_0 rfl (lv_at hl 0 rfl) ?_
  refine lv_iconst (v := 0) hx hb dX10_town_1 (by decide) ?_
  refine va_put (ci := 10) (v := .int 0) (ty := .int) (C := RX10) (T := TX10) (N := 28) hx hb hts in_X10 tyX10 tyX10_ok nmX10 hown hC.1 hC.2.1 hC.2.2.1 hC.2.2.2 0 rfl rfl 17 (by decide) (hts _ q823) (fun _ h9 => h9) rfl (tyX10_ok 17 (by decide)) rfl rfl (Nat.le_of_ble_eq_true rfl) dX10_town_2 (fun H locs hP hD hS => ?_)
  have hC : HC D gcl (gty d) A (mw d ad w isKept people room work price askings asked hangs hung tenths sortWorth sortDays sorts text texted trace 0 fault readPeople readPerson readAskings readAsked readHangs readHung rest brings later) s H locs := ⟨hC.1, hP, hD, hS⟩
  refine lv_aload_n hx hb dX10_town_5 rfl (lv_at hl 0 rfl) ?_
  refine lv_bipush (v := (-9)) hx hb dX10_town_6 (by decide) ?_
  refine va_put (ci := 10) (v := .int (-9)) (ty := .int) (C := RX10) (T := TX10) (N := 28) hx hb hts in_X10 tyX10 tyX10_ok nmX10 hown hC.1 hC.2.1 hC.2.2.1 hC.2.2.2 0 rfl rfl 18 (by decide) (hts _ q824) (fun _ h9 => h9) rfl (tyX10_ok 18 (by decide)) rfl rfl (Nat.le_of_ble_eq_true rfl) dX10_town_8 (fun H locs hP hD hS => ?_)
  have hC : HC D gcl (gty d) A (mw d ad w isKept people room work price askings asked hangs hung tenths sortWorth sortDays sorts text texted trace 0 (-9) readPeople readPerson readAskings readAsked readHangs readHung rest brings later) s H locs := ⟨hC.1, hP, hD, hS⟩
  refine lv_aload_n hx hb dX10_town_11 rfl (lv_at hl 0 rfl) ?_
  refine lv_iconst (v := 0) hx hb dX10_town_12 (by decide) ?_
  refine va_put (ci := 10) (v := .int 0) (ty := .int) (C := RX10) (T := TX10) (N := 28) hx hb hts in_X10 tyX10 tyX10_ok nmX10 hown hC.1 hC.2.1 hC.2.2.1 hC.2.2.2 0 rfl rfl 19 (by decide) (hts _ q825) (fun _ h9 => h9) rfl (tyX10_ok 19 (by decide)) rfl rfl (Nat.le_of_ble_eq_true rfl) dX10_town_13 (fun H locs hP hD hS => ?_)
  have hC : HC D gcl (gty d) A (mw d ad w isKept people room work price askings asked hangs hung tenths sortWorth sortDays sorts text texted trace 0 (-9) 0 readPerson readAskings readAsked readHangs readHung rest brings later) s H locs := ⟨hC.1, hP, hD, hS⟩
  refine lv_aload_n hx hb dX10_town_16 rfl (lv_at hl 0 rfl) ?_
  refine lv_iconst (v := 0) hx hb dX10_town_17 (by decide) ?_
  refine va_put (ci := 10) (v := .int 0) (ty := .int) (C := RX10) (T := TX10) (N := 28) hx hb hts in_X10 tyX10 tyX10_ok nmX10 hown hC.1 hC.2.1 hC.2.2.1 hC.2.2.2 0 rfl rfl 21 (by decide) (hts _ q827) (fun _ h9 => h9) rfl (tyX10_ok 21 (by decide)) rfl rfl (Nat.le_of_ble_eq_true rfl) dX10_town_18 (fun H locs hP hD hS => ?_)
  have hC : HC D gcl (gty d) A (mw d ad w isKept people room work price askings asked hangs hung tenths sortWorth sortDays sorts text texted trace 0 (-9) 0 readPerson 0 readAsked readHangs readHung rest brings later) s H locs := ⟨hC.1, hP, hD, hS⟩
  refine lv_aload_n hx hb dX10_town_21 rfl (lv_at hl 0 rfl) ?_
  refine lv_iconst (v := 0) hx hb dX10_town_22 (by decide) ?_
  refine va_put (ci := 10) (v := .int 0) (ty := .int) (C := RX10) (T := TX10) (N := 28) hx hb hts in_X10 tyX10 tyX10_ok nmX10 hown hC.1 hC.2.1 hC.2.2.1 hC.2.2.2 0 rfl rfl 23 (by decide) (hts _ q829) (fun _ h9 => h9) rfl (tyX10_ok 23 (by decide)) rfl rfl (Nat.le_of_ble_eq_true rfl) dX10_town_23 (fun H locs hP hD hS => ?_)
  have hC : HC D gcl (gty d) A (mw d ad w isKept people room work price askings asked hangs hung tenths sortWorth sortDays sorts text texted trace 0 (-9) 0 readPerson 0 readAsked 0 readHung rest brings later) s H locs := ⟨hC.1, hP, hD, hS⟩
  obtain ⟨at__47, fault_47, readPeople_47, readPerson_47, readAskings_47, readAsked_47, readHangs_47, readHung_47, hL, hf⟩ := bnd8_some hf
  have X_26 : ∀ (H : Heap) (locs : List Loc) (ls : Array Slot), HC D gcl (gty d) A (mw d ad w isKept people room work price askings asked hangs hung tenths sortWorth sortDays sorts text texted trace at__47 fault_47 readPeople_47 readPerson_47 readAskings_47 readAsked_47 readHangs_47 readHung_47 rest brings later) s H locs → lv_has ls 2 [(0, .ref (ad 0))] → W p l e R s m args below meth c H locs cells slots Q (F0 m 47 ls []) := by
    intro H locs ls hC hl
    refine lv_aload_n hx hb dX10_town_47 rfl (lv_at hl 0 rfl) ?_
    refine va_get (ci := 10) (v := .int fault_47) (C := RX10) (T := TX10) (N := 28) hx hb hts in_X10 hown hC.1 hC.2.1 0 rfl rfl 18 (by decide) (hts _ q824) (fun _ h9 => h9) rfl dX10_town_48 ?_
    refine lv_if_lt (tgt := 62) hx hb dX10_town_51 (by decide) (fun c_51 => ?_) (fun c_51 => ?_)
    · have hf := if_t hf c_51
      refine lv_aload_n hx hb dX10_town_62 rfl (lv_at hl 0 rfl) ?_
      refine lv_aload_n hx hb dX10_town_63 rfl (lv_at hl 0 rfl) ?_
      refine va_get (ci := 10) (v := .int readPeople_47) (C := RX10) (T := TX10) (N := 28) hx hb hts in_X10 hown hC.1 hC.2.1 0 rfl rfl 19 (by decide) (hts _ q825) (fun _ h9 => h9) rfl dX10_town_64 ?_
      refine va_put (ci := 10) (v := .int readPeople_47) (ty := .int) (C := RX10) (T := TX10) (N := 28) hx hb hts in_X10 tyX10 tyX10_ok nmX10 hown hC.1 hC.2.1 hC.2.2.1 hC.2.2.2 0 rfl rfl 2 (by decide) (hts _ q808) (fun _ h9 => h9) rfl (tyX10_ok 2 (by decide)) rfl rfl (Nat.le_of_ble_eq_true rfl) dX10_town_67 (fun H locs hP hD hS => ?_)
      have hC : HC D gcl (gty d) A (mw d ad w isKept readPeople_47 room work price askings asked hangs hung tenths sortWorth sortDays sorts text texted trace at__47 fault_47 readPeople_47 readPerson_47 readAskings_47 readAsked_47 readHangs_47 readHung_47 rest brings later) s H locs := ⟨hC.1, hP, hD, hS⟩
      refine lv_iconst (v := 0) hx hb dX10_town_70 (by decide) ?_
      refine lv_istore_n (lv' := [(1, .int 0), (0, .ref (ad 0))]) hx hb dX10_town_71 rfl hl (by decide) rfl (fun ls hl => ?_)
      obtain ⟨room_132, work_132, price_132, hL, hf⟩ := bnd3_some hf
      have X_72 : ∀ (H : Heap) (locs : List Loc) (ls : Array Slot), HC D gcl (gty d) A (mw d ad w isKept readPeople_47 room_132 work_132 price_132 askings asked hangs hung tenths sortWorth sortDays sorts text texted trace at__47 fault_47 readPeople_47 readPerson_47 readAskings_47 readAsked_47 readHangs_47 readHung_47 rest brings later) s H locs → lv_has ls 2 [(0, .ref (ad 0))] → W p l e R s m args below meth c H locs cells slots Q (F0 m 132 ls []) := by
        intro H locs ls hC hl
        refine lv_aload_n hx hb dX10_town_132 rfl (lv_at hl 0 rfl) ?_
        refine lv_aload_n hx hb dX10_town_133 rfl (lv_at hl 0 rfl) ?_
        refine va_get (ci := 10) (v := .int readAskings_47) (C := RX10) (T := TX10) (N := 28) hx hb hts in_X10 hown hC.1 hC.2.1 0 rfl rfl 21 (by decide) (hts _ q827) (fun _ h9 => h9) rfl dX10_town_134 ?_
        refine va_put (ci := 10) (v := .int readAskings_47) (ty := .int) (C := RX10) (T := TX10) (N := 28) hx hb hts in_X10 tyX10 tyX10_ok nmX10 hown hC.1 hC.2.1 hC.2.2.1 hC.2.2.2 0 rfl rfl 6 (by decide) (hts _ q812) (fun _ h9 => h9) rfl (tyX10_ok 6 (by decide)) rfl rfl (Nat.le_of_ble_eq_true rfl) dX10_town_137 (fun H locs hP hD hS => ?_)
        have hC : HC D gcl (gty d) A (mw d ad w isKept readPeople_47 room_132 work_132 price_132 readAskings_47 asked hangs hung tenths sortWorth sortDays sorts text texted trace at__47 fault_47 readPeople_47 readPerson_47 readAskings_47 readAsked_47 readHangs_47 readHung_47 rest brings later) s H locs := ⟨hC.1, hP, hD, hS⟩
        refine lv_iconst (v := 0) hx hb dX10_town_140 (by decide) ?_
        refine lv_istore_n (lv' := [(1, .int 0), (0, .ref (ad 0))]) hx hb dX10_town_141 rfl hl (by decide) rfl (fun ls hl => ?_)
        obtain ⟨asked_170, hL, hf⟩ := bnd_some hf
        have X_142 : ∀ (H : Heap) (locs : List Loc) (ls : Array Slot), HC D gcl (gty d) A (mw d ad w isKept readPeople_47 room_132 work_132 price_132 readAskings_47 asked_170 hangs hung tenths sortWorth sortDays sorts text texted trace at__47 fault_47 readPeople_47 readPerson_47 readAskings_47 readAsked_47 readHangs_47 readHung_47 rest brings later) s H locs → lv_has ls 2 [(0, .ref (ad 0))] → W p l e R s m args below meth c H locs cells slots Q (F0 m 170 ls []) := by
          intro H locs ls hC hl
          refine lv_aload_n hx hb dX10_town_170 rfl (lv_at hl 0 rfl) ?_
          refine lv_aload_n hx hb dX10_town_171 rfl (lv_at hl 0 rfl) ?_
          refine va_get (ci := 10) (v := .int readHangs_47) (C := RX10) (T := TX10) (N := 28) hx hb hts in_X10 hown hC.1 hC.2.1 0 rfl rfl 23 (by decide) (hts _ q829) (fun _ h9 => h9) rfl dX10_town_172 ?_
          refine va_put (ci := 10) (v := .int readHangs_47) (ty := .int) (C := RX10) (T := TX10) (N := 28) hx hb hts in_X10 tyX10 tyX10_ok nmX10 hown hC.1 hC.2.1 hC.2.2.1 hC.2.2.2 0 rfl rfl 8 (by decide) (hts _ q814) (fun _ h9 => h9) rfl (tyX10_ok 8 (by decide)) rfl rfl (Nat.le_of_ble_eq_true rfl) dX10_town_175 (fun H locs hP hD hS => ?_)
          have hC : HC D gcl (gty d) A (mw d ad w isKept readPeople_47 room_132 work_132 price_132 readAskings_47 asked_170 readHangs_47 hung tenths sortWorth sortDays sorts text texted trace at__47 fault_47 readPeople_47 readPerson_47 readAskings_47 readAsked_47 readHangs_47 readHung_47 rest brings later) s H locs := ⟨hC.1, hP, hD, hS⟩
          refine lv_iconst (v := 0) hx hb dX10_town_178 (by decide) ?_
          refine lv_istore_n (lv' := [(1, .int 0), (0, .ref (ad 0))]) hx hb dX10_town_179 rfl hl (by decide) rfl (fun ls hl => ?_)
          obtain ⟨hung_208, hL, hf⟩ := bnd_some hf
          have X_180 : ∀ (H : Heap) (locs : List Loc) (ls : Array Slot), HC D gcl (gty d) A (mw d ad w isKept readPeople_47 room_132 work_132 price_132 readAskings_47 asked_170 readHangs_47 hung_208 tenths sortWorth sortDays sorts text texted trace at__47 fault_47 readPeople_47 readPerson_47 readAskings_47 readAsked_47 readHangs_47 readHung_47 rest brings later) s H locs → lv_has ls 2 [(0, .ref (ad 0))] → W p l e R s m args below meth c H locs cells slots Q (F0 m 208 ls []) := by
            intro H locs ls hC hl
            refine lv_iconst (v := 0) hx hb dX10_town_208 (by decide) ?_
            refine lv_istore_n (lv' := [(1, .int 0), (0, .ref (ad 0))]) hx hb dX10_town_209 rfl hl (by decide) rfl (fun ls hl => ?_)
            obtain ⟨w_229, hL, hf⟩ := bnd_some hf
            have X_210 : ∀ (H : Heap) (locs : List Loc) (ls : Array Slot), HC D gcl (gty d) A (mw d ad w_229 isKept readPeople_47 room_132 work_132 price_132 readAskings_47 asked_170 readHangs_47 hung_208 tenths sortWorth sortDays sorts text texted trace at__47 fault_47 readPeople_47 readPerson_47 readAskings_47 readAsked_47 readHangs_47 readHung_47 rest brings later) s H locs → lv_has ls 2 [(0, .ref (ad 0))] → W p l e R s m args below meth c H locs cells slots Q (F0 m 229 ls []) := by
              intro H locs ls hC hl
              refine lv_aload_n hx hb dX10_town_229 rfl (lv_at hl 0 rfl) ?_
              refine va_get (ci := 10) (v := .ref (ad 2)) (C := RX10) (T := TX10) (N := 28) hx hb hts in_X10 hown hC.1 hC.2.1 0 rfl rfl 1 (by decide) (hts _ q807) (fun _ h9 => h9) rfl dX10_town_230 ?_
              refine lv_iconst (v := 0) hx hb dX10_town_233 (by decide) ?_
              refine lv_iconst (v := 0) hx hb dX10_town_234 (by decide) ?_
              refine va_zast hx hb hC.1 hC.2.1 hC.2.2.1 hC.2.2.2 2 2 rfl rfl (vp_in_iff.mpr (by decide)) dX10_town_235 (fun H locs hP hD hS => ?_)
              have hC : HC D gcl (gty d) A (mw d ad w_229 (upd isKept (0 : Int32).toNatClampNeg 0) readPeople_47 room_132 work_132 price_132 readAskings_47 asked_170 readHangs_47 hung_208 tenths sortWorth sortDays sorts text texted trace at__47 fault_47 readPeople_47 readPerson_47 readAskings_47 readAsked_47 readHangs_47 readHung_47 rest brings later) s H locs := ⟨hC.1, hP, hD, hS⟩
              refine lv_aload_n hx hb dX10_town_236 rfl (lv_at hl 0 rfl) ?_
              refine va_get (ci := 10) (v := .ref (ad 2)) (C := RX10) (T := TX10) (N := 28) hx hb hts in_X10 hown hC.1 hC.2.1 0 rfl rfl 1 (by decide) (hts _ q807) (fun _ h9 => h9) rfl dX10_town_237 ?_
              refine lv_iconst (v := 1) hx hb dX10_town_240 (by decide) ?_
              refine lv_iconst (v := 0) hx hb dX10_town_241 (by decide) ?_
              refine va_zast hx hb hC.1 hC.2.1 hC.2.2.1 hC.2.2.2 2 2 rfl rfl (vp_in_iff.mpr (by decide)) dX10_town_242 (fun H locs hP hD hS => ?_)
              have hC : HC D gcl (gty d) A (mw d ad w_229 (upd (upd isKept (0 : Int32).toNatClampNeg 0) (1 : Int32).toNatClampNeg 0) readPeople_47 room_132 work_132 price_132 readAskings_47 asked_170 readHangs_47 hung_208 tenths sortWorth sortDays sorts text texted trace at__47 fault_47 readPeople_47 readPerson_47 readAskings_47 readAsked_47 readHangs_47 readHung_47 rest brings later) s H locs := ⟨hC.1, hP, hD, hS⟩
              refine lv_aload_n hx hb dX10_town_243 rfl (lv_at hl 0 rfl) ?_
              refine lv_iconst (v := 0) hx hb dX10_town_244 (by decide) ?_
              refine va_put (ci := 10) (v := .int 0) (ty := .int) (C := RX10) (T := TX10) (N := 28) hx hb hts in_X10 tyX10 tyX10_ok nmX10 hown hC.1 hC.2.1 hC.2.2.1 hC.2.2.2 0 rfl rfl 15 (by decide) (hts _ q821) (fun _ h9 => h9) rfl (tyX10_ok 15 (by decide)) rfl rfl (Nat.le_of_ble_eq_true rfl) dX10_town_245 (fun H locs hP hD hS => ?_)
              have hC : HC D gcl (gty d) A (mw d ad w_229 (upd (upd isKept (0 : Int32).toNatClampNeg 0) (1 : Int32).toNatClampNeg 0) readPeople_47 room_132 work_132 price_132 readAskings_47 asked_170 readHangs_47 hung_208 tenths sortWorth sortDays sorts text 0 trace at__47 fault_47 readPeople_47 readPerson_47 readAskings_47 readAsked_47 readHangs_47 readHung_47 rest brings later) s H locs := ⟨hC.1, hP, hD, hS⟩
              refine lv_aload_n hx hb dX10_town_248 rfl (lv_at hl 0 rfl) ?_
              refine va_get (ci := 10) (v := .int readPeople_47) (C := RX10) (T := TX10) (N := 28) hx hb hts in_X10 hown hC.1 hC.2.1 0 rfl rfl 2 (by decide) (hts _ q808) (fun _ h9 => h9) rfl dX10_town_249 ?_
              refine lv_aload_n hx hb dX10_town_252 rfl (lv_at hl 0 rfl) ?_
              refine va_get (ci := 10) (v := .int readAskings_47) (C := RX10) (T := TX10) (N := 28) hx hb hts in_X10 hown hC.1 hC.2.1 0 rfl rfl 6 (by decide) (hts _ q812) (fun _ h9 => h9) rfl dX10_town_253 ?_
              refine lv_iadd hx hb dX10_town_256 ?_
              refine lv_aload_n hx hb dX10_town_257 rfl (lv_at hl 0 rfl) ?_
              refine va_get (ci := 10) (v := .int readHangs_47) (C := RX10) (T := TX10) (N := 28) hx hb hts in_X10 hown hC.1 hC.2.1 0 rfl rfl 8 (by decide) (hts _ q814) (fun _ h9 => h9) rfl dX10_town_258 ?_
              refine lv_iadd hx hb dX10_town_261 ?_
              obtain ⟨e_1, e_2, e_3, e_4, e_5, e_6, e_7, e_8, e_9, e_10, e_11, e_12, e_13, e_14, e_15, e_16, e_17, e_18, e_19, e_20⟩ := so_20 (Option.some.inj hf)
              subst e_1
              subst e_2
              subst e_3
              subst e_4
              subst e_5
              subst e_6
              subst e_7
              subst e_8
              subst e_9
              subst e_10
              subst e_11
              subst e_12
              subst e_13
              subst e_14
              subst e_15
              subst e_16
              subst e_17
              subst e_18
              subst e_19
              subst e_20
              exact K H locs ls _ rfl hC dX10_town_262
            have L_210 : ∀ (n_210 : Nat) (x1_210 : Int32) (w_210 : Nat → Int32), m_town_L210 n_210 x1_210 w_210 = some w_229 → ∀ (H : Heap) (locs : List Loc) (ls : Array Slot), HC D gcl (gty d) A (mw d ad w_210 isKept readPeople_47 room_132 work_132 price_132 readAskings_47 asked_170 readHangs_47 hung_208 tenths sortWorth sortDays sorts text texted trace at__47 fault_47 readPeople_47 readPerson_47 readAskings_47 readAsked_47 readHangs_47 readHung_47 rest brings later) s H locs → lv_has ls 2 [(0, .ref (ad 0)), (1, .int x1_210)] → W p l e R s m args below meth c H locs cells slots Q (F0 m 210 ls []) := by
              intro n_210
              induction n_210 with
              | zero => intro _ _ hf; cases hf
              | succ n_210 ih =>
                intro x1_210 w_210 hf H locs ls hC hl
                rw [m_town_L210_s] at hf
                refine lv_iload_n hx hb dX10_town_210 rfl (lv_at hl 1 rfl) ?_
                refine lv_bipush (v := 100) hx hb dX10_town_211 (by decide) ?_
                refine lv_icmp_ge (tgt := 229) hx hb dX10_town_213 (by decide) (fun c_213 => ?_) (fun c_213 => ?_)
                · have hf := if_t hf c_213
                  have e_1 := (Option.some.inj hf)
                  subst e_1
                  exact X_210 H locs ls hC (lv_sub hl [0] rfl)
                · have hf := if_f hf c_213
                  refine lv_aload_n hx hb dX10_town_216 rfl (lv_at hl 0 rfl) ?_
                  refine va_get (ci := 10) (v := .ref (ad 1)) (C := RX10) (T := TX10) (N := 28) hx hb hts in_X10 hown hC.1 hC.2.1 0 rfl rfl 0 (by decide) (hts _ q806) (fun _ h9 => h9) rfl dX10_town_217 ?_
                  refine lv_iload_n hx hb dX10_town_220 rfl (lv_at hl 1 rfl) ?_
                  refine lv_iconst (v := 0) hx hb dX10_town_221 (by decide) ?_
                  obtain ⟨hi_222, hf⟩ := ck_some hf
                  refine va_iast hx hb hC.1 hC.2.1 hC.2.2.1 hC.2.2.2 1 0 rfl rfl hi_222 dX10_town_222 (fun H locs hP hD hS => ?_)
                  have hC : HC D gcl (gty d) A (mw d ad (upd w_210 x1_210.toNatClampNeg 0) isKept readPeople_47 room_132 work_132 price_132 readAskings_47 asked_170 readHangs_47 hung_208 tenths sortWorth sortDays sorts text texted trace at__47 fault_47 readPeople_47 readPerson_47 readAskings_47 readAsked_47 readHangs_47 readHung_47 rest brings later) s H locs := ⟨hC.1, hP, hD, hS⟩
                  refine lv_iinc (v := x1_210 + 1) (lv' := [(1, .int (x1_210 + 1)), (0, .ref (ad 0))]) hx hb dX10_town_223 hl (k := 1) rfl rfl (by decide) rfl (fun ls hl => ?_)
                  refine lv_goto (tgt := 210) hx hb dX10_town_226 (by decide) ?_
                  exact ih _ _ hf H locs ls hC (lv_sub hl [1, 0] rfl)
            exact L_210 _ _ _ hL H locs ls hC (lv_sub hl [1, 0] rfl)
          have L_180 : ∀ (n_180 : Nat) (x1_180 : Int32) (hung_180 : Nat → Int32), m_town_L180 readHangs_47 readHung_47 n_180 x1_180 hung_180 = some hung_208 → ∀ (H : Heap) (locs : List Loc) (ls : Array Slot), HC D gcl (gty d) A (mw d ad w isKept readPeople_47 room_132 work_132 price_132 readAskings_47 asked_170 readHangs_47 hung_180 tenths sortWorth sortDays sorts text texted trace at__47 fault_47 readPeople_47 readPerson_47 readAskings_47 readAsked_47 readHangs_47 readHung_47 rest brings later) s H locs → lv_has ls 2 [(0, .ref (ad 0)), (1, .int x1_180)] → W p l e R s m args below meth c H locs cells slots Q (F0 m 180 ls []) := by
            intro n_180
            induction n_180 with
            | zero => intro _ _ hf; cases hf
            | succ n_180 ih =>
              intro x1_180 hung_180 hf H locs ls hC hl
              rw [m_town_L180_s] at hf
              refine lv_iload_n hx hb dX10_town_180 rfl (lv_at hl 1 rfl) ?_
              refine lv_iconst (v := 2) hx hb dX10_town_181 (by decide) ?_
              refine lv_aload_n hx hb dX10_town_182 rfl (lv_at hl 0 rfl) ?_
              refine va_get (ci := 10) (v := .int readHangs_47) (C := RX10) (T := TX10) (N := 28) hx hb hts in_X10 hown hC.1 hC.2.1 0 rfl rfl 8 (by decide) (hts _ q814) (fun _ h9 => h9) rfl dX10_town_183 ?_
              refine lv_imul hx hb dX10_town_186 ?_
              refine lv_icmp_ge (tgt := 208) hx hb dX10_town_187 (by decide) (fun c_187 => ?_) (fun c_187 => ?_)
              · have hf := if_t hf c_187
                have e_1 := (Option.some.inj hf)
                subst e_1
                exact X_180 H locs ls hC (lv_sub hl [0] rfl)
              · have hf := if_f hf c_187
                refine lv_aload_n hx hb dX10_town_190 rfl (lv_at hl 0 rfl) ?_
                refine va_get (ci := 10) (v := .ref (ad 7)) (C := RX10) (T := TX10) (N := 28) hx hb hts in_X10 hown hC.1 hC.2.1 0 rfl rfl 9 (by decide) (hts _ q815) (fun _ h9 => h9) rfl dX10_town_191 ?_
                refine lv_iload_n hx hb dX10_town_194 rfl (lv_at hl 1 rfl) ?_
                refine lv_aload_n hx hb dX10_town_195 rfl (lv_at hl 0 rfl) ?_
                refine va_get (ci := 10) (v := .ref (ad 14)) (C := RX10) (T := TX10) (N := 28) hx hb hts in_X10 hown hC.1 hC.2.1 0 rfl rfl 24 (by decide) (hts _ q830) (fun _ h9 => h9) rfl dX10_town_196 ?_
                refine lv_iload_n hx hb dX10_town_199 rfl (lv_at hl 1 rfl) ?_
                obtain ⟨hi_200, hf⟩ := ck_some hf
                refine va_iald hx hb hC.1 hC.2.1 14 0 rfl rfl hi_200 dX10_town_200 ?_
                obtain ⟨hi_201, hf⟩ := ck_some hf
                refine va_iast hx hb hC.1 hC.2.1 hC.2.2.1 hC.2.2.2 7 0 rfl rfl hi_201 dX10_town_201 (fun H locs hP hD hS => ?_)
                have hC : HC D gcl (gty d) A (mw d ad w isKept readPeople_47 room_132 work_132 price_132 readAskings_47 asked_170 readHangs_47 (upd hung_180 x1_180.toNatClampNeg (readHung_47 x1_180.toNatClampNeg)) tenths sortWorth sortDays sorts text texted trace at__47 fault_47 readPeople_47 readPerson_47 readAskings_47 readAsked_47 readHangs_47 readHung_47 rest brings later) s H locs := ⟨hC.1, hP, hD, hS⟩
                refine lv_iinc (v := x1_180 + 1) (lv' := [(1, .int (x1_180 + 1)), (0, .ref (ad 0))]) hx hb dX10_town_202 hl (k := 1) rfl rfl (by decide) rfl (fun ls hl => ?_)
                refine lv_goto (tgt := 180) hx hb dX10_town_205 (by decide) ?_
                exact ih _ _ hf H locs ls hC (lv_sub hl [1, 0] rfl)
          exact L_180 _ _ _ hL H locs ls hC (lv_sub hl [1, 0] rfl)
        have L_142 : ∀ (n_142 : Nat) (x1_142 : Int32) (asked_142 : Nat → Int32), m_town_L142 readAskings_47 readAsked_47 n_142 x1_142 asked_142 = some asked_170 → ∀ (H : Heap) (locs : List Loc) (ls : Array Slot), HC D gcl (gty d) A (mw d ad w isKept readPeople_47 room_132 work_132 price_132 readAskings_47 asked_142 hangs hung tenths sortWorth sortDays sorts text texted trace at__47 fault_47 readPeople_47 readPerson_47 readAskings_47 readAsked_47 readHangs_47 readHung_47 rest brings later) s H locs → lv_has ls 2 [(0, .ref (ad 0)), (1, .int x1_142)] → W p l e R s m args below meth c H locs cells slots Q (F0 m 142 ls []) := by
          intro n_142
          induction n_142 with
          | zero => intro _ _ hf; cases hf
          | succ n_142 ih =>
            intro x1_142 asked_142 hf H locs ls hC hl
            rw [m_town_L142_s] at hf
            refine lv_iload_n hx hb dX10_town_142 rfl (lv_at hl 1 rfl) ?_
            refine lv_iconst (v := 5) hx hb dX10_town_143 (by decide) ?_
            refine lv_aload_n hx hb dX10_town_144 rfl (lv_at hl 0 rfl) ?_
            refine va_get (ci := 10) (v := .int readAskings_47) (C := RX10) (T := TX10) (N := 28) hx hb hts in_X10 hown hC.1 hC.2.1 0 rfl rfl 6 (by decide) (hts _ q812) (fun _ h9 => h9) rfl dX10_town_145 ?_
            refine lv_imul hx hb dX10_town_148 ?_
            refine lv_icmp_ge (tgt := 170) hx hb dX10_town_149 (by decide) (fun c_149 => ?_) (fun c_149 => ?_)
            · have hf := if_t hf c_149
              have e_1 := (Option.some.inj hf)
              subst e_1
              exact X_142 H locs ls hC (lv_sub hl [0] rfl)
            · have hf := if_f hf c_149
              refine lv_aload_n hx hb dX10_town_152 rfl (lv_at hl 0 rfl) ?_
              refine va_get (ci := 10) (v := .ref (ad 6)) (C := RX10) (T := TX10) (N := 28) hx hb hts in_X10 hown hC.1 hC.2.1 0 rfl rfl 7 (by decide) (hts _ q813) (fun _ h9 => h9) rfl dX10_town_153 ?_
              refine lv_iload_n hx hb dX10_town_156 rfl (lv_at hl 1 rfl) ?_
              refine lv_aload_n hx hb dX10_town_157 rfl (lv_at hl 0 rfl) ?_
              refine va_get (ci := 10) (v := .ref (ad 13)) (C := RX10) (T := TX10) (N := 28) hx hb hts in_X10 hown hC.1 hC.2.1 0 rfl rfl 22 (by decide) (hts _ q828) (fun _ h9 => h9) rfl dX10_town_158 ?_
              refine lv_iload_n hx hb dX10_town_161 rfl (lv_at hl 1 rfl) ?_
              obtain ⟨hi_162, hf⟩ := ck_some hf
              refine va_iald hx hb hC.1 hC.2.1 13 0 rfl rfl hi_162 dX10_town_162 ?_
              obtain ⟨hi_163, hf⟩ := ck_some hf
              refine va_iast hx hb hC.1 hC.2.1 hC.2.2.1 hC.2.2.2 6 0 rfl rfl hi_163 dX10_town_163 (fun H locs hP hD hS => ?_)
              have hC : HC D gcl (gty d) A (mw d ad w isKept readPeople_47 room_132 work_132 price_132 readAskings_47 (upd asked_142 x1_142.toNatClampNeg (readAsked_47 x1_142.toNatClampNeg)) hangs hung tenths sortWorth sortDays sorts text texted trace at__47 fault_47 readPeople_47 readPerson_47 readAskings_47 readAsked_47 readHangs_47 readHung_47 rest brings later) s H locs := ⟨hC.1, hP, hD, hS⟩
              refine lv_iinc (v := x1_142 + 1) (lv' := [(1, .int (x1_142 + 1)), (0, .ref (ad 0))]) hx hb dX10_town_164 hl (k := 1) rfl rfl (by decide) rfl (fun ls hl => ?_)
              refine lv_goto (tgt := 142) hx hb dX10_town_167 (by decide) ?_
              exact ih _ _ hf H locs ls hC (lv_sub hl [1, 0] rfl)
        exact L_142 _ _ _ hL H locs ls hC (lv_sub hl [1, 0] rfl)
      have L_72 : ∀ (n_72 : Nat) (x1_72 : Int32) (room_72 : Nat → Int32) (work_72 : Nat → Int32) (price_72 : Nat → Int32), m_town_L72 readPeople_47 readPerson_47 n_72 x1_72 room_72 work_72 price_72 = some (room_132, work_132, price_132) → ∀ (H : Heap) (locs : List Loc) (ls : Array Slot), HC D gcl (gty d) A (mw d ad w isKept readPeople_47 room_72 work_72 price_72 askings asked hangs hung tenths sortWorth sortDays sorts text texted trace at__47 fault_47 readPeople_47 readPerson_47 readAskings_47 readAsked_47 readHangs_47 readHung_47 rest brings later) s H locs → lv_has ls 2 [(0, .ref (ad 0)), (1, .int x1_72)] → W p l e R s m args below meth c H locs cells slots Q (F0 m 72 ls []) := by
        intro n_72
        induction n_72 with
        | zero => intro _ _ _ _ hf; cases hf
        | succ n_72 ih =>
          intro x1_72 room_72 work_72 price_72 hf H locs ls hC hl
          rw [m_town_L72_s] at hf
          refine lv_iload_n hx hb dX10_town_72 rfl (lv_at hl 1 rfl) ?_
          refine lv_aload_n hx hb dX10_town_73 rfl (lv_at hl 0 rfl) ?_
          refine va_get (ci := 10) (v := .int readPeople_47) (C := RX10) (T := TX10) (N := 28) hx hb hts in_X10 hown hC.1 hC.2.1 0 rfl rfl 2 (by decide) (hts _ q808) (fun _ h9 => h9) rfl dX10_town_74 ?_
          refine lv_icmp_ge (tgt := 132) hx hb dX10_town_77 (by decide) (fun c_77 => ?_) (fun c_77 => ?_)
          · have hf := if_t hf c_77
            obtain ⟨e_1, e_2, e_3⟩ := so_3 (Option.some.inj hf)
            subst e_1
            subst e_2
            subst e_3
            exact X_72 H locs ls hC (lv_sub hl [0] rfl)
          · have hf := if_f hf c_77
            refine lv_aload_n hx hb dX10_town_80 rfl (lv_at hl 0 rfl) ?_
            refine va_get (ci := 10) (v := .ref (ad 3)) (C := RX10) (T := TX10) (N := 28) hx hb hts in_X10 hown hC.1 hC.2.1 0 rfl rfl 3 (by decide) (hts _ q809) (fun _ h9 => h9) rfl dX10_town_81 ?_
            refine lv_iload_n hx hb dX10_town_84 rfl (lv_at hl 1 rfl) ?_
            refine lv_aload_n hx hb dX10_town_85 rfl (lv_at hl 0 rfl) ?_
            refine va_get (ci := 10) (v := .ref (ad 12)) (C := RX10) (T := TX10) (N := 28) hx hb hts in_X10 hown hC.1 hC.2.1 0 rfl rfl 20 (by decide) (hts _ q826) (fun _ h9 => h9) rfl dX10_town_86 ?_
            refine lv_iconst (v := 3) hx hb dX10_town_89 (by decide) ?_
            refine lv_iload_n hx hb dX10_town_90 rfl (lv_at hl 1 rfl) ?_
            refine lv_imul hx hb dX10_town_91 ?_
            obtain ⟨hi_92, hf⟩ := ck_some hf
            refine va_iald hx hb hC.1 hC.2.1 12 0 rfl rfl hi_92 dX10_town_92 ?_
            obtain ⟨hi_93, hf⟩ := ck_some hf
            refine va_iast hx hb hC.1 hC.2.1 hC.2.2.1 hC.2.2.2 3 0 rfl rfl hi_93 dX10_town_93 (fun H locs hP hD hS => ?_)
            have hC : HC D gcl (gty d) A (mw d ad w isKept readPeople_47 (upd room_72 x1_72.toNatClampNeg (readPerson_47 (3 * x1_72).toNatClampNeg)) work_72 price_72 askings asked hangs hung tenths sortWorth sortDays sorts text texted trace at__47 fault_47 readPeople_47 readPerson_47 readAskings_47 readAsked_47 readHangs_47 readHung_47 rest brings later) s H locs := ⟨hC.1, hP, hD, hS⟩
            refine lv_aload_n hx hb dX10_town_94 rfl (lv_at hl 0 rfl) ?_
            refine va_get (ci := 10) (v := .ref (ad 4)) (C := RX10) (T := TX10) (N := 28) hx hb hts in_X10 hown hC.1 hC.2.1 0 rfl rfl 4 (by decide) (hts _ q810) (fun _ h9 => h9) rfl dX10_town_95 ?_
            refine lv_iload_n hx hb dX10_town_98 rfl (lv_at hl 1 rfl) ?_
            refine lv_aload_n hx hb dX10_town_99 rfl (lv_at hl 0 rfl) ?_
            refine va_get (ci := 10) (v := .ref (ad 12)) (C := RX10) (T := TX10) (N := 28) hx hb hts in_X10 hown hC.1 hC.2.1 0 rfl rfl 20 (by decide) (hts _ q826) (fun _ h9 => h9) rfl dX10_town_100 ?_
            refine lv_iconst (v := 3) hx hb dX10_town_103 (by decide) ?_
            refine lv_iload_n hx hb dX10_town_104 rfl (lv_at hl 1 rfl) ?_
            refine lv_imul hx hb dX10_town_105 ?_
            refine lv_iconst (v := 1) hx hb dX10_town_106 (by decide) ?_
            refine lv_iadd hx hb dX10_town_107 ?_
            obtain ⟨hi_108, hf⟩ := ck_some hf
            refine va_iald hx hb hC.1 hC.2.1 12 0 rfl rfl hi_108 dX10_town_108 ?_
            obtain ⟨hi_109, hf⟩ := ck_some hf
            refine va_iast hx hb hC.1 hC.2.1 hC.2.2.1 hC.2.2.2 4 0 rfl rfl hi_109 dX10_town_109 (fun H locs hP hD hS => ?_)
            have hC : HC D gcl (gty d) A (mw d ad w isKept readPeople_47 (upd room_72 x1_72.toNatClampNeg (readPerson_47 (3 * x1_72).toNatClampNeg)) (upd work_72 x1_72.toNatClampNeg (readPerson_47 ((3 * x1_72) + 1).toNatClampNeg)) price_72 askings asked hangs hung tenths sortWorth sortDays sorts text texted trace at__47 fault_47 readPeople_47 readPerson_47 readAskings_47 readAsked_47 readHangs_47 readHung_47 rest brings later) s H locs := ⟨hC.1, hP, hD, hS⟩
            refine lv_aload_n hx hb dX10_town_110 rfl (lv_at hl 0 rfl) ?_
            refine va_get (ci := 10) (v := .ref (ad 5)) (C := RX10) (T := TX10) (N := 28) hx hb hts in_X10 hown hC.1 hC.2.1 0 rfl rfl 5 (by decide) (hts _ q811) (fun _ h9 => h9) rfl dX10_town_111 ?_
            refine lv_iload_n hx hb dX10_town_114 rfl (lv_at hl 1 rfl) ?_
            refine lv_aload_n hx hb dX10_town_115 rfl (lv_at hl 0 rfl) ?_
            refine va_get (ci := 10) (v := .ref (ad 12)) (C := RX10) (T := TX10) (N := 28) hx hb hts in_X10 hown hC.1 hC.2.1 0 rfl rfl 20 (by decide) (hts _ q826) (fun _ h9 => h9) rfl dX10_town_116 ?_
            refine lv_iconst (v := 3) hx hb dX10_town_119 (by decide) ?_
            refine lv_iload_n hx hb dX10_town_120 rfl (lv_at hl 1 rfl) ?_
            refine lv_imul hx hb dX10_town_121 ?_
            refine lv_iconst (v := 2) hx hb dX10_town_122 (by decide) ?_
            refine lv_iadd hx hb dX10_town_123 ?_
            obtain ⟨hi_124, hf⟩ := ck_some hf
            refine va_iald hx hb hC.1 hC.2.1 12 0 rfl rfl hi_124 dX10_town_124 ?_
            obtain ⟨hi_125, hf⟩ := ck_some hf
            refine va_iast hx hb hC.1 hC.2.1 hC.2.2.1 hC.2.2.2 5 0 rfl rfl hi_125 dX10_town_125 (fun H locs hP hD hS => ?_)
            have hC : HC D gcl (gty d) A (mw d ad w isKept readPeople_47 (upd room_72 x1_72.toNatClampNeg (readPerson_47 (3 * x1_72).toNatClampNeg)) (upd work_72 x1_72.toNatClampNeg (readPerson_47 ((3 * x1_72) + 1).toNatClampNeg)) (upd price_72 x1_72.toNatClampNeg (readPerson_47 ((3 * x1_72) + 2).toNatClampNeg)) askings asked hangs hung tenths sortWorth sortDays sorts text texted trace at__47 fault_47 readPeople_47 readPerson_47 readAskings_47 readAsked_47 readHangs_47 readHung_47 rest brings later) s H locs := ⟨hC.1, hP, hD, hS⟩
            refine lv_iinc (v := x1_72 + 1) (lv' := [(1, .int (x1_72 + 1)), (0, .ref (ad 0))]) hx hb dX10_town_126 hl (k := 1) rfl rfl (by decide) rfl (fun ls hl => ?_)
            refine lv_goto (tgt := 72) hx hb dX10_town_129 (by decide) ?_
            exact ih _ _ _ _ hf H locs ls hC (lv_sub hl [1, 0] rfl)
      exact L_72 _ _ _ _ _ hL H locs ls hC (lv_sub hl [1, 0] rfl)
    · have hf := if_f hf c_51
      refine lv_bipush (v := (-10)) hx hb dX10_town_54 (by decide) ?_
      refine lv_aload_n hx hb dX10_town_56 rfl (lv_at hl 0 rfl) ?_
      refine va_get (ci := 10) (v := .int fault_47) (C := RX10) (T := TX10) (N := 28) hx hb hts in_X10 hown hC.1 hC.2.1 0 rfl rfl 18 (by decide) (hts _ q824) (fun _ h9 => h9) rfl dX10_town_57 ?_
      refine lv_isub hx hb dX10_town_60 ?_
      obtain ⟨e_1, e_2, e_3, e_4, e_5, e_6, e_7, e_8, e_9, e_10, e_11, e_12, e_13, e_14, e_15, e_16, e_17, e_18, e_19, e_20⟩ := so_20 (Option.some.inj hf)
      subst e_1
      subst e_2
      subst e_3
      subst e_4
      subst e_5
      subst e_6
      subst e_7
      subst e_8
      subst e_9
      subst e_10
      subst e_11
      subst e_12
      subst e_13
      subst e_14
      subst e_15
      subst e_16
      subst e_17
      subst e_18
      subst e_19
      subst e_20
      exact K H locs ls _ rfl hC dX10_town_61
  have L_26 : ∀ (n_26 : Nat) (at__26 : Int32) (fault_26 : Int32) (readPeople_26 : Int32) (readPerson_26 : Nat → Int32) (readAskings_26 : Int32) (readAsked_26 : Nat → Int32) (readHangs_26 : Int32) (readHung_26 : Nat → Int32), m_town_L26 text texted n_26 at__26 fault_26 readPeople_26 readPerson_26 readAskings_26 readAsked_26 readHangs_26 readHung_26 = some (at__47, fault_47, readPeople_47, readPerson_47, readAskings_47, readAsked_47, readHangs_47, readHung_47) → ∀ (H : Heap) (locs : List Loc) (ls : Array Slot), HC D gcl (gty d) A (mw d ad w isKept people room work price askings asked hangs hung tenths sortWorth sortDays sorts text texted trace at__26 fault_26 readPeople_26 readPerson_26 readAskings_26 readAsked_26 readHangs_26 readHung_26 rest brings later) s H locs → lv_has ls 2 [(0, .ref (ad 0))] → W p l e R s m args below meth c H locs cells slots Q (F0 m 26 ls []) := by
    intro n_26
    induction n_26 with
    | zero => intro _ _ _ _ _ _ _ _ hf; cases hf
    | succ n_26 ih =>
      intro at__26 fault_26 readPeople_26 readPerson_26 readAskings_26 readAsked_26 readHangs_26 readHung_26 hf H locs ls hC hl
      rw [m_town_L26_s] at hf
      refine lv_aload_n hx hb dX10_town_26 rfl (lv_at hl 0 rfl) ?_
      refine va_get (ci := 10) (v := .int fault_26) (C := RX10) (T := TX10) (N := 28) hx hb hts in_X10 hown hC.1 hC.2.1 0 rfl rfl 18 (by decide) (hts _ q824) (fun _ h9 => h9) rfl dX10_town_27 ?_
      refine lv_if_ge (tgt := 47) hx hb dX10_town_30 (by decide) (fun c_30 => ?_) (fun c_30 => ?_)
      · have hf := if_t hf c_30
        obtain ⟨e_1, e_2, e_3, e_4, e_5, e_6, e_7, e_8⟩ := so_8 (Option.some.inj hf)
        subst e_1
        subst e_2
        subst e_3
        subst e_4
        subst e_5
        subst e_6
        subst e_7
        subst e_8
        exact X_26 H locs ls hC (lv_sub hl [0] rfl)
      · have hf := if_f hf c_30
        refine lv_aload_n hx hb dX10_town_33 rfl (lv_at hl 0 rfl) ?_
        obtain ⟨r_34, at__34, hcall, hf⟩ := bnd2_some hf
        refine hc_i (va_runV (C := RX10) (As := []) (rest := []) ⟨hx, hb, hml, hown, hts⟩ (c_m_isEnd hcall) (cwV 0 hts (lw_V q910 q912 qs23 q59 q913) rfl rfl rfl (by decide +kernel) ⟨(Nat.le_trans (Nat.le_of_ble_eq_true rfl) hRf), (Nat.le_trans (Nat.le_of_ble_eq_true rfl) hRl)⟩) (pre_V (q0 := 0) (ci := 10) (fun _ _ _ _ h => h) (fun _ _ _ => trivial) hC rfl rfl) rfl rfl hl.1 rfl (lv_room (Nat.le_of_ble_eq_true rfl)) dX10_town_34 ⟨hRc, hRs⟩) hA hC (fun H locs hC => ?_)
        refine lv_if_ne (tgt := 47) hx hb dX10_town_37 (by decide) (fun c_37 => ?_) (fun c_37 => ?_)
        · have hf := if_f hf c_37
          obtain ⟨e_1, e_2, e_3, e_4, e_5, e_6, e_7, e_8⟩ := so_8 (Option.some.inj hf)
          subst e_1
          subst e_2
          subst e_3
          subst e_4
          subst e_5
          subst e_6
          subst e_7
          subst e_8
          exact X_26 H locs ls hC (lv_sub hl [0] rfl)
        · have hf := if_t hf c_37
          refine lv_aload_n hx hb dX10_town_40 rfl (lv_at hl 0 rfl) ?_
          obtain ⟨at__41, fault_41, readPeople_41, readPerson_41, readAskings_41, readAsked_41, readHangs_41, readHung_41, hcall, hf⟩ := bnd8_some hf
          refine hc_v (va_runV (C := RX10) (As := []) (rest := []) ⟨hx, hb, hml, hown, hts⟩ (c_m_takeItem hcall) (cwV 0 hts (lw_V q914 q916 qs24 q59 q917) rfl rfl rfl (by decide +kernel) ⟨(Nat.le_trans (Nat.le_of_ble_eq_true rfl) hRf), (Nat.le_trans (Nat.le_of_ble_eq_true rfl) hRl)⟩) (pre_V (q0 := 0) (ci := 10) (fun _ _ _ _ h => h) (fun _ _ _ => trivial) hC rfl rfl) rfl rfl hl.1 rfl (lv_room (Nat.le_of_ble_eq_true rfl)) dX10_town_41 ⟨hRc, hRs⟩) hA hC (fun H locs hC => ?_)
          refine lv_goto (tgt := 26) hx hb dX10_town_44 (by decide) ?_
          exact ih _ _ _ _ _ _ _ _ hf H locs ls hC (lv_sub hl [0] rfl)
  exact L_26 _ _ _ _ _ _ _ _ _ hL H locs ls hC (lv_sub hl [0] rfl)
set_option maxRecDepth 100000 in
theorem c_m_town {l : Launch} {sz : Nat} {D : va_G} {d : Nat → ClassId} {ad : Nat → Nat} {w : Nat → Int32} {isKept : Nat → Int32} {people : Int32} {room : Nat → Int32} {work : Nat → Int32} {price : Nat → Int32} {askings : Int32} {asked : Nat → Int32} {hangs : Int32} {hung : Nat → Int32} {tenths : Nat → Int32} {sortWorth : Nat → Int32} {sortDays : Nat → Int32} {sorts : Int32} {text : Nat → Int32} {texted : Int32} {trace : Int64} {at_ : Int32} {fault : Int32} {readPeople : Int32} {readPerson : Nat → Int32} {readAskings : Int32} {readAsked : Nat → Int32} {readHangs : Int32} {readHung : Nat → Int32} {rest : Nat → Int32} {brings : Nat → Int64} {later : Nat → Int64} {r : Int32} {w_r : Nat → Int32} {isKept_r : Nat → Int32} {people_r : Int32} {room_r : Nat → Int32} {work_r : Nat → Int32} {price_r : Nat → Int32} {askings_r : Int32} {asked_r : Nat → Int32} {hangs_r : Int32} {hung_r : Nat → Int32} {texted_r : Int32} {at__r : Int32} {fault_r : Int32} {readPeople_r : Int32} {readPerson_r : Nat → Int32} {readAskings_r : Int32} {readAsked_r : Nat → Int32} {readHangs_r : Int32} {readHung_r : Nat → Int32} (hf : m_town w isKept people room work price askings asked hangs hung text texted readPerson readAsked readHung = some (r, w_r, isKept_r, people_r, room_r, work_r, price_r, askings_r, asked_r, hangs_r, hung_r, texted_r, at__r, fault_r, readPeople_r, readPerson_r, readAskings_r, readAsked_r, readHangs_r, readHung_r)) : MI l yX10_town (ws_ yX10_town cX10_town 2 (some .int)) { frames := 3, cells := 0, slots := 0, locals := 75 } D gcl (gty d) (fun _ => True) (mw d ad w isKept people room work price askings asked hangs hung tenths sortWorth sortDays sorts text texted trace at_ fault readPeople readPerson readAskings readAsked readHangs readHung rest brings later) (mw d ad w_r isKept_r people_r room_r work_r price_r askings_r asked_r hangs_r hung_r tenths sortWorth sortDays sorts text texted_r trace at__r fault_r readPeople_r readPerson_r readAskings_r readAsked_r readHangs_r readHung_r rest brings later) sz [.ref (ad 0)] r :=
  MI.of (by decide) [.ref (ad 0)] [(0, .ref (ad 0))] (Nat.le_of_ble_eq_true rfl) rfl (fun p e s m below meth c ls Q hx hb hml hown hts hN hA hC hl K => w_m_town hx hb hml hown hts hA (Nat.le_refl _) (Nat.le_refl _) (Nat.le_refl _) (Nat.le_refl _) hf hC hl K)
