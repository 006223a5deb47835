set_option maxRecDepth 100000

def m_promise (w : Nat → Int32) (room : Nat → Int32) (askings : Int32) (asked : Nat → Int32) (x1 : Int32) : Option (Int32 × (Nat → Int32)) :=
  bnd (m_isAsking askings x1) fun r_2 =>
  if r_2 = 0 then (some ((-1), w)) else
  ck (5 * x1) 40 <| ck (3 + x1) 300 <| if (w (3 + x1).toNatClampNeg) = 0 then (ck ((5 * x1) + 1) 40 <| if (asked ((5 * x1) + 1).toNatClampNeg) = (w (0 : Int32).toNatClampNeg) then (ck (19 + (asked (5 * x1).toNatClampNeg)) 300 <| ck (asked (5 * x1).toNatClampNeg) 4 <| if (w (19 + (asked (5 * x1).toNatClampNeg)).toNatClampNeg) = (room (asked (5 * x1).toNatClampNeg).toNatClampNeg) then (some ((-3), w)) else
  ck (19 + (asked (5 * x1).toNatClampNeg)) 300 <| bnd (m_insert w (asked (5 * x1).toNatClampNeg) (w (19 + (asked (5 * x1).toNatClampNeg)).toNatClampNeg) x1) fun w_85 =>
  ck ((5 * x1) + 2) 40 <| ck (11 + x1) 300 <| bnd (m_minds (upd w_85 (11 + x1).toNatClampNeg (asked ((5 * x1) + 2).toNatClampNeg)) 0 x1 (asked (5 * x1).toNatClampNeg) 0) fun w_112 =>
  ck (19 + (asked (5 * x1).toNatClampNeg)) 300 <| some (w_112 (19 + (asked (5 * x1).toNatClampNeg)).toNatClampNeg, w_112)) else
  some ((-2), w)) else
  some ((-2), w)
set_option maxHeartbeats 4000000 in
set_option maxRecDepth 100000 in
theorem w_m_promise {p : Program} {l : Launch} {e : Env} {R : Room} {s : State} {m : MethodId} {args : Array Value} {below : List Frame} {meth : Method} {c : Code} {H : Heap} {locs : List Loc} {cells slots : Nat} {Q : State → Prop} {A : Nat → Prop} {ls : Array Slot} {D : va_G} {d : Nat → ClassId} {ad : Nat → Nat} {w : Nat → Int32} {isKept : Nat → Int32} {people : Int32} {room : Nat → Int32} {work : Nat → Int32} {price : Nat → Int32} {askings : Int32} {asked : Nat → Int32} {hangs : Int32} {hung : Nat → Int32} {tenths : Nat → Int32} {sortWorth : Nat → Int32} {sortDays : Nat → Int32} {sorts : Int32} {text : Nat → Int32} {texted : Int32} {trace : Int64} {at_ : Int32} {fault : Int32} {readPeople : Int32} {readPerson : Nat → Int32} {readAskings : Int32} {readAsked : Nat → Int32} {readHangs : Int32} {readHung : Nat → Int32} {rest : Nat → Int32} {brings : Nat → Int64} {later : Nat → Int64} {x1 : Int32} {r : Int32} {w_r : Nat → Int32} (hx : p.tables.exec = Jvm.exec) (hb : c.code = cX10_promise) (hml : c.maxLocals = 3) (hown : s.vm.findClass RX10 = some m.cls) (hts : ∀ w ∈ lw_all, w.before args s = true) (hA : ∀ q, s.heap.size ≤ q → A q) (hRf : 2 ≤ R.frames) (hRl : 46 ≤ R.locals) (hRc : cells ≤ R.cells) (hRs : slots ≤ R.slots) (hf : m_promise w room askings asked x1 = some (r, w_r)) (hC : HC D gcl (gty d) A (mw d ad w isKept people room work price askings asked hangs hung tenths sortWorth sortDays sorts text texted trace at_ fault readPeople readPerson readAskings readAsked readHangs readHung rest brings later) s H locs) (hl : lv_has ls 3 [(0, .ref (ad 0)), (1, .int x1)]) (K : ∀ (H : Heap) (locs : List Loc) (ls : Array Slot) (pc : Nat), narrow .int (.int r) = .int r → HC D gcl (gty d) A (mw d ad w_r isKept people room work price askings asked hangs hung tenths sortWorth sortDays sorts text texted trace at_ fault readPeople readPerson readAskings readAsked readHangs readHung rest brings later) s H locs → decode cX10_promise pc = .ok (.ireturn, 1) → W p l e R s m args below meth c H locs cells slots Q (F0 m pc ls [.int r])) : W p l e R s m args below meth c H locs cells slots Q (F0 m 0 ls []) := by
  unfold m_promise at hf
  refine lv_aload_n hx hb dX10_promise_0 rfl (lv_at hl 0 rfl) ?_
  refine lv_iload_n hx hb dX10_promise_1 rfl (lv_at hl 1 rfl) ?_
  obtain ⟨r_2, hcall, hf⟩ := bnd_some hf
  refine hc_i (va_runV (C := RX10) (As := [.int x1]) (rest := []) ⟨hx, hb, hml, hown, hts⟩ (c_m_isAsking hcall) (cwV 1 hts (lw_V q951 q953 qs28 q59 q954) rfl rfl rfl (by decide +kernel) ⟨(Nat.le_trans (Nat.le_of_ble_eq_true rfl) hRf), (Nat.le_trans (Nat.le_of_ble_eq_true rfl) hRl)⟩) (pre_V (q0 := 0) (ci := 10) (fun _ _ _ _ h => h) (fun _ _ _ => trivial) hC rfl rfl) rfl rfl hl.1 rfl (lv_room (Nat.le_of_ble_eq_true rfl)) dX10_promise_2 ⟨hRc, hRs⟩) hA hC (fun H locs hC => ?_)
  refine lv_if_ne (tgt := 10) hx hb dX10_promise_5 (by decide) (fun c_5 => ?_) (fun c_5 => ?_)
  · have hf := if_f hf c_5
    refine lv_aload_n hx hb dX10_promise_10 rfl (lv_at hl 0 rfl) ?_
    refine va_get (ci := 10) (v := .ref (ad 6)) (C := RX10) (T := TX10) (N := 28) hx hb hts in_X10 hown hC.1 hC.2.1 0 rfl rfl 7 (by decide) (hts _ q813) (fun _ h9 => h9) rfl dX10_promise_11 ?_
    refine lv_iconst (v := 5) hx hb dX10_promise_14 (by decide) ?_
    refine lv_iload_n hx hb dX10_promise_15 rfl (lv_at hl 1 rfl) ?_
    refine lv_imul hx hb dX10_promise_16 ?_
    obtain ⟨hi_17, hf⟩ := ck_some hf
    refine va_iald hx hb hC.1 hC.2.1 6 0 rfl rfl hi_17 dX10_promise_17 ?_
    refine lv_istore_n (lv' := [(2, .int (asked (5 * x1).toNatClampNeg)), (0, .ref (ad 0)), (1, .int x1)]) hx hb dX10_promise_18 rfl hl (by decide) rfl (fun ls hl => ?_)
    refine lv_aload_n hx hb dX10_promise_19 rfl (lv_at hl 1 rfl) ?_
    refine va_get (ci := 10) (v := .ref (ad 1)) (C := RX10) (T := TX10) (N := 28) hx hb hts in_X10 hown hC.1 hC.2.1 0 rfl rfl 0 (by decide) (hts _ q806) (fun _ h9 => h9) rfl dX10_promise_20 ?_
    refine lv_iconst (v := 3) hx hb dX10_promise_23 (by decide) ?_
    refine lv_iload_n hx hb dX10_promise_24 rfl (lv_at hl 2 rfl) ?_
    refine lv_iadd hx hb dX10_promise_25 ?_
    obtain ⟨hi_26, hf⟩ := ck_some hf
    refine va_iald hx hb hC.1 hC.2.1 1 0 rfl rfl hi_26 dX10_promise_26 ?_
    refine lv_if_ne (tgt := 49) hx hb dX10_promise_27 (by decide) (fun c_27 => ?_) (fun c_27 => ?_)
    · have hf := if_f hf c_27
      refine lv_bipush (v := (-2)) hx hb dX10_promise_49 (by decide) ?_
      obtain ⟨e_1, e_2⟩ := so_2 (Option.some.inj hf)
      subst e_1
      subst e_2
      exact K H locs ls _ rfl hC dX10_promise_51
    · have hf := if_t hf c_27
      refine lv_aload_n hx hb dX10_promise_30 rfl (lv_at hl 1 rfl) ?_
      refine va_get (ci := 10) (v := .ref (ad 6)) (C := RX10) (T := TX10) (N := 28) hx hb hts in_X10 hown hC.1 hC.2.1 0 rfl rfl 7 (by decide) (hts _ q813) (fun _ h9 => h9) rfl dX10_promise_31 ?_
      refine lv_iconst (v := 5) hx hb dX10_promise_34 (by decide) ?_
      refine lv_iload_n hx hb dX10_promise_35 rfl (lv_at hl 2 rfl) ?_
      refine lv_imul hx hb dX10_promise_36 ?_
      refine lv_iconst (v := 1) hx hb dX10_promise_37 (by decide) ?_
      refine lv_iadd hx hb dX10_promise_38 ?_
      obtain ⟨hi_39, hf⟩ := ck_some hf
      refine va_iald hx hb hC.1 hC.2.1 6 0 rfl rfl hi_39 dX10_promise_39 ?_
      refine lv_aload_n hx hb dX10_promise_40 rfl (lv_at hl 1 rfl) ?_
      refine va_get (ci := 10) (v := .ref (ad 1)) (C := RX10) (T := TX10) (N := 28) hx hb hts in_X10 hown hC.1 hC.2.1 0 rfl rfl 0 (by decide) (hts _ q806) (fun _ h9 => h9) rfl dX10_promise_41 ?_
      refine lv_iconst (v := 0) hx hb dX10_promise_44 (by decide) ?_
      refine va_iald hx hb hC.1 hC.2.1 1 0 rfl rfl (vp_in_iff.mpr (by decide)) dX10_promise_45 ?_
      refine lv_icmp_eq (tgt := 52) hx hb dX10_promise_46 (by decide) (fun c_46 => ?_) (fun c_46 => ?_)
      · have hf := if_t hf c_46
        refine lv_aload_n hx hb dX10_promise_52 rfl (lv_at hl 1 rfl) ?_
        refine va_get (ci := 10) (v := .ref (ad 1)) (C := RX10) (T := TX10) (N := 28) hx hb hts in_X10 hown hC.1 hC.2.1 0 rfl rfl 0 (by decide) (hts _ q806) (fun _ h9 => h9) rfl dX10_promise_53 ?_
        refine lv_bipush (v := 19) hx hb dX10_promise_56 (by decide) ?_
        refine lv_iload_n hx hb dX10_promise_58 rfl (lv_at hl 0 rfl) ?_
        refine lv_iadd hx hb dX10_promise_59 ?_
        obtain ⟨hi_60, hf⟩ := ck_some hf
        refine va_iald hx hb hC.1 hC.2.1 1 0 rfl rfl hi_60 dX10_promise_60 ?_
        refine lv_aload_n hx hb dX10_promise_61 rfl (lv_at hl 1 rfl) ?_
        refine va_get (ci := 10) (v := .ref (ad 3)) (C := RX10) (T := TX10) (N := 28) hx hb hts in_X10 hown hC.1 hC.2.1 0 rfl rfl 3 (by decide) (hts _ q809) (fun _ h9 => h9) rfl dX10_promise_62 ?_
        refine lv_iload_n hx hb dX10_promise_65 rfl (lv_at hl 0 rfl) ?_
        obtain ⟨hi_66, hf⟩ := ck_some hf
        refine va_iald hx hb hC.1 hC.2.1 3 0 rfl rfl hi_66 dX10_promise_66 ?_
        refine lv_icmp_ne (tgt := 73) hx hb dX10_promise_67 (by decide) (fun c_67 => ?_) (fun c_67 => ?_)
        · have hf := if_f hf c_67
          refine lv_aload_n hx hb dX10_promise_73 rfl (lv_at hl 1 rfl) ?_
          refine lv_iload_n hx hb dX10_promise_74 rfl (lv_at hl 0 rfl) ?_
          refine lv_aload_n hx hb dX10_promise_75 rfl (lv_at hl 1 rfl) ?_
          refine va_get (ci := 10) (v := .ref (ad 1)) (C := RX10) (T := TX10) (N := 28) hx hb hts in_X10 hown hC.1 hC.2.1 0 rfl rfl 0 (by decide) (hts _ q806) (fun _ h9 => h9) rfl dX10_promise_76 ?_
          refine lv_bipush (v := 19) hx hb dX10_promise_79 (by decide) ?_
          refine lv_iload_n hx hb dX10_promise_81 rfl (lv_at hl 0 rfl) ?_
          refine lv_iadd hx hb dX10_promise_82 ?_
          obtain ⟨hi_83, hf⟩ := ck_some hf
          refine va_iald hx hb hC.1 hC.2.1 1 0 rfl rfl hi_83 dX10_promise_83 ?_
          refine lv_iload_n hx hb dX10_promise_84 rfl (lv_at hl 2 rfl) ?_
          obtain ⟨w_85, hcall, hf⟩ := bnd_some hf
          refine hc_v (va_runV (C := RX10) (As := [.int (asked (5 * x1).toNatClampNeg), .int (w (19 + (asked (5 * x1).toNatClampNeg)).toNatClampNeg), .int x1]) (rest := []) ⟨hx, hb, hml, hown, hts⟩ (c_m_insert hcall) (cwV 3 hts (lw_V q968 q970 qs30 q59 q971) rfl rfl rfl (by decide +kernel) ⟨(Nat.le_trans (Nat.le_of_ble_eq_true rfl) hRf), (Nat.le_trans (Nat.le_of_ble_eq_true rfl) hRl)⟩) (pre_V (q0 := 0) (ci := 10) (fun _ _ _ _ h => h) (fun _ _ _ => trivial) hC rfl rfl) rfl rfl hl.1 rfl (lv_room (Nat.le_of_ble_eq_true rfl)) dX10_promise_85 ⟨hRc, hRs⟩) hA hC (fun H locs hC => ?_)
          refine lv_aload_n hx hb dX10_promise_88 rfl (lv_at hl 1 rfl) ?_
          refine va_get (ci := 10) (v := .ref (ad 1)) (C := RX10) (T := TX10) (N := 28) hx hb hts in_X10 hown hC.1 hC.2.1 0 rfl rfl 0 (by decide) (hts _ q806) (fun _ h9 => h9) rfl dX10_promise_89 ?_
          refine lv_bipush (v := 11) hx hb dX10_promise_92 (by decide) ?_
          refine lv_iload_n hx hb dX10_promise_94 rfl (lv_at hl 2 rfl) ?_
          refine lv_iadd hx hb dX10_promise_95 ?_
          refine lv_aload_n hx hb dX10_promise_96 rfl (lv_at hl 1 rfl) ?_
          refine va_get (ci := 10) (v := .ref (ad 6)) (C := RX10) (T := TX10) (N := 28) hx hb hts in_X10 hown hC.1 hC.2.1 0 rfl rfl 7 (by decide) (hts _ q813) (fun _ h9 => h9) rfl dX10_promise_97 ?_
          refine lv_iconst (v := 5) hx hb dX10_promise_100 (by decide) ?_
          refine lv_iload_n hx hb dX10_promise_101 rfl (lv_at hl 2 rfl) ?_
          refine lv_imul hx hb dX10_promise_102 ?_
          refine lv_iconst (v := 2) hx hb dX10_promise_103 (by decide) ?_
          refine lv_iadd hx hb dX10_promise_104 ?_
          obtain ⟨hi_105, hf⟩ := ck_some hf
          refine va_iald hx hb hC.1 hC.2.1 6 0 rfl rfl hi_105 dX10_promise_105 ?_
          obtain ⟨hi_106, hf⟩ := ck_some hf
          refine va_iast hx hb hC.1 hC.2.1 hC.2.2.1 hC.2.2.2 1 0 rfl rfl hi_106 dX10_promise_106 (fun H locs hP hD hS => ?_)
          have hC : HC D gcl (gty d) A (mw d ad (upd w_85 (11 + x1).toNatClampNeg (asked ((5 * x1) + 2).toNatClampNeg)) isKept people room work price askings asked hangs hung tenths sortWorth sortDays sorts text texted trace at_ fault readPeople readPerson readAskings readAsked readHangs readHung rest brings later) s H locs := ⟨hC.1, hP, hD, hS⟩
          refine lv_aload_n hx hb dX10_promise_107 rfl (lv_at hl 1 rfl) ?_
          refine lv_iconst (v := 0) hx hb dX10_promise_108 (by decide) ?_
          refine lv_iload_n hx hb dX10_promise_109 rfl (lv_at hl 2 rfl) ?_
          refine lv_iload_n hx hb dX10_promise_110 rfl (lv_at hl 0 rfl) ?_
          refine lv_iconst (v := 0) hx hb dX10_promise_111 (by decide) ?_
          obtain ⟨w_112, hcall, hf⟩ := bnd_some hf
          refine hc_v (va_runV (C := RX10) (As := [.int 0, .int x1, .int (asked (5 * x1).toNatClampNeg), .int 0]) (rest := []) ⟨hx, hb, hml, hown, hts⟩ (c_m_minds hcall) (cwV 4 hts (lw_V q972 q974 qs31 q59 q975) rfl rfl rfl (by decide +kernel) ⟨(Nat.le_trans (Nat.le_of_ble_eq_true rfl) hRf), (Nat.le_trans (Nat.le_of_ble_eq_true rfl) hRl)⟩) (pre_V (q0 := 0) (ci := 10) (fun _ _ _ _ h => h) (fun _ _ _ => trivial) hC rfl rfl) rfl rfl hl.1 rfl (lv_room (Nat.le_of_ble_eq_true rfl)) dX10_promise_112 ⟨hRc, hRs⟩) hA hC (fun H locs hC => ?_)
          refine lv_aload_n hx hb dX10_promise_115 rfl (lv_at hl 1 rfl) ?_
          refine va_get (ci := 10) (v := .ref (ad 1)) (C := RX10) (T := TX10) (N := 28) hx hb hts in_X10 hown hC.1 hC.2.1 0 rfl rfl 0 (by decide) (hts _ q806) (fun _ h9 => h9) rfl dX10_promise_116 ?_
          refine lv_bipush (v := 19) hx hb dX10_promise_119 (by decide) ?_
          refine lv_iload_n hx hb dX10_promise_121 rfl (lv_at hl 0 rfl) ?_
          refine lv_iadd hx hb dX10_promise_122 ?_
          obtain ⟨hi_123, hf⟩ := ck_some hf
          refine va_iald hx hb hC.1 hC.2.1 1 0 rfl rfl hi_123 dX10_promise_123 ?_
          obtain ⟨e_1, e_2⟩ := so_2 (Option.some.inj hf)
          subst e_1
          subst e_2
          exact K H locs ls _ rfl hC dX10_promise_124
        · have hf := if_t hf c_67
          refine lv_bipush (v := (-3)) hx hb dX10_promise_70 (by decide) ?_
          obtain ⟨e_1, e_2⟩ := so_2 (Option.some.inj hf)
          subst e_1
          subst e_2
          exact K H locs ls _ rfl hC dX10_promise_72
      · have hf := if_f hf c_46
        refine lv_bipush (v := (-2)) hx hb dX10_promise_49 (by decide) ?_
        obtain ⟨e_1, e_2⟩ := so_2 (Option.some.inj hf)
        subst e_1
        subst e_2
        exact K H locs ls _ rfl hC dX10_promise_51
  · have hf := if_t hf c_5
    refine lv_iconst (v := (-1)) hx hb dX10_promise_8 (by decide) ?_
    obtain ⟨e_1, e_2⟩ := so_2 (Option.some.inj hf)
    subst e_1
    subst e_2
    exact K H locs ls _ rfl hC dX10_promise_9
set_option maxRecDepth 100000 in
theorem c_m_promise {l : Launch} {sz : Nat} {D : va_G} {d : Nat → ClassId} {ad : Nat → Nat} {w : Nat → Int32} {isKept : Nat → Int32} {people : Int32} {room : Nat → Int32} {work : Nat → Int32} {price : Nat → Int32} {askings : Int32} {asked : Nat → Int32} {hangs : Int32} {hung : Nat → Int32} {tenths : Nat → Int32} {sortWorth : Nat → Int32} {sortDays : Nat → Int32} {sorts : Int32} {text : Nat → Int32} {texted : Int32} {trace : Int64} {at_ : Int32} {fault : Int32} {readPeople : Int32} {readPerson : Nat → Int32} {readAskings : Int32} {readAsked : Nat → Int32} {readHangs : Int32} {readHung : Nat → Int32} {rest : Nat → Int32} {brings : Nat → Int64} {later : Nat → Int64} {x1 : Int32} {r : Int32} {w_r : Nat → Int32} (hf : m_promise w room askings asked x1 = some (r, w_r)) : MI l yX10_promise (ws_ yX10_promise cX10_promise 3 (some .int)) { frames := 2, cells := 0, slots := 0, locals := 46 } D gcl (gty d) (fun _ => True) (mw d ad w isKept people room work price askings asked hangs hung tenths sortWorth sortDays sorts text texted trace at_ fault readPeople readPerson readAskings readAsked readHangs readHung rest brings later) (mw d ad w_r isKept people room work price askings asked hangs hung tenths sortWorth sortDays sorts text texted trace at_ fault readPeople readPerson readAskings readAsked readHangs readHung rest brings later) sz [.ref (ad 0), .int x1] r :=
  MI.of (by decide) [.ref (ad 0), .int x1] [(0, .ref (ad 0)), (1, .int x1)] (Nat.le_of_ble_eq_true rfl) rfl (fun p e s m below meth c ls Q hx hb hml hown hts hN hA hC hl K => w_m_promise hx hb hml hown hts hA (Nat.le_refl _) (Nat.le_refl _) (Nat.le_refl _) (Nat.le_refl _) hf hC hl K)

def m_letOff (w : Nat → Int32) (people : Int32) (askings : Int32) (x1 : Int32) : Option (Int32 × (Nat → Int32)) :=
  bnd (m_isAsking askings x1) fun r_2 =>
  if r_2 = 0 then (some ((-1), w)) else
  ck (3 + x1) 300 <| if (w (3 + x1).toNatClampNeg) = 1 then (bnd (m_sleeveOf w people x1) fun r_27 =>
  bnd (m_placeOf w r_27 x1) fun r_38 =>
  bnd (m_minds w 1 x1 r_27 r_38) fun w_41 =>
  bnd (m_remove w_41 r_27 x1) fun w_47 =>
  ck (3 + x1) 300 <| ck (11 + x1) 300 <| some ((upd w_47 (3 + x1).toNatClampNeg 3) (11 + x1).toNatClampNeg, upd w_47 (3 + x1).toNatClampNeg 3)) else
  some ((-2), w)
set_option maxHeartbeats 4000000 in
set_option maxRecDepth 100000 in
theorem w_m_letOff {p : Program} {l : Launch} {e : Env} {R : Room} {s : State} {m : MethodId} {args : Array Value} {below : List Frame} {meth : Method} {c : Code} {H : Heap} {locs : List Loc} {cells slots : Nat} {Q : State → Prop} {A : Nat → Prop} {ls : Array Slot} {D : va_G} {d : Nat → ClassId} {ad : Nat → Nat} {w : Nat → Int32} {isKept : Nat → Int32} {people : Int32} {room : Nat → Int32} {work : Nat → Int32} {price : Nat → Int32} {askings : Int32} {asked : Nat → Int32} {hangs : Int32} {hung : Nat → Int32} {tenths : Nat → Int32} {sortWorth : Nat → Int32} {sortDays : Nat → Int32} {sorts : Int32} {text : Nat → Int32} {texted : Int32} {trace : Int64} {at_ : Int32} {fault : Int32} {readPeople : Int32} {readPerson : Nat → Int32} {readAskings : Int32} {readAsked : Nat → Int32} {readHangs : Int32} {readHung : Nat → Int32} {rest : Nat → Int32} {brings : Nat → Int64} {later : Nat → Int64} {x1 : Int32} {r : Int32} {w_r : Nat → Int32} (hx : p.tables.exec = Jvm.exec) (hb : c.code = cX10_letOff) (hml : c.maxLocals = 3) (hown : s.vm.findClass RX10 = some m.cls) (hts : ∀ w ∈ lw_all, w.before args s = true) (hA : ∀ q, s.heap.size ≤ q → A q) (hRf : 2 ≤ R.frames) (hRl : 46 ≤ R.locals) (hRc : cells ≤ R.cells) (hRs : slots ≤ R.slots) (hf : m_letOff w people askings x1 = some (r, w_r)) (hC : HC D gcl (gty d) A (mw d ad w isKept people room work price askings asked hangs hung tenths sortWorth sortDays sorts text texted trace at_ fault readPeople readPerson readAskings readAsked readHangs readHung rest brings later) s H locs) (hl : lv_has ls 3 [(0, .ref (ad 0)), (1, .int x1)]) (K : ∀ (H : Heap) (locs : List Loc) (ls : Array Slot) (pc : Nat), narrow .int (.int r) = .int r → HC D gcl (gty d) A (mw d ad w_r isKept people room work price askings asked hangs hung tenths sortWorth sortDays sorts text texted trace at_ fault readPeople readPerson readAskings readAsked readHangs readHung rest brings later) s H locs → decode cX10_letOff pc = .ok (.ireturn, 1) → W p l e R s m args below meth c H locs cells slots Q (F0 m pc ls [.int r])) : W p l e R s m args below meth c H locs cells slots Q (F0 m 0 ls []) := by
  unfold m_letOff at hf
  refine lv_aload_n hx hb dX10_letOff_0 rfl (lv_at hl 0 rfl) ?_
  refine lv_iload_n hx hb dX10_letOff_1 rfl (lv_at hl 1 rfl) ?_
  obtain ⟨r_2, hcall, hf⟩ := bnd_some hf
  refine hc_i (va_runV (C := RX10) (As := [.int x1]) (rest := []) ⟨hx, hb, hml, hown, hts⟩ (c_m_isAsking hcall) (cwV 1 hts (lw_V q951 q953 qs28 q59 q954) rfl rfl rfl (by decide +kernel) ⟨(Nat.le_trans (Nat.le_of_ble_eq_true rfl) hRf), (Nat.le_trans (Nat.le_of_ble_eq_true rfl) hRl)⟩) (pre_V (q0 := 0) (ci := 10) (fun _ _ _ _ h => h) (fun _ _ _ => trivial) hC rfl rfl) rfl rfl hl.1 rfl (lv_room (Nat.le_of_ble_eq_true rfl)) dX10_letOff_2 ⟨hRc, hRs⟩) hA hC (fun H locs hC => ?_)
  refine lv_if_ne (tgt := 10) hx hb dX10_letOff_5 (by decide) (fun c_5 => ?_) (fun c_5 => ?_)
  · have hf := if_f hf c_5
    refine lv_aload_n hx hb dX10_letOff_10 rfl (lv_at hl 0 rfl) ?_
    refine va_get (ci := 10) (v := .ref (ad 1)) (C := RX10) (T := TX10) (N := 28) hx hb hts in_X10 hown hC.1 hC.2.1 0 rfl rfl 0 (by decide) (hts _ q806) (fun _ h9 => h9) rfl dX10_letOff_11 ?_
    refine lv_iconst (v := 3) hx hb dX10_letOff_14 (by decide) ?_
    refine lv_iload_n hx hb dX10_letOff_15 rfl (lv_at hl 1 rfl) ?_
    refine lv_iadd hx hb dX10_letOff_16 ?_
    obtain ⟨hi_17, hf⟩ := ck_some hf
    refine va_iald hx hb hC.1 hC.2.1 1 0 rfl rfl hi_17 dX10_letOff_17 ?_
    refine lv_iconst (v := 1) hx hb dX10_letOff_18 (by decide) ?_
    refine lv_icmp_eq (tgt := 25) hx hb dX10_letOff_19 (by decide) (fun c_19 => ?_) (fun c_19 => ?_)
    · have hf := if_t hf c_19
      refine lv_aload_n hx hb dX10_letOff_25 rfl (lv_at hl 0 rfl) ?_
      refine lv_iload_n hx hb dX10_letOff_26 rfl (lv_at hl 1 rfl) ?_
      obtain ⟨r_27, hcall, hf⟩ := bnd_some hf
      refine hc_i (va_runV (C := RX10) (As := [.int x1]) (rest := []) ⟨hx, hb, hml, hown, hts⟩ (c_m_sleeveOf hcall) (cwV 1 hts (lw_V q956 q958 qs29 q59 q959) rfl rfl rfl (by decide +kernel) ⟨(Nat.le_trans (Nat.le_of_ble_eq_true rfl) hRf), (Nat.le_trans (Nat.le_of_ble_eq_true rfl) hRl)⟩) (pre_V (q0 := 0) (ci := 10) (fun _ _ _ _ h => h) (fun _ _ _ => trivial) hC rfl rfl) rfl rfl hl.1 rfl (lv_room (Nat.le_of_ble_eq_true rfl)) dX10_letOff_27 ⟨hRc, hRs⟩) hA hC (fun H locs hC => ?_)
      refine lv_istore_n (lv' := [(2, .int r_27), (0, .ref (ad 0)), (1, .int x1)]) hx hb dX10_letOff_30 rfl hl (by decide) rfl (fun ls hl => ?_)
      refine lv_aload_n hx hb dX10_letOff_31 rfl (lv_at hl 1 rfl) ?_
      refine lv_iconst (v := 1) hx hb dX10_letOff_32 (by decide) ?_
      refine lv_iload_n hx hb dX10_letOff_33 rfl (lv_at hl 2 rfl) ?_
      refine lv_iload_n hx hb dX10_letOff_34 rfl (lv_at hl 0 rfl) ?_
      refine lv_aload_n hx hb dX10_letOff_35 rfl (lv_at hl 1 rfl) ?_
      refine lv_iload_n hx hb dX10_letOff_36 rfl (lv_at hl 0 rfl) ?_
      refine lv_iload_n hx hb dX10_letOff_37 rfl (lv_at hl 2 rfl) ?_
      obtain ⟨r_38, hcall, hf⟩ := bnd_some hf
      refine hc_i (va_runV (C := RX10) (As := [.int r_27, .int x1]) (rest := [.int r_27, .int x1, .int 1, .ref (ad 0)]) ⟨hx, hb, hml, hown, hts⟩ (c_m_placeOf hcall) (cwV 2 hts (lw_V q980 q982 qs32 q59 q983) rfl rfl rfl (by decide +kernel) ⟨(Nat.le_trans (Nat.le_of_ble_eq_true rfl) hRf), (Nat.le_trans (Nat.le_of_ble_eq_true rfl) hRl)⟩) (pre_V (q0 := 0) (ci := 10) (fun _ _ _ _ h => h) (fun _ _ _ => trivial) hC rfl rfl) rfl rfl hl.1 rfl (lv_room (Nat.le_of_ble_eq_true rfl)) dX10_letOff_38 ⟨hRc, hRs⟩) hA hC (fun H locs hC => ?_)
      obtain ⟨w_41, hcall, hf⟩ := bnd_some hf
      refine hc_v (va_runV (C := RX10) (As := [.int 1, .int x1, .int r_27, .int r_38]) (rest := []) ⟨hx, hb, hml, hown, hts⟩ (c_m_minds hcall) (cwV 4 hts (lw_V q972 q974 qs31 q59 q975) rfl rfl rfl (by decide +kernel) ⟨(Nat.le_trans (Nat.le_of_ble_eq_true rfl) hRf), (Nat.le_trans (Nat.le_of_ble_eq_true rfl) hRl)⟩) (pre_V (q0 := 0) (ci := 10) (fun _ _ _ _ h => h) (fun _ _ _ => trivial) hC rfl rfl) rfl rfl hl.1 rfl (lv_room (Nat.le_of_ble_eq_true rfl)) dX10_letOff_41 ⟨hRc, hRs⟩) hA hC (fun H locs hC => ?_)
      refine lv_aload_n hx hb dX10_letOff_44 rfl (lv_at hl 1 rfl) ?_
      refine lv_iload_n hx hb dX10_letOff_45 rfl (lv_at hl 0 rfl) ?_
      refine lv_iload_n hx hb dX10_letOff_46 rfl (lv_at hl 2 rfl) ?_
      obtain ⟨w_47, hcall, hf⟩ := bnd_some hf
      refine hc_v (va_runV (C := RX10) (As := [.int r_27, .int x1]) (rest := []) ⟨hx, hb, hml, hown, hts⟩ (c_m_remove hcall) (cwV 2 hts (lw_V q984 q986 qs33 q59 q987) rfl rfl rfl (by decide +kernel) ⟨(Nat.le_trans (Nat.le_of_ble_eq_true rfl) hRf), (Nat.le_trans (Nat.le_of_ble_eq_true rfl) hRl)⟩) (pre_V (q0 := 0) (ci := 10) (fun _ _ _ _ h => h) (fun _ _ _ => trivial) hC rfl rfl) rfl rfl hl.1 rfl (lv_room (Nat.le_of_ble_eq_true rfl)) dX10_letOff_47 ⟨hRc, hRs⟩) hA hC (fun H locs hC => ?_)
      refine lv_aload_n hx hb dX10_letOff_50 rfl (lv_at hl 1 rfl) ?_
      refine va_get (ci := 10) (v := .ref (ad 1)) (C := RX10) (T := TX10) (N := 28) hx hb hts in_X10 hown hC.1 hC.2.1 0 rfl rfl 0 (by decide) (hts _ q806) (fun _ h9 => h9) rfl dX10_letOff_51 ?_
      refine lv_iconst (v := 3) hx hb dX10_letOff_54 (by decide) ?_
      refine lv_iload_n hx hb dX10_letOff_55 rfl (lv_at hl 2 rfl) ?_
      refine lv_iadd hx hb dX10_letOff_56 ?_
      refine lv_iconst (v := 3) hx hb dX10_letOff_57 (by decide) ?_
      obtain ⟨hi_58, hf⟩ := ck_some hf
      refine va_iast hx hb hC.1 hC.2.1 hC.2.2.1 hC.2.2.2 1 0 rfl rfl hi_58 dX10_letOff_58 (fun H locs hP hD hS => ?_)
      have hC : HC D gcl (gty d) A (mw d ad (upd w_47 (3 + x1).toNatClampNeg 3) isKept people room work price askings asked hangs hung tenths sortWorth sortDays sorts text texted trace at_ fault readPeople readPerson readAskings readAsked readHangs readHung rest brings later) s H locs := ⟨hC.1, hP, hD, hS⟩
      refine lv_aload_n hx hb dX10_letOff_59 rfl (lv_at hl 1 rfl) ?_
      refine va_get (ci := 10) (v := .ref (ad 1)) (C := RX10) (T := TX10) (N := 28) hx hb hts in_X10 hown hC.1 hC.2.1 0 rfl rfl 0 (by decide) (hts _ q806) (fun _ h9 => h9) rfl dX10_letOff_60 ?_
      refine lv_bipush (v := 11) hx hb dX10_letOff_63 (by decide) ?_
      refine lv_iload_n hx hb dX10_letOff_65 rfl (lv_at hl 2 rfl) ?_
      refine lv_iadd hx hb dX10_letOff_66 ?_
      obtain ⟨hi_67, hf⟩ := ck_some hf
      refine va_iald hx hb hC.1 hC.2.1 1 0 rfl rfl hi_67 dX10_letOff_67 ?_
      obtain ⟨e_1, e_2⟩ := so_2 (Option.some.inj hf)
      subst e_1
      subst e_2
      exact K H locs ls _ rfl hC dX10_letOff_68
    · have hf := if_f hf c_19
      refine lv_bipush (v := (-2)) hx hb dX10_letOff_22 (by decide) ?_
      obtain ⟨e_1, e_2⟩ := so_2 (Option.some.inj hf)
      subst e_1
      subst e_2
      exact K H locs ls _ rfl hC dX10_letOff_24
  · have hf := if_t hf c_5
    refine lv_iconst (v := (-1)) hx hb dX10_letOff_8 (by decide) ?_
    obtain ⟨e_1, e_2⟩ := so_2 (Option.some.inj hf)
    subst e_1
    subst e_2
    exact K H locs ls _ rfl hC dX10_letOff_9
set_option maxRecDepth 100000 in
theorem c_m_letOff {l : Launch} {sz : Nat} {D : va_G} {d : Nat → ClassId} {ad : Nat → Nat} {w : Nat → Int32} {isKept : Nat → Int32} {people : Int32} {room : Nat → Int32} {work : Nat → Int32} {price : Nat → Int32} {askings : Int32} {asked : Nat → Int32} {hangs : Int32} {hung : Nat → Int32} {tenths : Nat → Int32} {sortWorth : Nat → Int32} {sortDays : Nat → Int32} {sorts : Int32} {text : Nat → Int32} {texted : Int32} {trace : Int64} {at_ : Int32} {fault : Int32} {readPeople : Int32} {readPerson : Nat → Int32} {readAskings : Int32} {readAsked : Nat → Int32} {readHangs : Int32} {readHung : Nat → Int32} {rest : Nat → Int32} {brings : Nat → Int64} {later : Nat → Int64} {x1 : Int32} {r : Int32} {w_r : Nat → Int32} (hf : m_letOff w people askings x1 = some (r, w_r)) : MI l yX10_letOff (ws_ yX10_letOff cX10_letOff 3 (some .int)) { frames := 2, cells := 0, slots := 0, locals := 46 } D gcl (gty d) (fun _ => True) (mw d ad w isKept people room work price askings asked hangs hung tenths sortWorth sortDays sorts text texted trace at_ fault readPeople readPerson readAskings readAsked readHangs readHung rest brings later) (mw d ad w_r isKept people room work price askings asked hangs hung tenths sortWorth sortDays sorts text texted trace at_ fault readPeople readPerson readAskings readAsked readHangs readHung rest brings later) sz [.ref (ad 0), .int x1] r :=
  MI.of (by decide) [.ref (ad 0), .int x1] [(0, .ref (ad 0)), (1, .int x1)] (Nat.le_of_ble_eq_true rfl) rfl (fun p e s m below meth c ls Q hx hb hml hown hts hN hA hC hl K => w_m_letOff hx hb hml hown hts hA (Nat.le_refl _) (Nat.le_refl _) (Nat.le_refl _) (Nat.le_refl _) hf hC hl K)

def m_breaks (w : Nat → Int32) (people : Int32) (askings : Int32) (asked : Nat → Int32) (x1 : Int32) : Option (Int32 × (Nat → Int32)) :=
  bnd (m_isAsking askings x1) fun r_2 =>
  if r_2 = 0 then (some ((-1), w)) else
  ck (3 + x1) 300 <| if (w (3 + x1).toNatClampNeg) = 1 then (bnd (m_sleeveOf w people x1) fun r_27 =>
  bnd (m_placeOf w r_27 x1) fun r_38 =>
  bnd (m_minds w 2 x1 r_27 r_38) fun w_41 =>
  bnd (m_remove w_41 r_27 x1) fun w_47 =>
  ck (3 + x1) 300 <| ck ((5 * x1) + 3) 40 <| ck ((5 * x1) + 3) 40 <| some (asked ((5 * x1) + 3).toNatClampNeg, upd (upd w_47 (3 + x1).toNatClampNeg 3) (2 : Int32).toNatClampNeg (((upd w_47 (3 + x1).toNatClampNeg 3) (2 : Int32).toNatClampNeg) + (asked ((5 * x1) + 3).toNatClampNeg)))) else
  some ((-2), w)
set_option maxHeartbeats 4000000 in
set_option maxRecDepth 100000 in
theorem w_m_breaks {p : Program} {l : Launch} {e : Env} {R : Room} {s : State} {m : MethodId} {args : Array Value} {below : List Frame} {meth : Method} {c : Code} {H : Heap} {locs : List Loc} {cells slots : Nat} {Q : State → Prop} {A : Nat → Prop} {ls : Array Slot} {D : va_G} {d : Nat → ClassId} {ad : Nat → Nat} {w : Nat → Int32} {isKept : Nat → Int32} {people : Int32} {room : Nat → Int32} {work : Nat → Int32} {price : Nat → Int32} {askings : Int32} {asked : Nat → Int32} {hangs : Int32} {hung : Nat → Int32} {tenths : Nat → Int32} {sortWorth : Nat → Int32} {sortDays : Nat → Int32} {sorts : Int32} {text : Nat → Int32} {texted : Int32} {trace : Int64} {at_ : Int32} {fault : Int32} {readPeople : Int32} {readPerson : Nat → Int32} {readAskings : Int32} {readAsked : Nat → Int32} {readHangs : Int32} {readHung : Nat → Int32} {rest : Nat → Int32} {brings : Nat → Int64} {later : Nat → Int64} {x1 : Int32} {r : Int32} {w_r : Nat → Int32} (hx : p.tables.exec = Jvm.exec) (hb : c.code = cX10_breaks) (hml : c.maxLocals = 3) (hown : s.vm.findClass RX10 = some m.cls) (hts : ∀ w ∈ lw_all, w.before args s = true) (hA : ∀ q, s.heap.size ≤ q → A q) (hRf : 2 ≤ R.frames) (hRl : 46 ≤ R.locals) (hRc : cells ≤ R.cells) (hRs : slots ≤ R.slots) (hf : m_breaks w people askings asked x1 = some (r, w_r)) (hC : HC D gcl (gty d) A (mw d ad w isKept people room work price askings asked hangs hung tenths sortWorth sortDays sorts text texted trace at_ fault readPeople readPerson readAskings readAsked readHangs readHung rest brings later) s H locs) (hl : lv_has ls 3 [(0, .ref (ad 0)), (1, .int x1)]) (K : ∀ (H : Heap) (locs : List Loc) (ls : Array Slot) (pc : Nat), narrow .int (.int r) = .int r → HC D gcl (gty d) A (mw d ad w_r isKept people room work price askings asked hangs hung tenths sortWorth sortDays sorts text texted trace at_ fault readPeople readPerson readAskings readAsked readHangs readHung rest brings later) s H locs → decode cX10_breaks pc = .ok (.ireturn, 1) → W p l e R s m args below meth c H locs cells slots Q (F0 m pc ls [.int r])) : W p l e R s m args below meth c H locs cells slots Q (F0 m 0 ls []) := by
  unfold m_breaks at hf
  refine lv_aload_n hx hb dX10_breaks_0 rfl (lv_at hl 0 rfl) ?_
  refine lv_iload_n hx hb dX10_breaks_1 rfl (lv_at hl 1 rfl) ?_
  obtain ⟨r_2, hcall, hf⟩ := bnd_some hf
  refine hc_i (va_runV (C := RX10) (As := [.int x1]) (rest := []) ⟨hx, hb, hml, hown, hts⟩ (c_m_isAsking hcall) (cwV 1 hts (lw_V q951 q953 qs28 q59 q954) rfl rfl rfl (by decide +kernel) ⟨(Nat.le_trans (Nat.le_of_ble_eq_true rfl) hRf), (Nat.le_trans (Nat.le_of_ble_eq_true rfl) hRl)⟩) (pre_V (q0 := 0) (ci := 10) (fun _ _ _ _ h => h) (fun _ _ _ => trivial) hC rfl rfl) rfl rfl hl.1 rfl (lv_room (Nat.le_of_ble_eq_true rfl)) dX10_breaks_2 ⟨hRc, hRs⟩) hA hC (fun H locs hC => ?_)
  refine lv_if_ne (tgt := 10) hx hb dX10_breaks_5 (by decide) (fun c_5 => ?_) (fun c_5 => ?_)
  · have hf := if_f hf c_5
    refine lv_aload_n hx hb dX10_breaks_10 rfl (lv_at hl 0 rfl) ?_
    refine va_get (ci := 10) (v := .ref (ad 1)) (C := RX10) (T := TX10) (N := 28) hx hb hts in_X10 hown hC.1 hC.2.1 0 rfl rfl 0 (by decide) (hts _ q806) (fun _ h9 => h9) rfl dX10_breaks_11 ?_
    refine lv_iconst (v := 3) hx hb dX10_breaks_14 (by decide) ?_
    refine lv_iload_n hx hb dX10_breaks_15 rfl (lv_at hl 1 rfl) ?_
    refine lv_iadd hx hb dX10_breaks_16 ?_
    obtain ⟨hi_17, hf⟩ := ck_some hf
    refine va_iald hx hb hC.1 hC.2.1 1 0 rfl rfl hi_17 dX10_breaks_17 ?_
    refine lv_iconst (v := 1) hx hb dX10_breaks_18 (by decide) ?_
    refine lv_icmp_eq (tgt := 25) hx hb dX10_breaks_19 (by decide) (fun c_19 => ?_) (fun c_19 => ?_)
    · have hf := if_t hf c_19
      refine lv_aload_n hx hb dX10_breaks_25 rfl (lv_at hl 0 rfl) ?_
      refine lv_iload_n hx hb dX10_breaks_26 rfl (lv_at hl 1 rfl) ?_
      obtain ⟨r_27, hcall, hf⟩ := bnd_some hf
      refine hc_i (va_runV (C := RX10) (As := [.int x1]) (rest := []) ⟨hx, hb, hml, hown, hts⟩ (c_m_sleeveOf hcall) (cwV 1 hts (lw_V q956 q958 qs29 q59 q959) rfl rfl rfl (by decide +kernel) ⟨(Nat.le_trans (Nat.le_of_ble_eq_true rfl) hRf), (Nat.le_trans (Nat.le_of_ble_eq_true rfl) hRl)⟩) (pre_V (q0 := 0) (ci := 10) (fun _ _ _ _ h => h) (fun _ _ _ => trivial) hC rfl rfl) rfl rfl hl.1 rfl (lv_room (Nat.le_of_ble_eq_true rfl)) dX10_breaks_27 ⟨hRc, hRs⟩) hA hC (fun H locs hC => ?_)
      refine lv_istore_n (lv' := [(2, .int r_27), (0, .ref (ad 0)), (1, .int x1)]) hx hb dX10_breaks_30 rfl hl (by decide) rfl (fun ls hl => ?_)
      refine lv_aload_n hx hb dX10_breaks_31 rfl (lv_at hl 1 rfl) ?_
      refine lv_iconst (v := 2) hx hb dX10_breaks_32 (by decide) ?_
      refine lv_iload_n hx hb dX10_breaks_33 rfl (lv_at hl 2 rfl) ?_
      refine lv_iload_n hx hb dX10_breaks_34 rfl (lv_at hl 0 rfl) ?_
      refine lv_aload_n hx hb dX10_breaks_35 rfl (lv_at hl 1 rfl) ?_
      refine lv_iload_n hx hb dX10_breaks_36 rfl (lv_at hl 0 rfl) ?_
      refine lv_iload_n hx hb dX10_breaks_37 rfl (lv_at hl 2 rfl) ?_
      obtain ⟨r_38, hcall, hf⟩ := bnd_some hf
      refine hc_i (va_runV (C := RX10) (As := [.int r_27, .int x1]) (rest := [.int r_27, .int x1, .int 2, .ref (ad 0)]) ⟨hx, hb, hml, hown, hts⟩ (c_m_placeOf hcall) (cwV 2 hts (lw_V q980 q982 qs32 q59 q983) rfl rfl rfl (by decide +kernel) ⟨(Nat.le_trans (Nat.le_of_ble_eq_true rfl) hRf), (Nat.le_trans (Nat.le_of_ble_eq_true rfl) hRl)⟩) (pre_V (q0 := 0) (ci := 10) (fun _ _ _ _ h => h) (fun _ _ _ => trivial) hC rfl rfl) rfl rfl hl.1 rfl (lv_room (Nat.le_of_ble_eq_true rfl)) dX10_breaks_38 ⟨hRc, hRs⟩) hA hC (fun H locs hC => ?_)
      obtain ⟨w_41, hcall, hf⟩ := bnd_some hf
      refine hc_v (va_runV (C := RX10) (As := [.int 2, .int x1, .int r_27, .int r_38]) (rest := []) ⟨hx, hb, hml, hown, hts⟩ (c_m_minds hcall) (cwV 4 hts (lw_V q972 q974 qs31 q59 q975) rfl rfl rfl (by decide +kernel) ⟨(Nat.le_trans (Nat.le_of_ble_eq_true rfl) hRf), (Nat.le_trans (Nat.le_of_ble_eq_true rfl) hRl)⟩) (pre_V (q0 := 0) (ci := 10) (fun _ _ _ _ h => h) (fun _ _ _ => trivial) hC rfl rfl) rfl rfl hl.1 rfl (lv_room (Nat.le_of_ble_eq_true rfl)) dX10_breaks_41 ⟨hRc, hRs⟩) hA hC (fun H locs hC => ?_)
      refine lv_aload_n hx hb dX10_breaks_44 rfl (lv_at hl 1 rfl) ?_
      refine lv_iload_n hx hb dX10_breaks_45 rfl (lv_at hl 0 rfl) ?_
      refine lv_iload_n hx hb dX10_breaks_46 rfl (lv_at hl 2 rfl) ?_
      obtain ⟨w_47, hcall, hf⟩ := bnd_some hf
      refine hc_v (va_runV (C := RX10) (As := [.int r_27, .int x1]) (rest := []) ⟨hx, hb, hml, hown, hts⟩ (c_m_remove hcall) (cwV 2 hts (lw_V q984 q986 qs33 q59 q987) rfl rfl rfl (by decide +kernel) ⟨(Nat.le_trans (Nat.le_of_ble_eq_true rfl) hRf), (Nat.le_trans (Nat.le_of_ble_eq_true rfl) hRl)⟩) (pre_V (q0 := 0) (ci := 10) (fun _ _ _ _ h => h) (fun _ _ _ => trivial) hC rfl rfl) rfl rfl hl.1 rfl (lv_room (Nat.le_of_ble_eq_true rfl)) dX10_breaks_47 ⟨hRc, hRs⟩) hA hC (fun H locs hC => ?_)
      refine lv_aload_n hx hb dX10_breaks_50 rfl (lv_at hl 1 rfl) ?_
      refine va_get (ci := 10) (v := .ref (ad 1)) (C := RX10) (T := TX10) (N := 28) hx hb hts in_X10 hown hC.1 hC.2.1 0 rfl rfl 0 (by decide) (hts _ q806) (fun _ h9 => h9) rfl dX10_breaks_51 ?_
      refine lv_iconst (v := 3) hx hb dX10_breaks_54 (by decide) ?_
      refine lv_iload_n hx hb dX10_breaks_55 rfl (lv_at hl 2 rfl) ?_
      refine lv_iadd hx hb dX10_breaks_56 ?_
      refine lv_iconst (v := 3) hx hb dX10_breaks_57 (by decide) ?_
      obtain ⟨hi_58, hf⟩ := ck_some hf
      refine va_iast hx hb hC.1 hC.2.1 hC.2.2.1 hC.2.2.2 1 0 rfl rfl hi_58 dX10_breaks_58 (fun H locs hP hD hS => ?_)
      have hC : HC D gcl (gty d) A (mw d ad (upd w_47 (3 + x1).toNatClampNeg 3) isKept people room work price askings asked hangs hung tenths sortWorth sortDays sorts text texted trace at_ fault readPeople readPerson readAskings readAsked readHangs readHung rest brings later) s H locs := ⟨hC.1, hP, hD, hS⟩
      refine lv_aload_n hx hb dX10_breaks_59 rfl (lv_at hl 1 rfl) ?_
      refine va_get (ci := 10) (v := .ref (ad 1)) (C := RX10) (T := TX10) (N := 28) hx hb hts in_X10 hown hC.1 hC.2.1 0 rfl rfl 0 (by decide) (hts _ q806) (fun _ h9 => h9) rfl dX10_breaks_60 ?_
      refine lv_iconst (v := 2) hx hb dX10_breaks_63 (by decide) ?_
      refine lv_dup2_11 hx hb dX10_breaks_64 rfl rfl ?_
      refine va_iald hx hb hC.1 hC.2.1 1 0 rfl rfl (vp_in_iff.mpr (by decide)) dX10_breaks_65 ?_
      refine lv_aload_n hx hb dX10_breaks_66 rfl (lv_at hl 1 rfl) ?_
      refine va_get (ci := 10) (v := .ref (ad 6)) (C := RX10) (T := TX10) (N := 28) hx hb hts in_X10 hown hC.1 hC.2.1 0 rfl rfl 7 (by decide) (hts _ q813) (fun _ h9 => h9) rfl dX10_breaks_67 ?_
      refine lv_iconst (v := 5) hx hb dX10_breaks_70 (by decide) ?_
      refine lv_iload_n hx hb dX10_breaks_71 rfl (lv_at hl 2 rfl) ?_
      refine lv_imul hx hb dX10_breaks_72 ?_
      refine lv_iconst (v := 3) hx hb dX10_breaks_73 (by decide) ?_
      refine lv_iadd hx hb dX10_breaks_74 ?_
      obtain ⟨hi_75, hf⟩ := ck_some hf
      refine va_iald hx hb hC.1 hC.2.1 6 0 rfl rfl hi_75 dX10_breaks_75 ?_
      refine lv_iadd hx hb dX10_breaks_76 ?_
      refine va_iast hx hb hC.1 hC.2.1 hC.2.2.1 hC.2.2.2 1 0 rfl rfl (vp_in_iff.mpr (by decide)) dX10_breaks_77 (fun H locs hP hD hS => ?_)
      have hC : HC D gcl (gty d) A (mw d ad (upd (upd w_47 (3 + x1).toNatClampNeg 3) (2 : Int32).toNatClampNeg (((upd w_47 (3 + x1).toNatClampNeg 3) (2 : Int32).toNatClampNeg) + (asked ((5 * x1) + 3).toNatClampNeg))) isKept people room work price askings asked hangs hung tenths sortWorth sortDays sorts text texted trace at_ fault readPeople readPerson readAskings readAsked readHangs readHung rest brings later) s H locs := ⟨hC.1, hP, hD, hS⟩
      refine lv_aload_n hx hb dX10_breaks_78 rfl (lv_at hl 1 rfl) ?_
      refine va_get (ci := 10) (v := .ref (ad 6)) (C := RX10) (T := TX10) (N := 28) hx hb hts in_X10 hown hC.1 hC.2.1 0 rfl rfl 7 (by decide) (hts _ q813) (fun _ h9 => h9) rfl dX10_breaks_79 ?_
      refine lv_iconst (v := 5) hx hb dX10_breaks_82 (by decide) ?_
      refine lv_iload_n hx hb dX10_breaks_83 rfl (lv_at hl 2 rfl) ?_
      refine lv_imul hx hb dX10_breaks_84 ?_
      refine lv_iconst (v := 3) hx hb dX10_breaks_85 (by decide) ?_
      refine lv_iadd hx hb dX10_breaks_86 ?_
      obtain ⟨hi_87, hf⟩ := ck_some hf
      refine va_iald hx hb hC.1 hC.2.1 6 0 rfl rfl hi_87 dX10_breaks_87 ?_
      obtain ⟨e_1, e_2⟩ := so_2 (Option.some.inj hf)
      subst e_1
      subst e_2
      exact K H locs ls _ rfl hC dX10_breaks_88
    · have hf := if_f hf c_19
      refine lv_bipush (v := (-2)) hx hb dX10_breaks_22 (by decide) ?_
      obtain ⟨e_1, e_2⟩ := so_2 (Option.some.inj hf)
      subst e_1
      subst e_2
      exact K H locs ls _ rfl hC dX10_breaks_24
  · have hf := if_t hf c_5
    refine lv_iconst (v := (-1)) hx hb dX10_breaks_8 (by decide) ?_
    obtain ⟨e_1, e_2⟩ := so_2 (Option.some.inj hf)
    subst e_1
    subst e_2
    exact K H locs ls _ rfl hC dX10_breaks_9
set_option maxRecDepth 100000 in
theorem c_m_breaks {l : Launch} {sz : Nat} {D : va_G} {d : Nat → ClassId} {ad : Nat → Nat} {w : Nat → Int32} {isKept : Nat → Int32} {people : Int32} {room : Nat → Int32} {work : Nat → Int32} {price : Nat → Int32} {askings : Int32} {asked : Nat → Int32} {hangs : Int32} {hung : Nat → Int32} {tenths : Nat → Int32} {sortWorth : Nat → Int32} {sortDays : Nat → Int32} {sorts : Int32} {text : Nat → Int32} {texted : Int32} {trace : Int64} {at_ : Int32} {fault : Int32} {readPeople : Int32} {readPerson : Nat → Int32} {readAskings : Int32} {readAsked : Nat → Int32} {readHangs : Int32} {readHung : Nat → Int32} {rest : Nat → Int32} {brings : Nat → Int64} {later : Nat → Int64} {x1 : Int32} {r : Int32} {w_r : Nat → Int32} (hf : m_breaks w people askings asked x1 = some (r, w_r)) : MI l yX10_breaks (ws_ yX10_breaks cX10_breaks 3 (some .int)) { frames := 2, cells := 0, slots := 0, locals := 46 } D gcl (gty d) (fun _ => True) (mw d ad w isKept people room work price askings asked hangs hung tenths sortWorth sortDays sorts text texted trace at_ fault readPeople readPerson readAskings readAsked readHangs readHung rest brings later) (mw d ad w_r isKept people room work price askings asked hangs hung tenths sortWorth sortDays sorts text texted trace at_ fault readPeople readPerson readAskings readAsked readHangs readHung rest brings later) sz [.ref (ad 0), .int x1] r :=
  MI.of (by decide) [.ref (ad 0), .int x1] [(0, .ref (ad 0)), (1, .int x1)] (Nat.le_of_ble_eq_true rfl) rfl (fun p e s m below meth c ls Q hx hb hml hown hts hN hA hC hl K => w_m_breaks hx hb hml hown hts hA (Nat.le_refl _) (Nat.le_refl _) (Nat.le_refl _) (Nat.le_refl _) hf hC hl K)

def m_hand (w : Nat → Int32) (people : Int32) (room : Nat → Int32) (askings : Int32) (x1 : Int32) (x2 : Int32) : Option (Int32 × (Nat → Int32)) :=
  bnd (m_isAsking askings x1) fun r_2 =>
  if r_2 = 0 then (some ((-1), w)) else
  bnd (m_isOne people x2) fun r_10 =>
  if r_10 = 0 then (some ((-1), w)) else
  bnd (m_sleeveOf w people x1) fun r_20 =>
  ck (3 + x1) 300 <| if (w (3 + x1).toNatClampNeg) = 1 then (if r_20 = x2 then (some ((-2), w)) else
  ck (19 + x2) 300 <| ck x2 4 <| if (w (19 + x2).toNatClampNeg) = (room x2.toNatClampNeg) then (some ((-3), w)) else
  bnd (m_placeOf w r_20 x1) fun r_72 =>
  bnd (m_minds w 3 x1 r_20 r_72) fun w_75 =>
  bnd (m_remove w_75 r_20 x1) fun w_81 =>
  ck (19 + x2) 300 <| bnd (m_insert w_81 x2 (w_81 (19 + x2).toNatClampNeg) x1) fun w_96 =>
  ck (19 + x2) 300 <| some (w_96 (19 + x2).toNatClampNeg, w_96)) else
  some ((-2), w)
set_option maxHeartbeats 4000000 in
set_option maxRecDepth 100000 in
theorem w_m_hand {p : Program} {l : Launch} {e : Env} {R : Room} {s : State} {m : MethodId} {args : Array Value} {below : List Frame} {meth : Method} {c : Code} {H : Heap} {locs : List Loc} {cells slots : Nat} {Q : State → Prop} {A : Nat → Prop} {ls : Array Slot} {D : va_G} {d : Nat → ClassId} {ad : Nat → Nat} {w : Nat → Int32} {isKept : Nat → Int32} {people : Int32} {room : Nat → Int32} {work : Nat → Int32} {price : Nat → Int32} {askings : Int32} {asked : Nat → Int32} {hangs : Int32} {hung : Nat → Int32} {tenths : Nat → Int32} {sortWorth : Nat → Int32} {sortDays : Nat → Int32} {sorts : Int32} {text : Nat → Int32} {texted : Int32} {trace : Int64} {at_ : Int32} {fault : Int32} {readPeople : Int32} {readPerson : Nat → Int32} {readAskings : Int32} {readAsked : Nat → Int32} {readHangs : Int32} {readHung : Nat → Int32} {rest : Nat → Int32} {brings : Nat → Int64} {later : Nat → Int64} {x1 : Int32} {x2 : Int32} {r : Int32} {w_r : Nat → Int32} (hx : p.tables.exec = Jvm.exec) (hb : c.code = cX10_hand) (hml : c.maxLocals = 4) (hown : s.vm.findClass RX10 = some m.cls) (hts : ∀ w ∈ lw_all, w.before args s = true) (hA : ∀ q, s.heap.size ≤ q → A q) (hRf : 2 ≤ R.frames) (hRl : 46 ≤ R.locals) (hRc : cells ≤ R.cells) (hRs : slots ≤ R.slots) (hf : m_hand w people room askings x1 x2 = some (r, w_r)) (hC : HC D gcl (gty d) A (mw d ad w isKept people room work price askings asked hangs hung tenths sortWorth sortDays sorts text texted trace at_ fault readPeople readPerson readAskings readAsked readHangs readHung rest brings later) s H locs) (hl : lv_has ls 4 [(0, .ref (ad 0)), (1, .int x1), (2, .int x2)]) (K : ∀ (H : Heap) (locs : List Loc) (ls : Array Slot) (pc : Nat), narrow .int (.int r) = .int r → HC D gcl (gty d) A (mw d ad w_r isKept people room work price askings asked hangs hung tenths sortWorth sortDays sorts text texted trace at_ fault readPeople readPerson readAskings readAsked readHangs readHung rest brings later) s H locs → decode cX10_hand pc = .ok (.ireturn, 1) → W p l e R s m args below meth c H locs cells slots Q (F0 m pc ls [.int r])) : W p l e R s m args below meth c H locs cells slots Q (F0 m 0 ls []) := by
  unfold m_hand at hf
  refine lv_aload_n hx hb dX10_hand_0 rfl (lv_at hl 0 rfl) ?_
  refine lv_iload_n hx hb dX10_hand_1 rfl (lv_at hl 1 rfl) ?_
  obtain ⟨r_2, hcall, hf⟩ := bnd_some hf
  refine hc_i (va_runV (C := RX10) (As := [.int x1]) (rest := []) ⟨hx, hb, hml, hown, hts⟩ (c_m_isAsking hcall) (cwV 1 hts (lw_V q951 q953 qs28 q59 q954) rfl rfl rfl (by decide +kernel) ⟨(Nat.le_trans (Nat.le_of_ble_eq_true rfl) hRf), (Nat.le_trans (Nat.le_of_ble_eq_true rfl) hRl)⟩) (pre_V (q0 := 0) (ci := 10) (fun _ _ _ _ h => h) (fun _ _ _ => trivial) hC rfl rfl) rfl rfl hl.1 rfl (lv_room (Nat.le_of_ble_eq_true rfl)) dX10_hand_2 ⟨hRc, hRs⟩) hA hC (fun H locs hC => ?_)
  refine lv_if_eq (tgt := 16) hx hb dX10_hand_5 (by decide) (fun c_5 => ?_) (fun c_5 => ?_)
  · have hf := if_t hf c_5
    refine lv_iconst (v := (-1)) hx hb dX10_hand_16 (by decide) ?_
    obtain ⟨e_1, e_2⟩ := so_2 (Option.some.inj hf)
    subst e_1
    subst e_2
    exact K H locs ls _ rfl hC dX10_hand_17
  · have hf := if_f hf c_5
    refine lv_aload_n hx hb dX10_hand_8 rfl (lv_at hl 0 rfl) ?_
    refine lv_iload_n hx hb dX10_hand_9 rfl (lv_at hl 2 rfl) ?_
    obtain ⟨r_10, hcall, hf⟩ := bnd_some hf
    refine hc_i (va_runV (C := RX10) (As := [.int x2]) (rest := []) ⟨hx, hb, hml, hown, hts⟩ (c_m_isOne hcall) (cwV 1 hts (lw_V q942 q944 qs27 q59 q945) rfl rfl rfl (by decide +kernel) ⟨(Nat.le_trans (Nat.le_of_ble_eq_true rfl) hRf), (Nat.le_trans (Nat.le_of_ble_eq_true rfl) hRl)⟩) (pre_V (q0 := 0) (ci := 10) (fun _ _ _ _ h => h) (fun _ _ _ => trivial) hC rfl rfl) rfl rfl hl.1 rfl (lv_room (Nat.le_of_ble_eq_true rfl)) dX10_hand_10 ⟨hRc, hRs⟩) hA hC (fun H locs hC => ?_)
    refine lv_if_ne (tgt := 18) hx hb dX10_hand_13 (by decide) (fun c_13 => ?_) (fun c_13 => ?_)
    · have hf := if_f hf c_13
      refine lv_aload_n hx hb dX10_hand_18 rfl (lv_at hl 0 rfl) ?_
      refine lv_iload_n hx hb dX10_hand_19 rfl (lv_at hl 1 rfl) ?_
      obtain ⟨r_20, hcall, hf⟩ := bnd_some hf
      refine hc_i (va_runV (C := RX10) (As := [.int x1]) (rest := []) ⟨hx, hb, hml, hown, hts⟩ (c_m_sleeveOf hcall) (cwV 1 hts (lw_V q956 q958 qs29 q59 q959) rfl rfl rfl (by decide +kernel) ⟨(Nat.le_trans (Nat.le_of_ble_eq_true rfl) hRf), (Nat.le_trans (Nat.le_of_ble_eq_true rfl) hRl)⟩) (pre_V (q0 := 0) (ci := 10) (fun _ _ _ _ h => h) (fun _ _ _ => trivial) hC rfl rfl) rfl rfl hl.1 rfl (lv_room (Nat.le_of_ble_eq_true rfl)) dX10_hand_20 ⟨hRc, hRs⟩) hA hC (fun H locs hC => ?_)
      refine lv_istore_n (lv' := [(3, .int r_20), (0, .ref (ad 0)), (1, .int x1), (2, .int x2)]) hx hb dX10_hand_23 rfl hl (by decide) rfl (fun ls hl => ?_)
      refine lv_aload_n hx hb dX10_hand_24 rfl (lv_at hl 1 rfl) ?_
      refine va_get (ci := 10) (v := .ref (ad 1)) (C := RX10) (T := TX10) (N := 28) hx hb hts in_X10 hown hC.1 hC.2.1 0 rfl rfl 0 (by decide) (hts _ q806) (fun _ h9 => h9) rfl dX10_hand_25 ?_
      refine lv_iconst (v := 3) hx hb dX10_hand_28 (by decide) ?_
      refine lv_iload_n hx hb dX10_hand_29 rfl (lv_at hl 2 rfl) ?_
      refine lv_iadd hx hb dX10_hand_30 ?_
      obtain ⟨hi_31, hf⟩ := ck_some hf
      refine va_iald hx hb hC.1 hC.2.1 1 0 rfl rfl hi_31 dX10_hand_31 ?_
      refine lv_iconst (v := 1) hx hb dX10_hand_32 (by decide) ?_
      refine lv_icmp_ne (tgt := 41) hx hb dX10_hand_33 (by decide) (fun c_33 => ?_) (fun c_33 => ?_)
      · have hf := if_f hf c_33
        refine lv_bipush (v := (-2)) hx hb dX10_hand_41 (by decide) ?_
        obtain ⟨e_1, e_2⟩ := so_2 (Option.some.inj hf)
        subst e_1
        subst e_2
        exact K H locs ls _ rfl hC dX10_hand_43
      · have hf := if_t hf c_33
        refine lv_iload_n hx hb dX10_hand_36 rfl (lv_at hl 0 rfl) ?_
        refine lv_iload_n hx hb dX10_hand_37 rfl (lv_at hl 3 rfl) ?_
        refine lv_icmp_ne (tgt := 44) hx hb dX10_hand_38 (by decide) (fun c_38 => ?_) (fun c_38 => ?_)
        · have hf := if_f hf c_38
          refine lv_aload_n hx hb dX10_hand_44 rfl (lv_at hl 1 rfl) ?_
          refine va_get (ci := 10) (v := .ref (ad 1)) (C := RX10) (T := TX10) (N := 28) hx hb hts in_X10 hown hC.1 hC.2.1 0 rfl rfl 0 (by decide) (hts _ q806) (fun _ h9 => h9) rfl dX10_hand_45 ?_
          refine lv_bipush (v := 19) hx hb dX10_hand_48 (by decide) ?_
          refine lv_iload_n hx hb dX10_hand_50 rfl (lv_at hl 3 rfl) ?_
          refine lv_iadd hx hb dX10_hand_51 ?_
          obtain ⟨hi_52, hf⟩ := ck_some hf
          refine va_iald hx hb hC.1 hC.2.1 1 0 rfl rfl hi_52 dX10_hand_52 ?_
          refine lv_aload_n hx hb dX10_hand_53 rfl (lv_at hl 1 rfl) ?_
          refine va_get (ci := 10) (v := .ref (ad 3)) (C := RX10) (T := TX10) (N := 28) hx hb hts in_X10 hown hC.1 hC.2.1 0 rfl rfl 3 (by decide) (hts _ q809) (fun _ h9 => h9) rfl dX10_hand_54 ?_
          refine lv_iload_n hx hb dX10_hand_57 rfl (lv_at hl 3 rfl) ?_
          obtain ⟨hi_58, hf⟩ := ck_some hf
          refine va_iald hx hb hC.1 hC.2.1 3 0 rfl rfl hi_58 dX10_hand_58 ?_
          refine lv_icmp_ne (tgt := 65) hx hb dX10_hand_59 (by decide) (fun c_59 => ?_) (fun c_59 => ?_)
          · have hf := if_f hf c_59
            refine lv_aload_n hx hb dX10_hand_65 rfl (lv_at hl 1 rfl) ?_
            refine lv_iconst (v := 3) hx hb dX10_hand_66 (by decide) ?_
            refine lv_iload_n hx hb dX10_hand_67 rfl (lv_at hl 2 rfl) ?_
            refine lv_iload_n hx hb dX10_hand_68 rfl (lv_at hl 0 rfl) ?_
            refine lv_aload_n hx hb dX10_hand_69 rfl (lv_at hl 1 rfl) ?_
            refine lv_iload_n hx hb dX10_hand_70 rfl (lv_at hl 0 rfl) ?_
            refine lv_iload_n hx hb dX10_hand_71 rfl (lv_at hl 2 rfl) ?_
            obtain ⟨r_72, hcall, hf⟩ := bnd_some hf
            refine hc_i (va_runV (C := RX10) (As := [.int r_20, .int x1]) (rest := [.int r_20, .int x1, .int 3, .ref (ad 0)]) ⟨hx, hb, hml, hown, hts⟩ (c_m_placeOf hcall) (cwV 2 hts (lw_V q980 q982 qs32 q59 q983) rfl rfl rfl (by decide +kernel) ⟨(Nat.le_trans (Nat.le_of_ble_eq_true rfl) hRf), (Nat.le_trans (Nat.le_of_ble_eq_true rfl) hRl)⟩) (pre_V (q0 := 0) (ci := 10) (fun _ _ _ _ h => h) (fun _ _ _ => trivial) hC rfl rfl) rfl rfl hl.1 rfl (lv_room (Nat.le_of_ble_eq_true rfl)) dX10_hand_72 ⟨hRc, hRs⟩) hA hC (fun H locs hC => ?_)
            obtain ⟨w_75, hcall, hf⟩ := bnd_some hf
            refine hc_v (va_runV (C := RX10) (As := [.int 3, .int x1, .int r_20, .int r_72]) (rest := []) ⟨hx, hb, hml, hown, hts⟩ (c_m_minds hcall) (cwV 4 hts (lw_V q972 q974 qs31 q59 q975) rfl rfl rfl (by decide +kernel) ⟨(Nat.le_trans (Nat.le_of_ble_eq_true rfl) hRf), (Nat.le_trans (Nat.le_of_ble_eq_true rfl) hRl)⟩) (pre_V (q0 := 0) (ci := 10) (fun _ _ _ _ h => h) (fun _ _ _ => trivial) hC rfl rfl) rfl rfl hl.1 rfl (lv_room (Nat.le_of_ble_eq_true rfl)) dX10_hand_75 ⟨hRc, hRs⟩) hA hC (fun H locs hC => ?_)
            refine lv_aload_n hx hb dX10_hand_78 rfl (lv_at hl 1 rfl) ?_
            refine lv_iload_n hx hb dX10_hand_79 rfl (lv_at hl 0 rfl) ?_
            refine lv_iload_n hx hb dX10_hand_80 rfl (lv_at hl 2 rfl) ?_
            obtain ⟨w_81, hcall, hf⟩ := bnd_some hf
            refine hc_v (va_runV (C := RX10) (As := [.int r_20, .int x1]) (rest := []) ⟨hx, hb, hml, hown, hts⟩ (c_m_remove hcall) (cwV 2 hts (lw_V q984 q986 qs33 q59 q987) rfl rfl rfl (by decide +kernel) ⟨(Nat.le_trans (Nat.le_of_ble_eq_true rfl) hRf), (Nat.le_trans (Nat.le_of_ble_eq_true rfl) hRl)⟩) (pre_V (q0 := 0) (ci := 10) (fun _ _ _ _ h => h) (fun _ _ _ => trivial) hC rfl rfl) rfl rfl hl.1 rfl (lv_room (Nat.le_of_ble_eq_true rfl)) dX10_hand_81 ⟨hRc, hRs⟩) hA hC (fun H locs hC => ?_)
            refine lv_aload_n hx hb dX10_hand_84 rfl (lv_at hl 1 rfl) ?_
            refine lv_iload_n hx hb dX10_hand_85 rfl (lv_at hl 3 rfl) ?_
            refine lv_aload_n hx hb dX10_hand_86 rfl (lv_at hl 1 rfl) ?_
            refine va_get (ci := 10) (v := .ref (ad 1)) (C := RX10) (T := TX10) (N := 28) hx hb hts in_X10 hown hC.1 hC.2.1 0 rfl rfl 0 (by decide) (hts _ q806) (fun _ h9 => h9) rfl dX10_hand_87 ?_
            refine lv_bipush (v := 19) hx hb dX10_hand_90 (by decide) ?_
            refine lv_iload_n hx hb dX10_hand_92 rfl (lv_at hl 3 rfl) ?_
            refine lv_iadd hx hb dX10_hand_93 ?_
            obtain ⟨hi_94, hf⟩ := ck_some hf
            refine va_iald hx hb hC.1 hC.2.1 1 0 rfl rfl hi_94 dX10_hand_94 ?_
            refine lv_iload_n hx hb dX10_hand_95 rfl (lv_at hl 2 rfl) ?_
            obtain ⟨w_96, hcall, hf⟩ := bnd_some hf
            refine hc_v (va_runV (C := RX10) (As := [.int x2, .int (w_81 (19 + x2).toNatClampNeg), .int x1]) (rest := []) ⟨hx, hb, hml, hown, hts⟩ (c_m_insert hcall) (cwV 3 hts (lw_V q968 q970 qs30 q59 q971) rfl rfl rfl (by decide +kernel) ⟨(Nat.le_trans (Nat.le_of_ble_eq_true rfl) hRf), (Nat.le_trans (Nat.le_of_ble_eq_true rfl) hRl)⟩) (pre_V (q0 := 0) (ci := 10) (fun _ _ _ _ h => h) (fun _ _ _ => trivial) hC rfl rfl) rfl rfl hl.1 rfl (lv_room (Nat.le_of_ble_eq_true rfl)) dX10_hand_96 ⟨hRc, hRs⟩) hA hC (fun H locs hC => ?_)
            refine lv_aload_n hx hb dX10_hand_99 rfl (lv_at hl 1 rfl) ?_
            refine va_get (ci := 10) (v := .ref (ad 1)) (C := RX10) (T := TX10) (N := 28) hx hb hts in_X10 hown hC.1 hC.2.1 0 rfl rfl 0 (by decide) (hts _ q806) (fun _ h9 => h9) rfl dX10_hand_100 ?_
            refine lv_bipush (v := 19) hx hb dX10_hand_103 (by decide) ?_
            refine lv_iload_n hx hb dX10_hand_105 rfl (lv_at hl 3 rfl) ?_
            refine lv_iadd hx hb dX10_hand_106 ?_
            obtain ⟨hi_107, hf⟩ := ck_some hf
            refine va_iald hx hb hC.1 hC.2.1 1 0 rfl rfl hi_107 dX10_hand_107 ?_
            obtain ⟨e_1, e_2⟩ := so_2 (Option.some.inj hf)
            subst e_1
            subst e_2
            exact K H locs ls _ rfl hC dX10_hand_108
          · have hf := if_t hf c_59
            refine lv_bipush (v := (-3)) hx hb dX10_hand_62 (by decide) ?_
            obtain ⟨e_1, e_2⟩ := so_2 (Option.some.inj hf)
            subst e_1
            subst e_2
            exact K H locs ls _ rfl hC dX10_hand_64
        · have hf := if_t hf c_38
          refine lv_bipush (v := (-2)) hx hb dX10_hand_41 (by decide) ?_
          obtain ⟨e_1, e_2⟩ := so_2 (Option.some.inj hf)
          subst e_1
          subst e_2
          exact K H locs ls _ rfl hC dX10_hand_43
    · have hf := if_t hf c_13
      refine lv_iconst (v := (-1)) hx hb dX10_hand_16 (by decide) ?_
      obtain ⟨e_1, e_2⟩ := so_2 (Option.some.inj hf)
      subst e_1
      subst e_2
      exact K H locs ls _ rfl hC dX10_hand_17
set_option maxRecDepth 100000 in
theorem c_m_hand {l : Launch} {sz : Nat} {D : va_G} {d : Nat → ClassId} {ad : Nat → Nat} {w : Nat → Int32} {isKept : Nat → Int32} {people : Int32} {room : Nat → Int32} {work : Nat → Int32} {price : Nat → Int32} {askings : Int32} {asked : Nat → Int32} {hangs : Int32} {hung : Nat → Int32} {tenths : Nat → Int32} {sortWorth : Nat → Int32} {sortDays : Nat → Int32} {sorts : Int32} {text : Nat → Int32} {texted : Int32} {trace : Int64} {at_ : Int32} {fault : Int32} {readPeople : Int32} {readPerson : Nat → Int32} {readAskings : Int32} {readAsked : Nat → Int32} {readHangs : Int32} {readHung : Nat → Int32} {rest : Nat → Int32} {brings : Nat → Int64} {later : Nat → Int64} {x1 : Int32} {x2 : Int32} {r : Int32} {w_r : Nat → Int32} (hf : m_hand w people room askings x1 x2 = some (r, w_r)) : MI l yX10_hand (ws_ yX10_hand cX10_hand 4 (some .int)) { frames := 2, cells := 0, slots := 0, locals := 46 } D gcl (gty d) (fun _ => True) (mw d ad w isKept people room work price askings asked hangs hung tenths sortWorth sortDays sorts text texted trace at_ fault readPeople readPerson readAskings readAsked readHangs readHung rest brings later) (mw d ad w_r isKept people room work price askings asked hangs hung tenths sortWorth sortDays sorts text texted trace at_ fault readPeople readPerson readAskings readAsked readHangs readHung rest brings later) sz [.ref (ad 0), .int x1, .int x2] r :=
  MI.of (by decide) [.ref (ad 0), .int x1, .int x2] [(0, .ref (ad 0)), (1, .int x1), (2, .int x2)] (Nat.le_of_ble_eq_true rfl) rfl (fun p e s m below meth c ls Q hx hb hml hown hts hN hA hC hl K => w_m_hand hx hb hml hown hts hA (Nat.le_refl _) (Nat.le_refl _) (Nat.le_refl _) (Nat.le_refl _) hf hC hl K)

def m_undo (w : Nat → Int32) (people : Int32) (asked : Nat → Int32) : Option (Int32 × (Nat → Int32)) :=
  if (w (43 : Int32).toNatClampNeg) = 0 then (some ((-2), w)) else
  ck (44 + (4 * ((upd w (43 : Int32).toNatClampNeg ((w (43 : Int32).toNatClampNeg) - 1)) (43 : Int32).toNatClampNeg))) 300 <| ck ((44 + (4 * ((upd w (43 : Int32).toNatClampNeg ((w (43 : Int32).toNatClampNeg) - 1)) (43 : Int32).toNatClampNeg))) + 1) 300 <| if ((upd w (43 : Int32).toNatClampNeg ((w (43 : Int32).toNatClampNeg) - 1)) (44 + (4 * ((upd w (43 : Int32).toNatClampNeg ((w (43 : Int32).toNatClampNeg) - 1)) (43 : Int32).toNatClampNeg))).toNatClampNeg) = 0 then (ck ((44 + (4 * ((upd w (43 : Int32).toNatClampNeg ((w (43 : Int32).toNatClampNeg) - 1)) (43 : Int32).toNatClampNeg))) + 2) 300 <| bnd (m_remove (upd w (43 : Int32).toNatClampNeg ((w (43 : Int32).toNatClampNeg) - 1)) ((upd w (43 : Int32).toNatClampNeg ((w (43 : Int32).toNatClampNeg) - 1)) ((44 + (4 * ((upd w (43 : Int32).toNatClampNeg ((w (43 : Int32).toNatClampNeg) - 1)) (43 : Int32).toNatClampNeg))) + 2).toNatClampNeg) ((upd w (43 : Int32).toNatClampNeg ((w (43 : Int32).toNatClampNeg) - 1)) ((44 + (4 * ((upd w (43 : Int32).toNatClampNeg ((w (43 : Int32).toNatClampNeg) - 1)) (43 : Int32).toNatClampNeg))) + 1).toNatClampNeg)) fun w_67 =>
  ck (3 + ((upd w (43 : Int32).toNatClampNeg ((w (43 : Int32).toNatClampNeg) - 1)) ((44 + (4 * ((upd w (43 : Int32).toNatClampNeg ((w (43 : Int32).toNatClampNeg) - 1)) (43 : Int32).toNatClampNeg))) + 1).toNatClampNeg)) 300 <| ck (11 + ((upd w (43 : Int32).toNatClampNeg ((w (43 : Int32).toNatClampNeg) - 1)) ((44 + (4 * ((upd w (43 : Int32).toNatClampNeg ((w (43 : Int32).toNatClampNeg) - 1)) (43 : Int32).toNatClampNeg))) + 1).toNatClampNeg)) 300 <| some ((upd (upd w_67 (3 + ((upd w (43 : Int32).toNatClampNeg ((w (43 : Int32).toNatClampNeg) - 1)) ((44 + (4 * ((upd w (43 : Int32).toNatClampNeg ((w (43 : Int32).toNatClampNeg) - 1)) (43 : Int32).toNatClampNeg))) + 1).toNatClampNeg)).toNatClampNeg 0) (11 + ((upd w (43 : Int32).toNatClampNeg ((w (43 : Int32).toNatClampNeg) - 1)) ((44 + (4 * ((upd w (43 : Int32).toNatClampNeg ((w (43 : Int32).toNatClampNeg) - 1)) (43 : Int32).toNatClampNeg))) + 1).toNatClampNeg)).toNatClampNeg 0) (43 : Int32).toNatClampNeg, upd (upd w_67 (3 + ((upd w (43 : Int32).toNatClampNeg ((w (43 : Int32).toNatClampNeg) - 1)) ((44 + (4 * ((upd w (43 : Int32).toNatClampNeg ((w (43 : Int32).toNatClampNeg) - 1)) (43 : Int32).toNatClampNeg))) + 1).toNatClampNeg)).toNatClampNeg 0) (11 + ((upd w (43 : Int32).toNatClampNeg ((w (43 : Int32).toNatClampNeg) - 1)) ((44 + (4 * ((upd w (43 : Int32).toNatClampNeg ((w (43 : Int32).toNatClampNeg) - 1)) (43 : Int32).toNatClampNeg))) + 1).toNatClampNeg)).toNatClampNeg 0)) else
  bnd (if ((upd w (43 : Int32).toNatClampNeg ((w (43 : Int32).toNatClampNeg) - 1)) (44 + (4 * ((upd w (43 : Int32).toNatClampNeg ((w (43 : Int32).toNatClampNeg) - 1)) (43 : Int32).toNatClampNeg))).toNatClampNeg) = 3 then (bnd (m_sleeveOf (upd w (43 : Int32).toNatClampNeg ((w (43 : Int32).toNatClampNeg) - 1)) people ((upd w (43 : Int32).toNatClampNeg ((w (43 : Int32).toNatClampNeg) - 1)) ((44 + (4 * ((upd w (43 : Int32).toNatClampNeg ((w (43 : Int32).toNatClampNeg) - 1)) (43 : Int32).toNatClampNeg))) + 1).toNatClampNeg)) fun r_105 =>
  bnd (m_remove (upd w (43 : Int32).toNatClampNeg ((w (43 : Int32).toNatClampNeg) - 1)) r_105 ((upd w (43 : Int32).toNatClampNeg ((w (43 : Int32).toNatClampNeg) - 1)) ((44 + (4 * ((upd w (43 : Int32).toNatClampNeg ((w (43 : Int32).toNatClampNeg) - 1)) (43 : Int32).toNatClampNeg))) + 1).toNatClampNeg)) fun w_109 =>
  some (w_109)) else
  some (upd w (43 : Int32).toNatClampNeg ((w (43 : Int32).toNatClampNeg) - 1))) (fun (w_112 : Nat → Int32) =>
  ck ((44 + (4 * ((upd w (43 : Int32).toNatClampNeg ((w (43 : Int32).toNatClampNeg) - 1)) (43 : Int32).toNatClampNeg))) + 2) 300 <| ck ((44 + (4 * ((upd w (43 : Int32).toNatClampNeg ((w (43 : Int32).toNatClampNeg) - 1)) (43 : Int32).toNatClampNeg))) + 3) 300 <| bnd (m_insert w_112 (w_112 ((44 + (4 * ((upd w (43 : Int32).toNatClampNeg ((w (43 : Int32).toNatClampNeg) - 1)) (43 : Int32).toNatClampNeg))) + 2).toNatClampNeg) (w_112 ((44 + (4 * ((upd w (43 : Int32).toNatClampNeg ((w (43 : Int32).toNatClampNeg) - 1)) (43 : Int32).toNatClampNeg))) + 3).toNatClampNeg) ((upd w (43 : Int32).toNatClampNeg ((w (43 : Int32).toNatClampNeg) - 1)) ((44 + (4 * ((upd w (43 : Int32).toNatClampNeg ((w (43 : Int32).toNatClampNeg) - 1)) (43 : Int32).toNatClampNeg))) + 1).toNatClampNeg)) fun w_130 =>
  bnd (if ((upd w (43 : Int32).toNatClampNeg ((w (43 : Int32).toNatClampNeg) - 1)) (44 + (4 * ((upd w (43 : Int32).toNatClampNeg ((w (43 : Int32).toNatClampNeg) - 1)) (43 : Int32).toNatClampNeg))).toNatClampNeg) = 2 then (ck ((5 * ((upd w (43 : Int32).toNatClampNeg ((w (43 : Int32).toNatClampNeg) - 1)) ((44 + (4 * ((upd w (43 : Int32).toNatClampNeg ((w (43 : Int32).toNatClampNeg) - 1)) (43 : Int32).toNatClampNeg))) + 1).toNatClampNeg)) + 3) 40 <| some (asked ((5 * ((upd w (43 : Int32).toNatClampNeg ((w (43 : Int32).toNatClampNeg) - 1)) ((44 + (4 * ((upd w (43 : Int32).toNatClampNeg ((w (43 : Int32).toNatClampNeg) - 1)) (43 : Int32).toNatClampNeg))) + 1).toNatClampNeg)) + 3).toNatClampNeg)) else
  some (0)) (fun (t_159 : Int32) =>
  some ((upd w_130 (2 : Int32).toNatClampNeg ((w_130 (2 : Int32).toNatClampNeg) - t_159)) (43 : Int32).toNatClampNeg, upd w_130 (2 : Int32).toNatClampNeg ((w_130 (2 : Int32).toNatClampNeg) - t_159))))
set_option maxHeartbeats 4000000 in
set_option maxRecDepth 100000 in
theorem w_m_undo {p : Program} {l : Launch} {e : Env} {R : Room} {s : State} {m : MethodId} {args : Array Value} {below : List Frame} {meth : Method} {c : Code} {H : Heap} {locs : List Loc} {cells slots : Nat} {Q : State → Prop} {A : Nat → Prop} {ls : Array Slot} {D : va_G} {d : Nat → ClassId} {ad : Nat → Nat} {w : Nat → Int32} {isKept : Nat → Int32} {people : Int32} {room : Nat → Int32} {work : Nat → Int32} {price : Nat → Int32} {askings : Int32} {asked : Nat → Int32} {hangs : Int32} {hung : Nat → Int32} {tenths : Nat → Int32} {sortWorth : Nat → Int32} {sortDays : Nat → Int32} {sorts : Int32} {text : Nat → Int32} {texted : Int32} {trace : Int64} {at_ : Int32} {fault : Int32} {readPeople : Int32} {readPerson : Nat → Int32} {readAskings : Int32} {readAsked : Nat → Int32} {readHangs : Int32} {readHung : Nat → Int32} {rest : Nat → Int32} {brings : Nat → Int64} {later : Nat → Int64} {r : Int32} {w_r : Nat → Int32} (hx : p.tables.exec = Jvm.exec) (hb : c.code = cX10_undo) (hml : c.maxLocals = 4) (hown : s.vm.findClass RX10 = some m.cls) (hts : ∀ w ∈ lw_all, w.before args s = true) (hA : ∀ q, s.heap.size ≤ q → A q) (hRf : 2 ≤ R.frames) (hRl : 46 ≤ R.locals) (hRc : cells ≤ R.cells) (hRs : slots ≤ R.slots) (hf : m_undo w people asked = some (r, w_r)) (hC : HC D gcl (gty d) A (mw d ad w isKept people room work price askings asked hangs hung tenths sortWorth sortDays sorts text texted trace at_ fault readPeople readPerson readAskings readAsked readHangs readHung rest brings later) s H locs) (hl : lv_has ls 4 [(0, .ref (ad 0))]) (K : ∀ (H : Heap) (locs : List Loc) (ls : Array Slot) (pc : Nat), narrow .int (.int r) = .int r → HC D gcl (gty d) A (mw d ad w_r isKept people room work price askings asked hangs hung tenths sortWorth sortDays sorts text texted trace at_ fault readPeople readPerson readAskings readAsked readHangs readHung rest brings later) s H locs → decode cX10_undo pc = .ok (.ireturn, 1) → W p l e R s m args below meth c H locs cells slots Q (F0 m pc ls [.int r])) : W p l e R s m args below meth c H locs cells slots Q (F0 m 0 ls []) := by
  unfold m_undo at hf
  refine lv_aload_n hx hb dX10_undo_0 rfl (lv_at hl 0 rfl) ?_
  refine va_get (ci := 10) (v := .ref (ad 1)) (C := RX10) (T := TX10) (N := 28) hx hb hts in_X10 hown hC.1 hC.2.1 0 rfl rfl 0 (by decide) (hts _ q806) (fun _ h9 => h9) rfl dX10_undo_1 ?_
  refine lv_bipush (v := 43) hx hb dX10_undo_4 (by decide) ?_
  refine va_iald hx hb hC.1 hC.2.1 1 0 rfl rfl (vp_in_iff.mpr (by decide)) dX10_undo_6 ?_
  refine lv_if_ne (tgt := 13) hx hb dX10_undo_7 (by decide) (fun c_7 => ?_) (fun c_7 => ?_)
  · have hf := if_f hf c_7
    refine lv_aload_n hx hb dX10_undo_13 rfl (lv_at hl 0 rfl) ?_
    refine va_get (ci := 10) (v := .ref (ad 1)) (C := RX10) (T := TX10) (N := 28) hx hb hts in_X10 hown hC.1 hC.2.1 0 rfl rfl 0 (by decide) (hts _ q806) (fun _ h9 => h9) rfl dX10_undo_14 ?_
    refine lv_bipush (v := 43) hx hb dX10_undo_17 (by decide) ?_
    refine lv_dup2_11 hx hb dX10_undo_19 rfl rfl ?_
    refine va_iald hx hb hC.1 hC.2.1 1 0 rfl rfl (vp_in_iff.mpr (by decide)) dX10_undo_20 ?_
    refine lv_iconst (v := 1) hx hb dX10_undo_21 (by decide) ?_
    refine lv_isub hx hb dX10_undo_22 ?_
    refine va_iast hx hb hC.1 hC.2.1 hC.2.2.1 hC.2.2.2 1 0 rfl rfl (vp_in_iff.mpr (by decide)) dX10_undo_23 (fun H locs hP hD hS => ?_)
    have hC : HC D gcl (gty d) A (mw d ad (upd w (43 : Int32).toNatClampNeg ((w (43 : Int32).toNatClampNeg) - 1)) isKept people room work price askings asked hangs hung tenths sortWorth sortDays sorts text texted trace at_ fault readPeople readPerson readAskings readAsked readHangs readHung rest brings later) s H locs := ⟨hC.1, hP, hD, hS⟩
    refine lv_bipush (v := 44) hx hb dX10_undo_24 (by decide) ?_
    refine lv_iconst (v := 4) hx hb dX10_undo_26 (by decide) ?_
    refine lv_aload_n hx hb dX10_undo_27 rfl (lv_at hl 0 rfl) ?_
    refine va_get (ci := 10) (v := .ref (ad 1)) (C := RX10) (T := TX10) (N := 28) hx hb hts in_X10 hown hC.1 hC.2.1 0 rfl rfl 0 (by decide) (hts _ q806) (fun _ h9 => h9) rfl dX10_undo_28 ?_
    refine lv_bipush (v := 43) hx hb dX10_undo_31 (by decide) ?_
    refine va_iald hx hb hC.1 hC.2.1 1 0 rfl rfl (vp_in_iff.mpr (by decide)) dX10_undo_33 ?_
    refine lv_imul hx hb dX10_undo_34 ?_
    refine lv_iadd hx hb dX10_undo_35 ?_
    refine lv_istore_n (lv' := [(1, .int (44 + (4 * ((upd w (43 : Int32).toNatClampNeg ((w (43 : Int32).toNatClampNeg) - 1)) (43 : Int32).toNatClampNeg)))), (0, .ref (ad 0))]) hx hb dX10_undo_36 rfl hl (by decide) rfl (fun ls hl => ?_)
    refine lv_aload_n hx hb dX10_undo_37 rfl (lv_at hl 1 rfl) ?_
    refine va_get (ci := 10) (v := .ref (ad 1)) (C := RX10) (T := TX10) (N := 28) hx hb hts in_X10 hown hC.1 hC.2.1 0 rfl rfl 0 (by decide) (hts _ q806) (fun _ h9 => h9) rfl dX10_undo_38 ?_
    refine lv_iload_n hx hb dX10_undo_41 rfl (lv_at hl 0 rfl) ?_
    obtain ⟨hi_42, hf⟩ := ck_some hf
    refine va_iald hx hb hC.1 hC.2.1 1 0 rfl rfl hi_42 dX10_undo_42 ?_
    refine lv_istore_n (lv' := [(2, .int ((upd w (43 : Int32).toNatClampNeg ((w (43 : Int32).toNatClampNeg) - 1)) (44 + (4 * ((upd w (43 : Int32).toNatClampNeg ((w (43 : Int32).toNatClampNeg) - 1)) (43 : Int32).toNatClampNeg))).toNatClampNeg)), (1, .int (44 + (4 * ((upd w (43 : Int32).toNatClampNeg ((w (43 : Int32).toNatClampNeg) - 1)) (43 : Int32).toNatClampNeg)))), (0, .ref (ad 0))]) hx hb dX10_undo_43 rfl hl (by decide) rfl (fun ls hl => ?_)
    refine lv_aload_n hx hb dX10_undo_44 rfl (lv_at hl 2 rfl) ?_
    refine va_get (ci := 10) (v := .ref (ad 1)) (C := RX10) (T := TX10) (N := 28) hx hb hts in_X10 hown hC.1 hC.2.1 0 rfl rfl 0 (by decide) (hts _ q806) (fun _ h9 => h9) rfl dX10_undo_45 ?_
    refine lv_iload_n hx hb dX10_undo_48 rfl (lv_at hl 1 rfl) ?_
    refine lv_iconst (v := 1) hx hb dX10_undo_49 (by decide) ?_
    refine lv_iadd hx hb dX10_undo_50 ?_
    obtain ⟨hi_51, hf⟩ := ck_some hf
    refine va_iald hx hb hC.1 hC.2.1 1 0 rfl rfl hi_51 dX10_undo_51 ?_
    refine lv_istore_n (lv' := [(3, .int ((upd w (43 : Int32).toNatClampNeg ((w (43 : Int32).toNatClampNeg) - 1)) ((44 + (4 * ((upd w (43 : Int32).toNatClampNeg ((w (43 : Int32).toNatClampNeg) - 1)) (43 : Int32).toNatClampNeg))) + 1).toNatClampNeg)), (2, .int ((upd w (43 : Int32).toNatClampNeg ((w (43 : Int32).toNatClampNeg) - 1)) (44 + (4 * ((upd w (43 : Int32).toNatClampNeg ((w (43 : Int32).toNatClampNeg) - 1)) (43 : Int32).toNatClampNeg))).toNatClampNeg)), (1, .int (44 + (4 * ((upd w (43 : Int32).toNatClampNeg ((w (43 : Int32).toNatClampNeg) - 1)) (43 : Int32).toNatClampNeg)))), (0, .ref (ad 0))]) hx hb dX10_undo_52 rfl hl (by decide) rfl (fun ls hl => ?_)
    refine lv_iload_n hx hb dX10_undo_53 rfl (lv_at hl 1 rfl) ?_
    refine lv_if_ne (tgt := 97) hx hb dX10_undo_54 (by decide) (fun c_54 => ?_) (fun c_54 => ?_)
    · have hf := if_f hf c_54
      refine lv_iload_n hx hb dX10_undo_97 rfl (lv_at hl 1 rfl) ?_
      refine lv_iconst (v := 3) hx hb dX10_undo_98 (by decide) ?_
      obtain ⟨w_112, hj, hf⟩ := bnd_some hf
      have J_112 : ∀ (H : Heap) (locs : List Loc) (ls : Array Slot), HC D gcl (gty d) A (mw d ad w_112 isKept people room work price askings asked hangs hung tenths sortWorth sortDays sorts text texted trace at_ fault readPeople readPerson readAskings readAsked readHangs readHung rest brings later) s H locs → lv_has ls 4 [(0, .ref (ad 0)), (1, .int (44 + (4 * ((upd w (43 : Int32).toNatClampNeg ((w (43 : Int32).toNatClampNeg) - 1)) (43 : Int32).toNatClampNeg)))), (2, .int ((upd w (43 : Int32).toNatClampNeg ((w (43 : Int32).toNatClampNeg) - 1)) (44 + (4 * ((upd w (43 : Int32).toNatClampNeg ((w (43 : Int32).toNatClampNeg) - 1)) (43 : Int32).toNatClampNeg))).toNatClampNeg)), (3, .int ((upd w (43 : Int32).toNatClampNeg ((w (43 : Int32).toNatClampNeg) - 1)) ((44 + (4 * ((upd w (43 : Int32).toNatClampNeg ((w (43 : Int32).toNatClampNeg) - 1)) (43 : Int32).toNatClampNeg))) + 1).toNatClampNeg))] → W p l e R s m args below meth c H locs cells slots Q (F0 m 112 ls []) := by
        intro H locs ls hC hl
        refine lv_aload_n hx hb dX10_undo_112 rfl (lv_at hl 0 rfl) ?_
        refine lv_aload_n hx hb dX10_undo_113 rfl (lv_at hl 0 rfl) ?_
        refine va_get (ci := 10) (v := .ref (ad 1)) (C := RX10) (T := TX10) (N := 28) hx hb hts in_X10 hown hC.1 hC.2.1 0 rfl rfl 0 (by decide) (hts _ q806) (fun _ h9 => h9) rfl dX10_undo_114 ?_
        refine lv_iload_n hx hb dX10_undo_117 rfl (lv_at hl 1 rfl) ?_
        refine lv_iconst (v := 2) hx hb dX10_undo_118 (by decide) ?_
        refine lv_iadd hx hb dX10_undo_119 ?_
        obtain ⟨hi_120, hf⟩ := ck_some hf
        refine va_iald hx hb hC.1 hC.2.1 1 0 rfl rfl hi_120 dX10_undo_120 ?_
        refine lv_aload_n hx hb dX10_undo_121 rfl (lv_at hl 0 rfl) ?_
        refine va_get (ci := 10) (v := .ref (ad 1)) (C := RX10) (T := TX10) (N := 28) hx hb hts in_X10 hown hC.1 hC.2.1 0 rfl rfl 0 (by decide) (hts _ q806) (fun _ h9 => h9) rfl dX10_undo_122 ?_
        refine lv_iload_n hx hb dX10_undo_125 rfl (lv_at hl 1 rfl) ?_
        refine lv_iconst (v := 3) hx hb dX10_undo_126 (by decide) ?_
        refine lv_iadd hx hb dX10_undo_127 ?_
        obtain ⟨hi_128, hf⟩ := ck_some hf
        refine va_iald hx hb hC.1 hC.2.1 1 0 rfl rfl hi_128 dX10_undo_128 ?_
        refine lv_iload_n hx hb dX10_undo_129 rfl (lv_at hl 3 rfl) ?_
        obtain ⟨w_130, hcall, hf⟩ := bnd_some hf
        refine hc_v (va_runV (C := RX10) (As := [.int (w_112 ((44 + (4 * ((upd w (43 : Int32).toNatClampNeg ((w (43 : Int32).toNatClampNeg) - 1)) (43 : Int32).toNatClampNeg))) + 2).toNatClampNeg), .int (w_112 ((44 + (4 * ((upd w (43 : Int32).toNatClampNeg ((w (43 : Int32).toNatClampNeg) - 1)) (43 : Int32).toNatClampNeg))) + 3).toNatClampNeg), .int ((upd w (43 : Int32).toNatClampNeg ((w (43 : Int32).toNatClampNeg) - 1)) ((44 + (4 * ((upd w (43 : Int32).toNatClampNeg ((w (43 : Int32).toNatClampNeg) - 1)) (43 : Int32).toNatClampNeg))) + 1).toNatClampNeg)]) (rest := []) ⟨hx, hb, hml, hown, hts⟩ (c_m_insert hcall) (cwV 3 hts (lw_V q968 q970 qs30 q59 q971) rfl rfl rfl (by decide +kernel) ⟨(Nat.le_trans (Nat.le_of_ble_eq_true rfl) hRf), (Nat.le_trans (Nat.le_of_ble_eq_true rfl) hRl)⟩) (pre_V (q0 := 0) (ci := 10) (fun _ _ _ _ h => h) (fun _ _ _ => trivial) hC rfl rfl) rfl rfl hl.1 rfl (lv_room (Nat.le_of_ble_eq_true rfl)) dX10_undo_130 ⟨hRc, hRs⟩) hA hC (fun H locs hC => ?_)
        refine lv_aload_n hx hb dX10_undo_133 rfl (lv_at hl 0 rfl) ?_
        refine va_get (ci := 10) (v := .ref (ad 1)) (C := RX10) (T := TX10) (N := 28) hx hb hts in_X10 hown hC.1 hC.2.1 0 rfl rfl 0 (by decide) (hts _ q806) (fun _ h9 => h9) rfl dX10_undo_134 ?_
        refine lv_iconst (v := 2) hx hb dX10_undo_137 (by decide) ?_
        refine lv_dup2_11 hx hb dX10_undo_138 rfl rfl ?_
        refine va_iald hx hb hC.1 hC.2.1 1 0 rfl rfl (vp_in_iff.mpr (by decide)) dX10_undo_139 ?_
        refine lv_iload_n hx hb dX10_undo_140 rfl (lv_at hl 2 rfl) ?_
        refine lv_iconst (v := 2) hx hb dX10_undo_141 (by decide) ?_
        obtain ⟨t_159, hj, hf⟩ := bnd_some hf
        refine wj (g1 := F0 m 159 ls [.int t_159, .int (w_130 (2 : Int32).toNatClampNeg), .int 2, .ref (ad 1)]) ?_ (fun J_159 => ?_)
        · refine lv_isub hx hb dX10_undo_159 ?_
          refine va_iast hx hb hC.1 hC.2.1 hC.2.2.1 hC.2.2.2 1 0 rfl rfl (vp_in_iff.mpr (by decide)) dX10_undo_160 (fun H locs hP hD hS => ?_)
          have hC : HC D gcl (gty d) A (mw d ad (upd w_130 (2 : Int32).toNatClampNeg ((w_130 (2 : Int32).toNatClampNeg) - t_159)) isKept people room work price askings asked hangs hung tenths sortWorth sortDays sorts text texted trace at_ fault readPeople readPerson readAskings readAsked readHangs readHung rest brings later) s H locs := ⟨hC.1, hP, hD, hS⟩
          refine lv_aload_n hx hb dX10_undo_161 rfl (lv_at hl 0 rfl) ?_
          refine va_get (ci := 10) (v := .ref (ad 1)) (C := RX10) (T := TX10) (N := 28) hx hb hts in_X10 hown hC.1 hC.2.1 0 rfl rfl 0 (by decide) (hts _ q806) (fun _ h9 => h9) rfl dX10_undo_162 ?_
          refine lv_bipush (v := 43) hx hb dX10_undo_165 (by decide) ?_
          refine va_iald hx hb hC.1 hC.2.1 1 0 rfl rfl (vp_in_iff.mpr (by decide)) dX10_undo_167 ?_
          obtain ⟨e_1, e_2⟩ := so_2 (Option.some.inj hf)
          subst e_1
          subst e_2
          exact K H locs ls _ rfl hC dX10_undo_168
        · have hf := hj
          refine lv_icmp_ne (tgt := 158) hx hb dX10_undo_142 (by decide) (fun c_142 => ?_) (fun c_142 => ?_)
          · have hf := if_f hf c_142
            refine lv_iconst (v := 0) hx hb dX10_undo_158 (by decide) ?_
            have e_1 := (Option.some.inj hf)
            subst e_1
            exact J_159
          · have hf := if_t hf c_142
            refine lv_aload_n hx hb dX10_undo_145 rfl (lv_at hl 0 rfl) ?_
            refine va_get (ci := 10) (v := .ref (ad 6)) (C := RX10) (T := TX10) (N := 28) hx hb hts in_X10 hown hC.1 hC.2.1 0 rfl rfl 7 (by decide) (hts _ q813) (fun _ h9 => h9) rfl dX10_undo_146 ?_
            refine lv_iconst (v := 5) hx hb dX10_undo_149 (by decide) ?_
            refine lv_iload_n hx hb dX10_undo_150 rfl (lv_at hl 3 rfl) ?_
            refine lv_imul hx hb dX10_undo_151 ?_
            refine lv_iconst (v := 3) hx hb dX10_undo_152 (by decide) ?_
            refine lv_iadd hx hb dX10_undo_153 ?_
            obtain ⟨hi_154, hf⟩ := ck_some hf
            refine va_iald hx hb hC.1 hC.2.1 6 0 rfl rfl hi_154 dX10_undo_154 ?_
            refine lv_goto (tgt := 159) hx hb dX10_undo_155 (by decide) ?_
            have e_1 := (Option.some.inj hf)
            subst e_1
            exact J_159
      have hf := hj
      refine lv_icmp_ne (tgt := 112) hx hb dX10_undo_99 (by decide) (fun c_99 => ?_) (fun c_99 => ?_)
      · have hf := if_f hf c_99
        have e_1 := (Option.some.inj hf)
        subst e_1
        exact J_112 H locs ls hC (lv_sub hl [3, 2, 1, 0] rfl)
      · have hf := if_t hf c_99
        refine lv_aload_n hx hb dX10_undo_102 rfl (lv_at hl 3 rfl) ?_
        refine lv_aload_n hx hb dX10_undo_103 rfl (lv_at hl 3 rfl) ?_
        refine lv_iload_n hx hb dX10_undo_104 rfl (lv_at hl 0 rfl) ?_
        obtain ⟨r_105, hcall, hf⟩ := bnd_some hf
        refine hc_i (va_runV (C := RX10) (As := [.int ((upd w (43 : Int32).toNatClampNeg ((w (43 : Int32).toNatClampNeg) - 1)) ((44 + (4 * ((upd w (43 : Int32).toNatClampNeg ((w (43 : Int32).toNatClampNeg) - 1)) (43 : Int32).toNatClampNeg))) + 1).toNatClampNeg)]) (rest := [.ref (ad 0)]) ⟨hx, hb, hml, hown, hts⟩ (c_m_sleeveOf hcall) (cwV 1 hts (lw_V q956 q958 qs29 q59 q959) rfl rfl rfl (by decide +kernel) ⟨(Nat.le_trans (Nat.le_of_ble_eq_true rfl) hRf), (Nat.le_trans (Nat.le_of_ble_eq_true rfl) hRl)⟩) (pre_V (q0 := 0) (ci := 10) (fun _ _ _ _ h => h) (fun _ _ _ => trivial) hC rfl rfl) rfl rfl hl.1 rfl (lv_room (Nat.le_of_ble_eq_true rfl)) dX10_undo_105 ⟨hRc, hRs⟩) hA hC (fun H locs hC => ?_)
        refine lv_iload_n hx hb dX10_undo_108 rfl (lv_at hl 0 rfl) ?_
        obtain ⟨w_109, hcall, hf⟩ := bnd_some hf
        refine hc_v (va_runV (C := RX10) (As := [.int r_105, .int ((upd w (43 : Int32).toNatClampNeg ((w (43 : Int32).toNatClampNeg) - 1)) ((44 + (4 * ((upd w (43 : Int32).toNatClampNeg ((w (43 : Int32).toNatClampNeg) - 1)) (43 : Int32).toNatClampNeg))) + 1).toNatClampNeg)]) (rest := []) ⟨hx, hb, hml, hown, hts⟩ (c_m_remove hcall) (cwV 2 hts (lw_V q984 q986 qs33 q59 q987) rfl rfl rfl (by decide +kernel) ⟨(Nat.le_trans (Nat.le_of_ble_eq_true rfl) hRf), (Nat.le_trans (Nat.le_of_ble_eq_true rfl) hRl)⟩) (pre_V (q0 := 0) (ci := 10) (fun _ _ _ _ h => h) (fun _ _ _ => trivial) hC rfl rfl) rfl rfl hl.1 rfl (lv_room (Nat.le_of_ble_eq_true rfl)) dX10_undo_109 ⟨hRc, hRs⟩) hA hC (fun H locs hC => ?_)
        have e_1 := (Option.some.inj hf)
        subst e_1
        exact J_112 H locs ls hC (lv_sub hl [3, 2, 1, 0] rfl)
    · have hf := if_t hf c_54
      refine lv_aload_n hx hb dX10_undo_57 rfl (lv_at hl 3 rfl) ?_
      refine lv_aload_n hx hb dX10_undo_58 rfl (lv_at hl 3 rfl) ?_
      refine va_get (ci := 10) (v := .ref (ad 1)) (C := RX10) (T := TX10) (N := 28) hx hb hts in_X10 hown hC.1 hC.2.1 0 rfl rfl 0 (by decide) (hts _ q806) (fun _ h9 => h9) rfl dX10_undo_59 ?_
      refine lv_iload_n hx hb dX10_undo_62 rfl (lv_at hl 2 rfl) ?_
      refine lv_iconst (v := 2) hx hb dX10_undo_63 (by decide) ?_
      refine lv_iadd hx hb dX10_undo_64 ?_
      obtain ⟨hi_65, hf⟩ := ck_some hf
      refine va_iald hx hb hC.1 hC.2.1 1 0 rfl rfl hi_65 dX10_undo_65 ?_
      refine lv_iload_n hx hb dX10_undo_66 rfl (lv_at hl 0 rfl) ?_
      obtain ⟨w_67, hcall, hf⟩ := bnd_some hf
      refine hc_v (va_runV (C := RX10) (As := [.int ((upd w (43 : Int32).toNatClampNeg ((w (43 : Int32).toNatClampNeg) - 1)) ((44 + (4 * ((upd w (43 : Int32).toNatClampNeg ((w (43 : Int32).toNatClampNeg) - 1)) (43 : Int32).toNatClampNeg))) + 2).toNatClampNeg), .int ((upd w (43 : Int32).toNatClampNeg ((w (43 : Int32).toNatClampNeg) - 1)) ((44 + (4 * ((upd w (43 : Int32).toNatClampNeg ((w (43 : Int32).toNatClampNeg) - 1)) (43 : Int32).toNatClampNeg))) + 1).toNatClampNeg)]) (rest := []) ⟨hx, hb, hml, hown, hts⟩ (c_m_remove hcall) (cwV 2 hts (lw_V q984 q986 qs33 q59 q987) rfl rfl rfl (by decide +kernel) ⟨(Nat.le_trans (Nat.le_of_ble_eq_true rfl) hRf), (Nat.le_trans (Nat.le_of_ble_eq_true rfl) hRl)⟩) (pre_V (q0 := 0) (ci := 10) (fun _ _ _ _ h => h) (fun _ _ _ => trivial) hC rfl rfl) rfl rfl hl.1 rfl (lv_room (Nat.le_of_ble_eq_true rfl)) dX10_undo_67 ⟨hRc, hRs⟩) hA hC (fun H locs hC => ?_)
      refine lv_aload_n hx hb dX10_undo_70 rfl (lv_at hl 3 rfl) ?_
      refine va_get (ci := 10) (v := .ref (ad 1)) (C := RX10) (T := TX10) (N := 28) hx hb hts in_X10 hown hC.1 hC.2.1 0 rfl rfl 0 (by decide) (hts _ q806) (fun _ h9 => h9) rfl dX10_undo_71 ?_
      refine lv_iconst (v := 3) hx hb dX10_undo_74 (by decide) ?_
      refine lv_iload_n hx hb dX10_undo_75 rfl (lv_at hl 0 rfl) ?_
      refine lv_iadd hx hb dX10_undo_76 ?_
      refine lv_iconst (v := 0) hx hb dX10_undo_77 (by decide) ?_
      obtain ⟨hi_78, hf⟩ := ck_some hf
      refine va_iast hx hb hC.1 hC.2.1 hC.2.2.1 hC.2.2.2 1 0 rfl rfl hi_78 dX10_undo_78 (fun H locs hP hD hS => ?_)
      have hC : HC D gcl (gty d) A (mw d ad (upd w_67 (3 + ((upd w (43 : Int32).toNatClampNeg ((w (43 : Int32).toNatClampNeg) - 1)) ((44 + (4 * ((upd w (43 : Int32).toNatClampNeg ((w (43 : Int32).toNatClampNeg) - 1)) (43 : Int32).toNatClampNeg))) + 1).toNatClampNeg)).toNatClampNeg 0) isKept people room work price askings asked hangs hung tenths sortWorth sortDays sorts text texted trace at_ fault readPeople readPerson readAskings readAsked readHangs readHung rest brings later) s H locs := ⟨hC.1, hP, hD, hS⟩
      refine lv_aload_n hx hb dX10_undo_79 rfl (lv_at hl 3 rfl) ?_
      refine va_get (ci := 10) (v := .ref (ad 1)) (C := RX10) (T := TX10) (N := 28) hx hb hts in_X10 hown hC.1 hC.2.1 0 rfl rfl 0 (by decide) (hts _ q806) (fun _ h9 => h9) rfl dX10_undo_80 ?_
      refine lv_bipush (v := 11) hx hb dX10_undo_83 (by decide) ?_
      refine lv_iload_n hx hb dX10_undo_85 rfl (lv_at hl 0 rfl) ?_
      refine lv_iadd hx hb dX10_undo_86 ?_
      refine lv_iconst (v := 0) hx hb dX10_undo_87 (by decide) ?_
      obtain ⟨hi_88, hf⟩ := ck_some hf
      refine va_iast hx hb hC.1 hC.2.1 hC.2.2.1 hC.2.2.2 1 0 rfl rfl hi_88 dX10_undo_88 (fun H locs hP hD hS => ?_)
      have hC : HC D gcl (gty d) A (mw d ad (upd (upd w_67 (3 + ((upd w (43 : Int32).toNatClampNeg ((w (43 : Int32).toNatClampNeg) - 1)) ((44 + (4 * ((upd w (43 : Int32).toNatClampNeg ((w (43 : Int32).toNatClampNeg) - 1)) (43 : Int32).toNatClampNeg))) + 1).toNatClampNeg)).toNatClampNeg 0) (11 + ((upd w (43 : Int32).toNatClampNeg ((w (43 : Int32).toNatClampNeg) - 1)) ((44 + (4 * ((upd w (43 : Int32).toNatClampNeg ((w (43 : Int32).toNatClampNeg) - 1)) (43 : Int32).toNatClampNeg))) + 1).toNatClampNeg)).toNatClampNeg 0) isKept people room work price askings asked hangs hung tenths sortWorth sortDays sorts text texted trace at_ fault readPeople readPerson readAskings readAsked readHangs readHung rest brings later) s H locs := ⟨hC.1, hP, hD, hS⟩
      refine lv_aload_n hx hb dX10_undo_89 rfl (lv_at hl 3 rfl) ?_
      refine va_get (ci := 10) (v := .ref (ad 1)) (C := RX10) (T := TX10) (N := 28) hx hb hts in_X10 hown hC.1 hC.2.1 0 rfl rfl 0 (by decide) (hts _ q806) (fun _ h9 => h9) rfl dX10_undo_90 ?_
      refine lv_bipush (v := 43) hx hb dX10_undo_93 (by decide) ?_
      refine va_iald hx hb hC.1 hC.2.1 1 0 rfl rfl (vp_in_iff.mpr (by decide)) dX10_undo_95 ?_
      obtain ⟨e_1, e_2⟩ := so_2 (Option.some.inj hf)
      subst e_1
      subst e_2
      exact K H locs ls _ rfl hC dX10_undo_96
  · have hf := if_t hf c_7
    refine lv_bipush (v := (-2)) hx hb dX10_undo_10 (by decide) ?_
    obtain ⟨e_1, e_2⟩ := so_2 (Option.some.inj hf)
    subst e_1
    subst e_2
    exact K H locs ls _ rfl hC dX10_undo_12
set_option maxRecDepth 100000 in
theorem c_m_undo {l : Launch} {sz : Nat} {D : va_G} {d : Nat → ClassId} {ad : Nat → Nat} {w : Nat → Int32} {isKept : Nat → Int32} {people : Int32} {room : Nat → Int32} {work : Nat → Int32} {price : Nat → Int32} {askings : Int32} {asked : Nat → Int32} {hangs : Int32} {hung : Nat → Int32} {tenths : Nat → Int32} {sortWorth : Nat → Int32} {sortDays : Nat → Int32} {sorts : Int32} {text : Nat → Int32} {texted : Int32} {trace : Int64} {at_ : Int32} {fault : Int32} {readPeople : Int32} {readPerson : Nat → Int32} {readAskings : Int32} {readAsked : Nat → Int32} {readHangs : Int32} {readHung : Nat → Int32} {rest : Nat → Int32} {brings : Nat → Int64} {later : Nat → Int64} {r : Int32} {w_r : Nat → Int32} (hf : m_undo w people asked = some (r, w_r)) : MI l yX10_undo (ws_ yX10_undo cX10_undo 4 (some .int)) { frames := 2, cells := 0, slots := 0, locals := 46 } D gcl (gty d) (fun _ => True) (mw d ad w isKept people room work price askings asked hangs hung tenths sortWorth sortDays sorts text texted trace at_ fault readPeople readPerson readAskings readAsked readHangs readHung rest brings later) (mw d ad w_r isKept people room work price askings asked hangs hung tenths sortWorth sortDays sorts text texted trace at_ fault readPeople readPerson readAskings readAsked readHangs readHung rest brings later) sz [.ref (ad 0)] r :=
  MI.of (by decide) [.ref (ad 0)] [(0, .ref (ad 0))] (Nat.le_of_ble_eq_true rfl) rfl (fun p e s m below meth c ls Q hx hb hml hown hts hN hA hC hl K => w_m_undo hx hb hml hown hts hA (Nat.le_refl _) (Nat.le_refl _) (Nat.le_refl _) (Nat.le_refl _) hf hC hl K)

def m_isFree_L4 (x1 : Int32) (w : Nat → Int32) (hangs : Int32) (hung : Nat → Int32) : Nat → Int32 → Int32 → Option (Int32)
  | 0, _, _ => none
  | n_4 + 1, x2_4, x3_4 =>
  if hangs ≤ x3_4 then (some x2_4) else
  if x2_4 = 0 then (m_isFree_L4 x1 w hangs hung n_4 0 (x3_4 + 1) ) else
  ck (2 * x3_4) 16 <| if (hung (2 * x3_4).toNatClampNeg) = x1 then (ck ((2 * x3_4) + 1) 16 <| ck (3 + (hung ((2 * x3_4) + 1).toNatClampNeg)) 300 <| if (w (3 + (hung ((2 * x3_4) + 1).toNatClampNeg)).toNatClampNeg) = 2 then (m_isFree_L4 x1 w hangs hung n_4 1 (x3_4 + 1) ) else
  m_isFree_L4 x1 w hangs hung n_4 0 (x3_4 + 1) ) else
  m_isFree_L4 x1 w hangs hung n_4 1 (x3_4 + 1) 
theorem m_isFree_L4_s (x1 : Int32) (w : Nat → Int32) (hangs : Int32) (hung : Nat → Int32) (n_4 : Nat) (x2_4 : Int32) (x3_4 : Int32) : m_isFree_L4 x1 w hangs hung (n_4 + 1) x2_4 x3_4 = (
  if hangs ≤ x3_4 then (some x2_4) else
  if x2_4 = 0 then (m_isFree_L4 x1 w hangs hung n_4 0 (x3_4 + 1) ) else
  ck (2 * x3_4) 16 <| if (hung (2 * x3_4).toNatClampNeg) = x1 then (ck ((2 * x3_4) + 1) 16 <| ck (3 + (hung ((2 * x3_4) + 1).toNatClampNeg)) 300 <| if (w (3 + (hung ((2 * x3_4) + 1).toNatClampNeg)).toNatClampNeg) = 2 then (m_isFree_L4 x1 w hangs hung n_4 1 (x3_4 + 1) ) else
  m_isFree_L4 x1 w hangs hung n_4 0 (x3_4 + 1) ) else
  m_isFree_L4 x1 w hangs hung n_4 1 (x3_4 + 1) ) := rfl
def m_isFree (w : Nat → Int32) (hangs : Int32) (hung : Nat → Int32) (x1 : Int32) : Option (Int32) :=
  bnd (m_isFree_L4 x1 w hangs hung g_fuel 1 0 ) (fun x2_61 =>
  ckz x2_61 <| some x2_61)
set_option maxHeartbeats 4000000 in
set_option maxRecDepth 100000 in
theorem w_m_isFree {p : Program} {l : Launch} {e : Env} {R : Room} {s : State} {m : MethodId} {args : Array Value} {below : List Frame} {meth : Method} {c : Code} {H : Heap} {locs : List Loc} {cells slots : Nat} {Q : State → Prop} {A : Nat → Prop} {ls : Array Slot} {D : va_G} {d : Nat → ClassId} {ad : Nat → Nat} {w : Nat → Int32} {isKept : Nat → Int32} {people : Int32} {room : Nat → Int32} {work : Nat → Int32} {price : Nat → Int32} {askings : Int32} {asked : Nat → Int32} {hangs : Int32} {hung : Nat → Int32} {tenths : Nat → Int32} {sortWorth : Nat → Int32} {sortDays : Nat → Int32} {sorts : Int32} {text : Nat → Int32} {texted : Int32} {trace : Int64} {at_ : Int32} {fault : Int32} {readPeople : Int32} {readPerson : Nat → Int32} {readAskings : Int32} {readAsked : Nat → Int32} {readHangs : Int32} {readHung : Nat → Int32} {rest : Nat → Int32} {brings : Nat → Int64} {later : Nat → Int64} {x1 : Int32} {r : Int32} (hx : p.tables.exec = Jvm.exec) (hb : c.code = cX10_isFree) (hml : c.maxLocals = 4) (hown : s.vm.findClass RX10 = some m.cls) (hts : ∀ w ∈ lw_all, w.before args s = true) (hA : ∀ q, s.heap.size ≤ q → A q) (hRf : 0 ≤ R.frames) (hRl : 0 ≤ R.locals) (hRc : cells ≤ R.cells) (hRs : slots ≤ R.slots) (hf : m_isFree w hangs hung x1 = some r) (hC : HC D gcl (gty d) A (mw d ad w isKept people room work price askings asked hangs hung tenths sortWorth sortDays sorts text texted trace at_ fault readPeople readPerson readAskings readAsked readHangs readHung rest brings later) s H locs) (hl : lv_has ls 4 [(0, .ref (ad 0)), (1, .int x1)]) (K : ∀ (H : Heap) (locs : List Loc) (ls : Array Slot) (pc : Nat), narrow .boolean (.int r) = .int r → HC D gcl (gty d) A (mw d ad w isKept people room work price askings asked hangs hung tenths sortWorth sortDays sorts text texted trace at_ fault readPeople readPerson readAskings readAsked readHangs readHung rest brings later) s H locs → decode cX10_isFree pc = .ok (.ireturn, 1) → W p l e R s m args below meth c H locs cells slots Q (F0 m pc ls [.int r])) : W p l e R s m args below meth c H locs cells slots Q (F0 m 0 ls []) := by
  unfold m_isFree at hf
  refine lv_iconst (v := 1) hx hb dX10_isFree_0 (by decide) ?_
  refine lv_istore_n (lv' := [(2, .int 1), (0, .ref (ad 0)), (1, .int x1)]) hx hb dX10_isFree_1 rfl hl (by decide) rfl (fun ls hl => ?_)
  refine lv_iconst (v := 0) hx hb dX10_isFree_2 (by decide) ?_
  refine lv_istore_n (lv' := [(3, .int 0), (2, .int 1), (0, .ref (ad 0)), (1, .int x1)]) hx hb dX10_isFree_3 rfl hl (by decide) rfl (fun ls hl => ?_)
  obtain ⟨x2_61, hL, hf⟩ := bnd_some hf
  have X_4 : ∀ (H : Heap) (locs : List Loc) (ls : Array Slot), HC D gcl (gty d) A (mw d ad w isKept people room work price askings asked hangs hung tenths sortWorth sortDays sorts text texted trace at_ fault readPeople readPerson readAskings readAsked readHangs readHung rest brings later) s H locs → lv_has ls 4 [(2, .int x2_61)] → W p l e R s m args below meth c H locs cells slots Q (F0 m 61 ls []) := by
    intro H locs ls hC hl
    refine lv_iload_n hx hb dX10_isFree_61 rfl (lv_at hl 0 rfl) ?_
    obtain ⟨hz_62, hf⟩ := ckz_some hf
    have e_1 := (Option.some.inj hf)
    subst e_1
    exact K H locs ls _ (nz_01 hz_62) hC dX10_isFree_62
  have L_4 : ∀ (n_4 : Nat) (x2_4 : Int32) (x3_4 : Int32), m_isFree_L4 x1 w hangs hung n_4 x2_4 x3_4 = some x2_61 → ∀ (H : Heap) (locs : List Loc) (ls : Array Slot), HC D gcl (gty d) A (mw d ad w isKept people room work price askings asked hangs hung tenths sortWorth sortDays sorts text texted trace at_ fault readPeople readPerson readAskings readAsked readHangs readHung rest brings later) s H locs → lv_has ls 4 [(0, .ref (ad 0)), (1, .int x1), (2, .int x2_4), (3, .int x3_4)] → W p l e R s m args below meth c H locs cells slots Q (F0 m 4 ls []) := by
    intro n_4
    induction n_4 with
    | zero => intro _ _ hf; cases hf
    | succ n_4 ih =>
      intro x2_4 x3_4 hf H locs ls hC hl
      rw [m_isFree_L4_s] at hf
      refine lv_iload_n hx hb dX10_isFree_4 rfl (lv_at hl 3 rfl) ?_
      refine lv_aload_n hx hb dX10_isFree_5 rfl (lv_at hl 0 rfl) ?_
      refine va_get (ci := 10) (v := .int hangs) (C := RX10) (T := TX10) (N := 28) hx hb hts in_X10 hown hC.1 hC.2.1 0 rfl rfl 8 (by decide) (hts _ q814) (fun _ h9 => h9) rfl dX10_isFree_6 ?_
      refine lv_icmp_ge (tgt := 61) hx hb dX10_isFree_9 (by decide) (fun c_9 => ?_) (fun c_9 => ?_)
      · have hf := if_t hf c_9
        have e_1 := (Option.some.inj hf)
        subst e_1
        exact X_4 H locs ls hC (lv_sub hl [2] rfl)
      · have hf := if_f hf c_9
        refine lv_iload_n hx hb dX10_isFree_12 rfl (lv_at hl 2 rfl) ?_
        refine lv_if_eq (tgt := 53) hx hb dX10_isFree_13 (by decide) (fun c_13 => ?_) (fun c_13 => ?_)
        · have hf := if_t hf c_13
          refine lv_iconst (v := 0) hx hb dX10_isFree_53 (by decide) ?_
          refine lv_istore_n (lv' := [(2, .int 0), (0, .ref (ad 0)), (1, .int x1), (3, .int x3_4)]) hx hb dX10_isFree_54 rfl hl (by decide) rfl (fun ls hl => ?_)
          refine lv_iinc (v := x3_4 + 1) (lv' := [(3, .int (x3_4 + 1)), (2, .int 0), (0, .ref (ad 0)), (1, .int x1)]) hx hb dX10_isFree_55 hl (k := 3) rfl rfl (by decide) rfl (fun ls hl => ?_)
          refine lv_goto (tgt := 4) hx hb dX10_isFree_58 (by decide) ?_
          exact ih _ _ hf H locs ls hC (lv_sub hl [2, 3, 1, 0] rfl)
        · have hf := if_f hf c_13
          refine lv_aload_n hx hb dX10_isFree_16 rfl (lv_at hl 0 rfl) ?_
          refine va_get (ci := 10) (v := .ref (ad 7)) (C := RX10) (T := TX10) (N := 28) hx hb hts in_X10 hown hC.1 hC.2.1 0 rfl rfl 9 (by decide) (hts _ q815) (fun _ h9 => h9) rfl dX10_isFree_17 ?_
          refine lv_iconst (v := 2) hx hb dX10_isFree_20 (by decide) ?_
          refine lv_iload_n hx hb dX10_isFree_21 rfl (lv_at hl 3 rfl) ?_
          refine lv_imul hx hb dX10_isFree_22 ?_
          obtain ⟨hi_23, hf⟩ := ck_some hf
          refine va_iald hx hb hC.1 hC.2.1 7 0 rfl rfl hi_23 dX10_isFree_23 ?_
          refine lv_iload_n hx hb dX10_isFree_24 rfl (lv_at hl 1 rfl) ?_
          refine lv_icmp_ne (tgt := 49) hx hb dX10_isFree_25 (by decide) (fun c_25 => ?_) (fun c_25 => ?_)
          · have hf := if_f hf c_25
            refine lv_iconst (v := 1) hx hb dX10_isFree_49 (by decide) ?_
            refine lv_goto (tgt := 54) hx hb dX10_isFree_50 (by decide) ?_
            refine lv_istore_n (lv' := [(2, .int 1), (0, .ref (ad 0)), (1, .int x1), (3, .int x3_4)]) hx hb dX10_isFree_54 rfl hl (by decide) rfl (fun ls hl => ?_)
            refine lv_iinc (v := x3_4 + 1) (lv' := [(3, .int (x3_4 + 1)), (2, .int 1), (0, .ref (ad 0)), (1, .int x1)]) hx hb dX10_isFree_55 hl (k := 3) rfl rfl (by decide) rfl (fun ls hl => ?_)
            refine lv_goto (tgt := 4) hx hb dX10_isFree_58 (by decide) ?_
            exact ih _ _ hf H locs ls hC (lv_sub hl [2, 3, 1, 0] rfl)
          · have hf := if_t hf c_25
            refine lv_aload_n hx hb dX10_isFree_28 rfl (lv_at hl 0 rfl) ?_
            refine va_get (ci := 10) (v := .ref (ad 1)) (C := RX10) (T := TX10) (N := 28) hx hb hts in_X10 hown hC.1 hC.2.1 0 rfl rfl 0 (by decide) (hts _ q806) (fun _ h9 => h9) rfl dX10_isFree_29 ?_
            refine lv_iconst (v := 3) hx hb dX10_isFree_32 (by decide) ?_
            refine lv_aload_n hx hb dX10_isFree_33 rfl (lv_at hl 0 rfl) ?_
            refine va_get (ci := 10) (v := .ref (ad 7)) (C := RX10) (T := TX10) (N := 28) hx hb hts in_X10 hown hC.1 hC.2.1 0 rfl rfl 9 (by decide) (hts _ q815) (fun _ h9 => h9) rfl dX10_isFree_34 ?_
            refine lv_iconst (v := 2) hx hb dX10_isFree_37 (by decide) ?_
            refine lv_iload_n hx hb dX10_isFree_38 rfl (lv_at hl 3 rfl) ?_
            refine lv_imul hx hb dX10_isFree_39 ?_
            refine lv_iconst (v := 1) hx hb dX10_isFree_40 (by decide) ?_
            refine lv_iadd hx hb dX10_isFree_41 ?_
            obtain ⟨hi_42, hf⟩ := ck_some hf
            refine va_iald hx hb hC.1 hC.2.1 7 0 rfl rfl hi_42 dX10_isFree_42 ?_
            refine lv_iadd hx hb dX10_isFree_43 ?_
            obtain ⟨hi_44, hf⟩ := ck_some hf
            refine va_iald hx hb hC.1 hC.2.1 1 0 rfl rfl hi_44 dX10_isFree_44 ?_
            refine lv_iconst (v := 2) hx hb dX10_isFree_45 (by decide) ?_
            refine lv_icmp_ne (tgt := 53) hx hb dX10_isFree_46 (by decide) (fun c_46 => ?_) (fun c_46 => ?_)
            · have hf := if_f hf c_46
              refine lv_iconst (v := 0) hx hb dX10_isFree_53 (by decide) ?_
              refine lv_istore_n (lv' := [(2, .int 0), (0, .ref (ad 0)), (1, .int x1), (3, .int x3_4)]) hx hb dX10_isFree_54 rfl hl (by decide) rfl (fun ls hl => ?_)
              refine lv_iinc (v := x3_4 + 1) (lv' := [(3, .int (x3_4 + 1)), (2, .int 0), (0, .ref (ad 0)), (1, .int x1)]) hx hb dX10_isFree_55 hl (k := 3) rfl rfl (by decide) rfl (fun ls hl => ?_)
              refine lv_goto (tgt := 4) hx hb dX10_isFree_58 (by decide) ?_
              exact ih _ _ hf H locs ls hC (lv_sub hl [2, 3, 1, 0] rfl)
            · have hf := if_t hf c_46
              refine lv_iconst (v := 1) hx hb dX10_isFree_49 (by decide) ?_
              refine lv_goto (tgt := 54) hx hb dX10_isFree_50 (by decide) ?_
              refine lv_istore_n (lv' := [(2, .int 1), (0, .ref (ad 0)), (1, .int x1), (3, .int x3_4)]) hx hb dX10_isFree_54 rfl hl (by decide) rfl (fun ls hl => ?_)
              refine lv_iinc (v := x3_4 + 1) (lv' := [(3, .int (x3_4 + 1)), (2, .int 1), (0, .ref (ad 0)), (1, .int x1)]) hx hb dX10_isFree_55 hl (k := 3) rfl rfl (by decide) rfl (fun ls hl => ?_)
              refine lv_goto (tgt := 4) hx hb dX10_isFree_58 (by decide) ?_
              exact ih _ _ hf H locs ls hC (lv_sub hl [2, 3, 1, 0] rfl)
  exact L_4 _ _ _ hL H locs ls hC (lv_sub hl [2, 3, 1, 0] rfl)
set_option maxRecDepth 100000 in
theorem c_m_isFree {l : Launch} {sz : Nat} {D : va_G} {d : Nat → ClassId} {ad : Nat → Nat} {w : Nat → Int32} {isKept : Nat → Int32} {people : Int32} {room : Nat → Int32} {work : Nat → Int32} {price : Nat → Int32} {askings : Int32} {asked : Nat → Int32} {hangs : Int32} {hung : Nat → Int32} {tenths : Nat → Int32} {sortWorth : Nat → Int32} {sortDays : Nat → Int32} {sorts : Int32} {text : Nat → Int32} {texted : Int32} {trace : Int64} {at_ : Int32} {fault : Int32} {readPeople : Int32} {readPerson : Nat → Int32} {readAskings : Int32} {readAsked : Nat → Int32} {readHangs : Int32} {readHung : Nat → Int32} {rest : Nat → Int32} {brings : Nat → Int64} {later : Nat → Int64} {x1 : Int32} {r : Int32} (hf : m_isFree w hangs hung x1 = some r) : MI l yX10_isFree (ws_ yX10_isFree cX10_isFree 4 (some .boolean)) { frames := 0, cells := 0, slots := 0, locals := 0 } D gcl (gty d) (fun _ => True) (mw d ad w isKept people room work price askings asked hangs hung tenths sortWorth sortDays sorts text texted trace at_ fault readPeople readPerson readAskings readAsked readHangs readHung rest brings later) (mw d ad w isKept people room work price askings asked hangs hung tenths sortWorth sortDays sorts text texted trace at_ fault readPeople readPerson readAskings readAsked readHangs readHung rest brings later) sz [.ref (ad 0), .int x1] r :=
  MI.of (by decide) [.ref (ad 0), .int x1] [(0, .ref (ad 0)), (1, .int x1)] (Nat.le_of_ble_eq_true rfl) rfl (fun p e s m below meth c ls Q hx hb hml hown hts hN hA hC hl K => w_m_isFree hx hb hml hown hts hA (Nat.le_refl _) (Nat.le_refl _) (Nat.le_refl _) (Nat.le_refl _) hf hC hl K)

def m_firstFree_L2 (x1 : Int32) (w : Nat → Int32) (hangs : Int32) (hung : Nat → Int32) : Nat → Int32 → Option ((Int32) ⊕ (Unit))
  | 0, _ => none
  | n_2 + 1, x2_2 =>
  ck (19 + x1) 300 <| if (w (19 + x1).toNatClampNeg) ≤ x2_2 then (some (.inr ())) else
  ck ((23 + (5 * x1)) + x2_2) 300 <| bnd (m_isFree w hangs hung (w ((23 + (5 * x1)) + x2_2).toNatClampNeg)) fun r_29 =>
  if r_29 = 0 then (m_firstFree_L2 x1 w hangs hung n_2 (x2_2 + 1) ) else
  ck ((23 + (5 * x1)) + x2_2) 300 <| some (.inl (w ((23 + (5 * x1)) + x2_2).toNatClampNeg))
theorem m_firstFree_L2_s (x1 : Int32) (w : Nat → Int32) (hangs : Int32) (hung : Nat → Int32) (n_2 : Nat) (x2_2 : Int32) : m_firstFree_L2 x1 w hangs hung (n_2 + 1) x2_2 = (
  ck (19 + x1) 300 <| if (w (19 + x1).toNatClampNeg) ≤ x2_2 then (some (.inr ())) else
  ck ((23 + (5 * x1)) + x2_2) 300 <| bnd (m_isFree w hangs hung (w ((23 + (5 * x1)) + x2_2).toNatClampNeg)) fun r_29 =>
  if r_29 = 0 then (m_firstFree_L2 x1 w hangs hung n_2 (x2_2 + 1) ) else
  ck ((23 + (5 * x1)) + x2_2) 300 <| some (.inl (w ((23 + (5 * x1)) + x2_2).toNatClampNeg))) := rfl
def m_firstFree (w : Nat → Int32) (hangs : Int32) (hung : Nat → Int32) (x1 : Int32) : Option (Int32) :=
  bndS (m_firstFree_L2 x1 w hangs hung g_fuel 0 ) (fun _ =>
  some (-9))
set_option maxHeartbeats 4000000 in
set_option maxRecDepth 100000 in
theorem w_m_firstFree {p : Program} {l : Launch} {e : Env} {R : Room} {s : State} {m : MethodId} {args : Array Value} {below : List Frame} {meth : Method} {c : Code} {H : Heap} {locs : List Loc} {cells slots : Nat} {Q : State → Prop} {A : Nat → Prop} {ls : Array Slot} {D : va_G} {d : Nat → ClassId} {ad : Nat → Nat} {w : Nat → Int32} {isKept : Nat → Int32} {people : Int32} {room : Nat → Int32} {work : Nat → Int32} {price : Nat → Int32} {askings : Int32} {asked : Nat → Int32} {hangs : Int32} {hung : Nat → Int32} {tenths : Nat → Int32} {sortWorth : Nat → Int32} {sortDays : Nat → Int32} {sorts : Int32} {text : Nat → Int32} {texted : Int32} {trace : Int64} {at_ : Int32} {fault : Int32} {readPeople : Int32} {readPerson : Nat → Int32} {readAskings : Int32} {readAsked : Nat → Int32} {readHangs : Int32} {readHung : Nat → Int32} {rest : Nat → Int32} {brings : Nat → Int64} {later : Nat → Int64} {x1 : Int32} {r : Int32} (hx : p.tables.exec = Jvm.exec) (hb : c.code = cX10_firstFree) (hml : c.maxLocals = 3) (hown : s.vm.findClass RX10 = some m.cls) (hts : ∀ w ∈ lw_all, w.before args s = true) (hA : ∀ q, s.heap.size ≤ q → A q) (hRf : 1 ≤ R.frames) (hRl : 23 ≤ R.locals) (hRc : cells ≤ R.cells) (hRs : slots ≤ R.slots) (hf : m_firstFree w hangs hung x1 = some r) (hC : HC D gcl (gty d) A (mw d ad w isKept people room work price askings asked hangs hung tenths sortWorth sortDays sorts text texted trace at_ fault readPeople readPerson readAskings readAsked readHangs readHung rest brings later) s H locs) (hl : lv_has ls 3 [(0, .ref (ad 0)), (1, .int x1)]) (K : ∀ (H : Heap) (locs : List Loc) (ls : Array Slot) (pc : Nat), narrow .int (.int r) = .int r → HC D gcl (gty d) A (mw d ad w isKept people room work price askings asked hangs hung tenths sortWorth sortDays sorts text texted trace at_ fault readPeople readPerson readAskings readAsked readHangs readHung rest brings later) s H locs → decode cX10_firstFree pc = .ok (.ireturn, 1) → W p l e R s m args below meth c H locs cells slots Q (F0 m pc ls [.int r])) : W p l e R s m args below meth c H locs cells slots Q (F0 m 0 ls []) := by
  unfold m_firstFree at hf
  refine lv_iconst (v := 0) hx hb dX10_firstFree_0 (by decide) ?_
  refine lv_istore_n (lv' := [(2, .int 0), (0, .ref (ad 0)), (1, .int x1)]) hx hb dX10_firstFree_1 rfl hl (by decide) rfl (fun ls hl => ?_)
  obtain ⟨rho_2, hL, hR_2, hO⟩ := bndS_some hf
  have X_2 : ∀ u_2, rho_2 = .inr u_2 → ∀ (H : Heap) (locs : List Loc) (ls : Array Slot), HC D gcl (gty d) A (mw d ad w isKept people room work price askings asked hangs hung tenths sortWorth sortDays sorts text texted trace at_ fault readPeople readPerson readAskings readAsked readHangs readHung rest brings later) s H locs → lv_has ls 3 [] → W p l e R s m args below meth c H locs cells slots Q (F0 m 55 ls []) := by
    intro u_2 er H locs ls hC hl
    have hf := hO _ er
    refine lv_bipush (v := (-9)) hx hb dX10_firstFree_55 (by decide) ?_
    have e_1 := (Option.some.inj hf)
    subst e_1
    exact K H locs ls _ rfl hC dX10_firstFree_57
  have XR_2 := hR_2
  have L_2 : ∀ (n_2 : Nat) (x2_2 : Int32), m_firstFree_L2 x1 w hangs hung n_2 x2_2 = some rho_2 → ∀ (H : Heap) (locs : List Loc) (ls : Array Slot), HC D gcl (gty d) A (mw d ad w isKept people room work price askings asked hangs hung tenths sortWorth sortDays sorts text texted trace at_ fault readPeople readPerson readAskings readAsked readHangs readHung rest brings later) s H locs → lv_has ls 3 [(0, .ref (ad 0)), (1, .int x1), (2, .int x2_2)] → W p l e R s m args below meth c H locs cells slots Q (F0 m 2 ls []) := by
    intro n_2
    induction n_2 with
    | zero => intro _ hf; cases hf
    | succ n_2 ih =>
      intro x2_2 hf H locs ls hC hl
      rw [m_firstFree_L2_s] at hf
      refine lv_iload_n hx hb dX10_firstFree_2 rfl (lv_at hl 2 rfl) ?_
      refine lv_aload_n hx hb dX10_firstFree_3 rfl (lv_at hl 0 rfl) ?_
      refine va_get (ci := 10) (v := .ref (ad 1)) (C := RX10) (T := TX10) (N := 28) hx hb hts in_X10 hown hC.1 hC.2.1 0 rfl rfl 0 (by decide) (hts _ q806) (fun _ h9 => h9) rfl dX10_firstFree_4 ?_
      refine lv_bipush (v := 19) hx hb dX10_firstFree_7 (by decide) ?_
      refine lv_iload_n hx hb dX10_firstFree_9 rfl (lv_at hl 1 rfl) ?_
      refine lv_iadd hx hb dX10_firstFree_10 ?_
      obtain ⟨hi_11, hf⟩ := ck_some hf
      refine va_iald hx hb hC.1 hC.2.1 1 0 rfl rfl hi_11 dX10_firstFree_11 ?_
      refine lv_icmp_ge (tgt := 55) hx hb dX10_firstFree_12 (by decide) (fun c_12 => ?_) (fun c_12 => ?_)
      · have hf := if_t hf c_12
        exact X_2 _ (Option.some.inj hf).symm H locs ls hC (lv_sub hl [] rfl)
      · have hf := if_f hf c_12
        refine lv_aload_n hx hb dX10_firstFree_15 rfl (lv_at hl 0 rfl) ?_
        refine lv_aload_n hx hb dX10_firstFree_16 rfl (lv_at hl 0 rfl) ?_
        refine va_get (ci := 10) (v := .ref (ad 1)) (C := RX10) (T := TX10) (N := 28) hx hb hts in_X10 hown hC.1 hC.2.1 0 rfl rfl 0 (by decide) (hts _ q806) (fun _ h9 => h9) rfl dX10_firstFree_17 ?_
        refine lv_bipush (v := 23) hx hb dX10_firstFree_20 (by decide) ?_
        refine lv_iconst (v := 5) hx hb dX10_firstFree_22 (by decide) ?_
        refine lv_iload_n hx hb dX10_firstFree_23 rfl (lv_at hl 1 rfl) ?_
        refine lv_imul hx hb dX10_firstFree_24 ?_
        refine lv_iadd hx hb dX10_firstFree_25 ?_
        refine lv_iload_n hx hb dX10_firstFree_26 rfl (lv_at hl 2 rfl) ?_
        refine lv_iadd hx hb dX10_firstFree_27 ?_
        obtain ⟨hi_28, hf⟩ := ck_some hf
        refine va_iald hx hb hC.1 hC.2.1 1 0 rfl rfl hi_28 dX10_firstFree_28 ?_
        obtain ⟨r_29, hcall, hf⟩ := bnd_some hf
        refine hc_i (va_runV (C := RX10) (As := [.int (w ((23 + (5 * x1)) + x2_2).toNatClampNeg)]) (rest := []) ⟨hx, hb, hml, hown, hts⟩ (c_m_isFree hcall) (cwV 1 hts (lw_V q1008 q1010 qs35 q59 q1011) rfl rfl rfl (by decide +kernel) ⟨(Nat.le_trans (Nat.le_of_ble_eq_true rfl) hRf), (Nat.le_trans (Nat.le_of_ble_eq_true rfl) hRl)⟩) (pre_V (q0 := 0) (ci := 10) (fun _ _ _ _ h => h) (fun _ _ _ => trivial) hC rfl rfl) rfl rfl hl.1 rfl (lv_room (Nat.le_of_ble_eq_true rfl)) dX10_firstFree_29 ⟨hRc, hRs⟩) hA hC (fun H locs hC => ?_)
        refine lv_if_eq (tgt := 49) hx hb dX10_firstFree_32 (by decide) (fun c_32 => ?_) (fun c_32 => ?_)
        · have hf := if_t hf c_32
          refine lv_iinc (v := x2_2 + 1) (lv' := [(2, .int (x2_2 + 1)), (0, .ref (ad 0)), (1, .int x1)]) hx hb dX10_firstFree_49 hl (k := 2) rfl rfl (by decide) rfl (fun ls hl => ?_)
          refine lv_goto (tgt := 2) hx hb dX10_firstFree_52 (by decide) ?_
          exact ih _ hf H locs ls hC (lv_sub hl [1, 2, 0] rfl)
        · have hf := if_f hf c_32
          refine lv_aload_n hx hb dX10_firstFree_35 rfl (lv_at hl 0 rfl) ?_
          refine va_get (ci := 10) (v := .ref (ad 1)) (C := RX10) (T := TX10) (N := 28) hx hb hts in_X10 hown hC.1 hC.2.1 0 rfl rfl 0 (by decide) (hts _ q806) (fun _ h9 => h9) rfl dX10_firstFree_36 ?_
          refine lv_bipush (v := 23) hx hb dX10_firstFree_39 (by decide) ?_
          refine lv_iconst (v := 5) hx hb dX10_firstFree_41 (by decide) ?_
          refine lv_iload_n hx hb dX10_firstFree_42 rfl (lv_at hl 1 rfl) ?_
          refine lv_imul hx hb dX10_firstFree_43 ?_
          refine lv_iadd hx hb dX10_firstFree_44 ?_
          refine lv_iload_n hx hb dX10_firstFree_45 rfl (lv_at hl 2 rfl) ?_
          refine lv_iadd hx hb dX10_firstFree_46 ?_
          obtain ⟨hi_47, hf⟩ := ck_some hf
          refine va_iald hx hb hC.1 hC.2.1 1 0 rfl rfl hi_47 dX10_firstFree_47 ?_
          have hf := XR_2 _ (Option.some.inj hf).symm
          have e_1 := hf
          subst e_1
          exact K H locs ls _ rfl hC dX10_firstFree_48
  exact L_2 _ _ hL H locs ls hC (lv_sub hl [1, 2, 0] rfl)
set_option maxRecDepth 100000 in
theorem c_m_firstFree {l : Launch} {sz : Nat} {D : va_G} {d : Nat → ClassId} {ad : Nat → Nat} {w : Nat → Int32} {isKept : Nat → Int32} {people : Int32} {room : Nat → Int32} {work : Nat → Int32} {price : Nat → Int32} {askings : Int32} {asked : Nat → Int32} {hangs : Int32} {hung : Nat → Int32} {tenths : Nat → Int32} {sortWorth : Nat → Int32} {sortDays : Nat → Int32} {sorts : Int32} {text : Nat → Int32} {texted : Int32} {trace : Int64} {at_ : Int32} {fault : Int32} {readPeople : Int32} {readPerson : Nat → Int32} {readAskings : Int32} {readAsked : Nat → Int32} {readHangs : Int32} {readHung : Nat → Int32} {rest : Nat → Int32} {brings : Nat → Int64} {later : Nat → Int64} {x1 : Int32} {r : Int32} (hf : m_firstFree w hangs hung x1 = some r) : MI l yX10_firstFree (ws_ yX10_firstFree cX10_firstFree 3 (some .int)) { frames := 1, cells := 0, slots := 0, locals := 23 } D gcl (gty d) (fun _ => True) (mw d ad w isKept people room work price askings asked hangs hung tenths sortWorth sortDays sorts text texted trace at_ fault readPeople readPerson readAskings readAsked readHangs readHung rest brings later) (mw d ad w isKept people room work price askings asked hangs hung tenths sortWorth sortDays sorts text texted trace at_ fault readPeople readPerson readAskings readAsked readHangs readHung rest brings later) sz [.ref (ad 0), .int x1] r :=
  MI.of (by decide) [.ref (ad 0), .int x1] [(0, .ref (ad 0)), (1, .int x1)] (Nat.le_of_ble_eq_true rfl) rfl (fun p e s m below meth c ls Q hx hb hml hown hts hN hA hC hl K => w_m_firstFree hx hb hml hown hts hA (Nat.le_refl _) (Nat.le_refl _) (Nat.le_refl _) (Nat.le_refl _) hf hC hl K)

def m_day_L28 (x2_18 : Int32) (work : Nat → Int32) (asked : Nat → Int32) (hangs : Int32) (hung : Nat → Int32) : Nat → Int32 → Int32 → (Nat → Int32) → Option (Int32 × (Nat → Int32))
  | 0, _, _, _ => none
  | n_28 + 1, x1_28, x3_28, w_28 =>
  ck x2_18 4 <| if (work x2_18.toNatClampNeg) ≤ x3_28 then (some (x1_28, w_28)) else
  bnd (m_firstFree w_28 hangs hung x2_18) fun r_40 =>
  if r_40 = (-9) then (some (x1_28, w_28)) else
  ck (11 + r_40) 300 <| ck (11 + r_40) 300 <| ck (11 + r_40) 300 <| if ((upd w_28 (11 + r_40).toNatClampNeg ((w_28 (11 + r_40).toNatClampNeg) - 1)) (11 + r_40).toNatClampNeg) = 0 then (bnd (m_remove (upd w_28 (11 + r_40).toNatClampNeg ((w_28 (11 + r_40).toNatClampNeg) - 1)) x2_18 r_40) fun w_86 =>
  ck (3 + r_40) 300 <| ck ((5 * r_40) + 3) 40 <| m_day_L28 x2_18 work asked hangs hung n_28 (x1_28 + 1) (x3_28 + 1) (upd (upd w_86 (3 + r_40).toNatClampNeg 2) (1 : Int32).toNatClampNeg (((upd w_86 (3 + r_40).toNatClampNeg 2) (1 : Int32).toNatClampNeg) + (asked ((5 * r_40) + 3).toNatClampNeg)))) else
  m_day_L28 x2_18 work asked hangs hung n_28 x1_28 (x3_28 + 1) (upd w_28 (11 + r_40).toNatClampNeg ((w_28 (11 + r_40).toNatClampNeg) - 1))
theorem m_day_L28_s (x2_18 : Int32) (work : Nat → Int32) (asked : Nat → Int32) (hangs : Int32) (hung : Nat → Int32) (n_28 : Nat) (x1_28 : Int32) (x3_28 : Int32) (w_28 : Nat → Int32) : m_day_L28 x2_18 work asked hangs hung (n_28 + 1) x1_28 x3_28 w_28 = (
  ck x2_18 4 <| if (work x2_18.toNatClampNeg) ≤ x3_28 then (some (x1_28, w_28)) else
  bnd (m_firstFree w_28 hangs hung x2_18) fun r_40 =>
  if r_40 = (-9) then (some (x1_28, w_28)) else
  ck (11 + r_40) 300 <| ck (11 + r_40) 300 <| ck (11 + r_40) 300 <| if ((upd w_28 (11 + r_40).toNatClampNeg ((w_28 (11 + r_40).toNatClampNeg) - 1)) (11 + r_40).toNatClampNeg) = 0 then (bnd (m_remove (upd w_28 (11 + r_40).toNatClampNeg ((w_28 (11 + r_40).toNatClampNeg) - 1)) x2_18 r_40) fun w_86 =>
  ck (3 + r_40) 300 <| ck ((5 * r_40) + 3) 40 <| m_day_L28 x2_18 work asked hangs hung n_28 (x1_28 + 1) (x3_28 + 1) (upd (upd w_86 (3 + r_40).toNatClampNeg 2) (1 : Int32).toNatClampNeg (((upd w_86 (3 + r_40).toNatClampNeg 2) (1 : Int32).toNatClampNeg) + (asked ((5 * r_40) + 3).toNatClampNeg)))) else
  m_day_L28 x2_18 work asked hangs hung n_28 x1_28 (x3_28 + 1) (upd w_28 (11 + r_40).toNatClampNeg ((w_28 (11 + r_40).toNatClampNeg) - 1))) := rfl
def m_day_L18 (people : Int32) (work : Nat → Int32) (asked : Nat → Int32) (hangs : Int32) (hung : Nat → Int32) : Nat → Int32 → Int32 → (Nat → Int32) → Option (Int32 × (Nat → Int32))
  | 0, _, _, _ => none
  | n_18 + 1, x1_18, x2_18, w_18 =>
  if people ≤ x2_18 then (some (x1_18, w_18)) else
  bnd2 (m_day_L28 x2_18 work asked hangs hung g_fuel x1_18 0 w_18) (fun x1_128 w_128 =>
  m_day_L18 people work asked hangs hung n_18 x1_128 (x2_18 + 1) w_128)
theorem m_day_L18_s (people : Int32) (work : Nat → Int32) (asked : Nat → Int32) (hangs : Int32) (hung : Nat → Int32) (n_18 : Nat) (x1_18 : Int32) (x2_18 : Int32) (w_18 : Nat → Int32) : m_day_L18 people work asked hangs hung (n_18 + 1) x1_18 x2_18 w_18 = (
  if people ≤ x2_18 then (some (x1_18, w_18)) else
  bnd2 (m_day_L28 x2_18 work asked hangs hung g_fuel x1_18 0 w_18) (fun x1_128 w_128 =>
  m_day_L18 people work asked hangs hung n_18 x1_128 (x2_18 + 1) w_128)) := rfl
def m_day_L136 (people : Int32) (askings : Int32) (asked : Nat → Int32) : Nat → Int32 → (Nat → Int32) → Option ((Nat → Int32))
  | 0, _, _ => none
  | n_136 + 1, x2_136, w_136 =>
  if askings ≤ x2_136 then (some w_136) else
  ck (3 + x2_136) 300 <| bnd (if (w_136 (3 + x2_136).toNatClampNeg) = 1 then (ck ((5 * x2_136) + 4) 40 <| if (asked ((5 * x2_136) + 4).toNatClampNeg) = (w_136 (0 : Int32).toNatClampNeg) then (bnd (m_sleeveOf w_136 people x2_136) fun r_178 =>
  bnd (m_remove w_136 r_178 x2_136) fun w_182 =>
  ck (3 + x2_136) 300 <| ck ((5 * x2_136) + 3) 40 <| some (upd (upd w_182 (3 + x2_136).toNatClampNeg 3) (2 : Int32).toNatClampNeg (((upd w_182 (3 + x2_136).toNatClampNeg 3) (2 : Int32).toNatClampNeg) + (asked ((5 * x2_136) + 3).toNatClampNeg)))) else
  some (w_136)) else
  some (w_136)) (fun (w_213 : Nat → Int32) =>
  ck (3 + x2_136) 300 <| if (w_213 (3 + x2_136).toNatClampNeg) = 0 then (ck ((5 * x2_136) + 1) 40 <| if (asked ((5 * x2_136) + 1).toNatClampNeg) = (w_213 (0 : Int32).toNatClampNeg) then (ck (3 + x2_136) 300 <| m_day_L136 people askings asked n_136 (x2_136 + 1) (upd w_213 (3 + x2_136).toNatClampNeg 3)) else
  m_day_L136 people askings asked n_136 (x2_136 + 1) w_213) else
  m_day_L136 people askings asked n_136 (x2_136 + 1) w_213)
theorem m_day_L136_s (people : Int32) (askings : Int32) (asked : Nat → Int32) (n_136 : Nat) (x2_136 : Int32) (w_136 : Nat → Int32) : m_day_L136 people askings asked (n_136 + 1) x2_136 w_136 = (
  if askings ≤ x2_136 then (some w_136) else
  ck (3 + x2_136) 300 <| bnd (if (w_136 (3 + x2_136).toNatClampNeg) = 1 then (ck ((5 * x2_136) + 4) 40 <| if (asked ((5 * x2_136) + 4).toNatClampNeg) = (w_136 (0 : Int32).toNatClampNeg) then (bnd (m_sleeveOf w_136 people x2_136) fun r_178 =>
  bnd (m_remove w_136 r_178 x2_136) fun w_182 =>
  ck (3 + x2_136) 300 <| ck ((5 * x2_136) + 3) 40 <| some (upd (upd w_182 (3 + x2_136).toNatClampNeg 3) (2 : Int32).toNatClampNeg (((upd w_182 (3 + x2_136).toNatClampNeg 3) (2 : Int32).toNatClampNeg) + (asked ((5 * x2_136) + 3).toNatClampNeg)))) else
  some (w_136)) else
  some (w_136)) (fun (w_213 : Nat → Int32) =>
  ck (3 + x2_136) 300 <| if (w_213 (3 + x2_136).toNatClampNeg) = 0 then (ck ((5 * x2_136) + 1) 40 <| if (asked ((5 * x2_136) + 1).toNatClampNeg) = (w_213 (0 : Int32).toNatClampNeg) then (ck (3 + x2_136) 300 <| m_day_L136 people askings asked n_136 (x2_136 + 1) (upd w_213 (3 + x2_136).toNatClampNeg 3)) else
  m_day_L136 people askings asked n_136 (x2_136 + 1) w_213) else
  m_day_L136 people askings asked n_136 (x2_136 + 1) w_213)) := rfl
def m_day (w : Nat → Int32) (people : Int32) (work : Nat → Int32) (askings : Int32) (asked : Nat → Int32) (hangs : Int32) (hung : Nat → Int32) : Option (Int32 × (Nat → Int32)) :=
  if (w (0 : Int32).toNatClampNeg) = 10 then (some ((-2), w)) else
  bnd2 (m_day_L18 people work asked hangs hung g_fuel 0 0 w) (fun x1_134 w_134 =>
  bnd (m_day_L136 people askings asked g_fuel 0 w_134) (fun w_258 =>
  some (x1_134, upd (upd w_258 (0 : Int32).toNatClampNeg ((w_258 (0 : Int32).toNatClampNeg) + 1)) (43 : Int32).toNatClampNeg 0)))
set_option maxHeartbeats 4000000 in
set_option maxRecDepth 100000 in
theorem w_m_day {p : Program} {l : Launch} {e : Env} {R : Room} {s : State} {m : MethodId} {args : Array Value} {below : List Frame} {meth : Method} {c : Code} {H : Heap} {locs : List Loc} {cells slots : Nat} {Q : State → Prop} {A : Nat → Prop} {ls : Array Slot} {D : va_G} {d : Nat → ClassId} {ad : Nat → Nat} {w : Nat → Int32} {isKept : Nat → Int32} {people : Int32} {room : Nat → Int32} {work : Nat → Int32} {price : Nat → Int32} {askings : Int32} {asked : Nat → Int32} {hangs : Int32} {hung : Nat → Int32} {tenths : Nat → Int32} {sortWorth : Nat → Int32} {sortDays : Nat → Int32} {sorts : Int32} {text : Nat → Int32} {texted : Int32} {trace : Int64} {at_ : Int32} {fault : Int32} {readPeople : Int32} {readPerson : Nat → Int32} {readAskings : Int32} {readAsked : Nat → Int32} {readHangs : Int32} {readHung : Nat → Int32} {rest : Nat → Int32} {brings : Nat → Int64} {later : Nat → Int64} {r : Int32} {w_r : Nat → Int32} (hx : p.tables.exec = Jvm.exec) (hb : c.code = cX10_day) (hml : c.maxLocals = 5) (hown : s.vm.findClass RX10 = some m.cls) (hts : ∀ w ∈ lw_all, w.before args s = true) (hA : ∀ q, s.heap.size ≤ q → A q) (hRf : 2 ≤ R.frames) (hRl : 46 ≤ R.locals) (hRc : cells ≤ R.cells) (hRs : slots ≤ R.slots) (hf : m_day w people work askings asked hangs hung = some (r, w_r)) (hC : HC D gcl (gty d) A (mw d ad w isKept people room work price askings asked hangs hung tenths sortWorth sortDays sorts text texted trace at_ fault readPeople readPerson readAskings readAsked readHangs readHung rest brings later) s H locs) (hl : lv_has ls 5 [(0, .ref (ad 0))]) (K : ∀ (H : Heap) (locs : List Loc) (ls : Array Slot) (pc : Nat), narrow .int (.int r) = .int r → HC D gcl (gty d) A (mw d ad w_r isKept people room work price askings asked hangs hung tenths sortWorth sortDays sorts text texted trace at_ fault readPeople readPerson readAskings readAsked readHangs readHung rest brings later) s H locs → decode cX10_day pc = .ok (.ireturn, 1) → W p l e R s m args below meth c H locs cells slots Q (F0 m pc ls [.int r])) : W p l e R s m args below meth c H locs cells slots Q (F0 m 0 ls []) := by
  unfold m_day at hf
  refine lv_aload_n hx hb dX10_day_0 rfl (lv_at hl 0 rfl) ?_
  refine va_get (ci := 10) (v := .ref (ad 1)) (C := RX10) (T := TX10) (N := 28) hx hb hts in_X10 hown hC.1 hC.2.1 0 rfl rfl 0 (by decide) (hts _ q806) (fun _ h9 => h9) rfl dX10_day_1 ?_
  refine lv_iconst (v := 0) hx hb dX10_day_4 (by decide) ?_
  refine va_iald hx hb hC.1 hC.2.1 1 0 rfl rfl (vp_in_iff.mpr (by decide)) dX10_day_5 ?_
  refine lv_bipush (v := 10) hx hb dX10_day_6 (by decide) ?_
  refine lv_icmp_ne (tgt := 14) hx hb dX10_day_8 (by decide) (fun c_8 => ?_) (fun c_8 => ?_)
  · have hf := if_f hf c_8
    refine lv_iconst (v := 0) hx hb dX10_day_14 (by decide) ?_
    refine lv_istore_n (lv' := [(1, .int 0), (0, .ref (ad 0))]) hx hb dX10_day_15 rfl hl (by decide) rfl (fun ls hl => ?_)
    refine lv_iconst (v := 0) hx hb dX10_day_16 (by decide) ?_
    refine lv_istore_n (lv' := [(2, .int 0), (1, .int 0), (0, .ref (ad 0))]) hx hb dX10_day_17 rfl hl (by decide) rfl (fun ls hl => ?_)
    obtain ⟨x1_134, w_134, hL, hf⟩ := bnd2_some hf
    have X_18 : ∀ (H : Heap) (locs : List Loc) (ls : Array Slot), HC D gcl (gty d) A (mw d ad w_134 isKept people room work price askings asked hangs hung tenths sortWorth sortDays sorts text texted trace at_ fault readPeople readPerson readAskings readAsked readHangs readHung rest brings later) s H locs → lv_has ls 5 [(0, .ref (ad 0)), (1, .int x1_134)] → W p l e R s m args below meth c H locs cells slots Q (F0 m 134 ls []) := by
      intro H locs ls hC hl
      refine lv_iconst (v := 0) hx hb dX10_day_134 (by decide) ?_
      refine lv_istore_n (lv' := [(2, .int 0), (0, .ref (ad 0)), (1, .int x1_134)]) hx hb dX10_day_135 rfl hl (by decide) rfl (fun ls hl => ?_)
      obtain ⟨w_258, hL, hf⟩ := bnd_some hf
      have X_136 : ∀ (H : Heap) (locs : List Loc) (ls : Array Slot), HC D gcl (gty d) A (mw d ad w_258 isKept people room work price askings asked hangs hung tenths sortWorth sortDays sorts text texted trace at_ fault readPeople readPerson readAskings readAsked readHangs readHung rest brings later) s H locs → lv_has ls 5 [(0, .ref (ad 0)), (1, .int x1_134)] → W p l e R s m args below meth c H locs cells slots Q (F0 m 258 ls []) := by
        intro H locs ls hC hl
        refine lv_aload_n hx hb dX10_day_258 rfl (lv_at hl 0 rfl) ?_
        refine va_get (ci := 10) (v := .ref (ad 1)) (C := RX10) (T := TX10) (N := 28) hx hb hts in_X10 hown hC.1 hC.2.1 0 rfl rfl 0 (by decide) (hts _ q806) (fun _ h9 => h9) rfl dX10_day_259 ?_
        refine lv_iconst (v := 0) hx hb dX10_day_262 (by decide) ?_
        refine lv_dup2_11 hx hb dX10_day_263 rfl rfl ?_
        refine va_iald hx hb hC.1 hC.2.1 1 0 rfl rfl (vp_in_iff.mpr (by decide)) dX10_day_264 ?_
        refine lv_iconst (v := 1) hx hb dX10_day_265 (by decide) ?_
        refine lv_iadd hx hb dX10_day_266 ?_
        refine va_iast hx hb hC.1 hC.2.1 hC.2.2.1 hC.2.2.2 1 0 rfl rfl (vp_in_iff.mpr (by decide)) dX10_day_267 (fun H locs hP hD hS => ?_)
        have hC : HC D gcl (gty d) A (mw d ad (upd w_258 (0 : Int32).toNatClampNeg ((w_258 (0 : Int32).toNatClampNeg) + 1)) isKept people room work price askings asked hangs hung tenths sortWorth sortDays sorts text texted trace at_ fault readPeople readPerson readAskings readAsked readHangs readHung rest brings later) s H locs := ⟨hC.1, hP, hD, hS⟩
        refine lv_aload_n hx hb dX10_day_268 rfl (lv_at hl 0 rfl) ?_
        refine va_get (ci := 10) (v := .ref (ad 1)) (C := RX10) (T := TX10) (N := 28) hx hb hts in_X10 hown hC.1 hC.2.1 0 rfl rfl 0 (by decide) (hts _ q806) (fun _ h9 => h9) rfl dX10_day_269 ?_
        refine lv_bipush (v := 43) hx hb dX10_day_272 (by decide) ?_
        refine lv_iconst (v := 0) hx hb dX10_day_274 (by decide) ?_
        refine va_iast hx hb hC.1 hC.2.1 hC.2.2.1 hC.2.2.2 1 0 rfl rfl (vp_in_iff.mpr (by decide)) dX10_day_275 (fun H locs hP hD hS => ?_)
        have hC : HC D gcl (gty d) A (mw d ad (upd (upd w_258 (0 : Int32).toNatClampNeg ((w_258 (0 : Int32).toNatClampNeg) + 1)) (43 : Int32).toNatClampNeg 0) isKept people room work price askings asked hangs hung tenths sortWorth sortDays sorts text texted trace at_ fault readPeople readPerson readAskings readAsked readHangs readHung rest brings later) s H locs := ⟨hC.1, hP, hD, hS⟩
        refine lv_iload_n hx hb dX10_day_276 rfl (lv_at hl 1 rfl) ?_
        obtain ⟨e_1, e_2⟩ := so_2 (Option.some.inj hf)
        subst e_1
        subst e_2
        exact K H locs ls _ rfl hC dX10_day_277
      have L_136 : ∀ (n_136 : Nat) (x2_136 : Int32) (w_136 : Nat → Int32), m_day_L136 people askings asked n_136 x2_136 w_136 = some w_258 → ∀ (H : Heap) (locs : List Loc) (ls : Array Slot), HC D gcl (gty d) A (mw d ad w_136 isKept people room work price askings asked hangs hung tenths sortWorth sortDays sorts text texted trace at_ fault readPeople readPerson readAskings readAsked readHangs readHung rest brings later) s H locs → lv_has ls 5 [(0, .ref (ad 0)), (1, .int x1_134), (2, .int x2_136)] → W p l e R s m args below meth c H locs cells slots Q (F0 m 136 ls []) := by
        intro n_136
        induction n_136 with
        | zero => intro _ _ hf; cases hf
        | succ n_136 ih =>
          intro x2_136 w_136 hf H locs ls hC hl
          rw [m_day_L136_s] at hf
          refine lv_iload_n hx hb dX10_day_136 rfl (lv_at hl 2 rfl) ?_
          refine lv_aload_n hx hb dX10_day_137 rfl (lv_at hl 0 rfl) ?_
          refine va_get (ci := 10) (v := .int askings) (C := RX10) (T := TX10) (N := 28) hx hb hts in_X10 hown hC.1 hC.2.1 0 rfl rfl 6 (by decide) (hts _ q812) (fun _ h9 => h9) rfl dX10_day_138 ?_
          refine lv_icmp_ge (tgt := 258) hx hb dX10_day_141 (by decide) (fun c_141 => ?_) (fun c_141 => ?_)
          · have hf := if_t hf c_141
            have e_1 := (Option.some.inj hf)
            subst e_1
            exact X_136 H locs ls hC (lv_sub hl [0, 1] rfl)
          · have hf := if_f hf c_141
            refine lv_aload_n hx hb dX10_day_144 rfl (lv_at hl 0 rfl) ?_
            refine va_get (ci := 10) (v := .ref (ad 1)) (C := RX10) (T := TX10) (N := 28) hx hb hts in_X10 hown hC.1 hC.2.1 0 rfl rfl 0 (by decide) (hts _ q806) (fun _ h9 => h9) rfl dX10_day_145 ?_
            refine lv_iconst (v := 3) hx hb dX10_day_148 (by decide) ?_
            refine lv_iload_n hx hb dX10_day_149 rfl (lv_at hl 2 rfl) ?_
            refine lv_iadd hx hb dX10_day_150 ?_
            obtain ⟨hi_151, hf⟩ := ck_some hf
            refine va_iald hx hb hC.1 hC.2.1 1 0 rfl rfl hi_151 dX10_day_151 ?_
            refine lv_iconst (v := 1) hx hb dX10_day_152 (by decide) ?_
            obtain ⟨w_213, hj, hf⟩ := bnd_some hf
            have J_213 : ∀ (H : Heap) (locs : List Loc) (ls : Array Slot), HC D gcl (gty d) A (mw d ad w_213 isKept people room work price askings asked hangs hung tenths sortWorth sortDays sorts text texted trace at_ fault readPeople readPerson readAskings readAsked readHangs readHung rest brings later) s H locs → lv_has ls 5 [(0, .ref (ad 0)), (1, .int x1_134), (2, .int x2_136)] → W p l e R s m args below meth c H locs cells slots Q (F0 m 213 ls []) := by
              intro H locs ls hC hl
              refine lv_aload_n hx hb dX10_day_213 rfl (lv_at hl 0 rfl) ?_
              refine va_get (ci := 10) (v := .ref (ad 1)) (C := RX10) (T := TX10) (N := 28) hx hb hts in_X10 hown hC.1 hC.2.1 0 rfl rfl 0 (by decide) (hts _ q806) (fun _ h9 => h9) rfl dX10_day_214 ?_
              refine lv_iconst (v := 3) hx hb dX10_day_217 (by decide) ?_
              refine lv_iload_n hx hb dX10_day_218 rfl (lv_at hl 2 rfl) ?_
              refine lv_iadd hx hb dX10_day_219 ?_
              obtain ⟨hi_220, hf⟩ := ck_some hf
              refine va_iald hx hb hC.1 hC.2.1 1 0 rfl rfl hi_220 dX10_day_220 ?_
              refine lv_if_ne (tgt := 252) hx hb dX10_day_221 (by decide) (fun c_221 => ?_) (fun c_221 => ?_)
              · have hf := if_f hf c_221
                refine lv_iinc (v := x2_136 + 1) (lv' := [(2, .int (x2_136 + 1)), (0, .ref (ad 0)), (1, .int x1_134)]) hx hb dX10_day_252 hl (k := 2) rfl rfl (by decide) rfl (fun ls hl => ?_)
                refine lv_goto (tgt := 136) hx hb dX10_day_255 (by decide) ?_
                exact ih _ _ hf H locs ls hC (lv_sub hl [1, 2, 0] rfl)
              · have hf := if_t hf c_221
                refine lv_aload_n hx hb dX10_day_224 rfl (lv_at hl 0 rfl) ?_
                refine va_get (ci := 10) (v := .ref (ad 6)) (C := RX10) (T := TX10) (N := 28) hx hb hts in_X10 hown hC.1 hC.2.1 0 rfl rfl 7 (by decide) (hts _ q813) (fun _ h9 => h9) rfl dX10_day_225 ?_
                refine lv_iconst (v := 5) hx hb dX10_day_228 (by decide) ?_
                refine lv_iload_n hx hb dX10_day_229 rfl (lv_at hl 2 rfl) ?_
                refine lv_imul hx hb dX10_day_230 ?_
                refine lv_iconst (v := 1) hx hb dX10_day_231 (by decide) ?_
                refine lv_iadd hx hb dX10_day_232 ?_
                obtain ⟨hi_233, hf⟩ := ck_some hf
                refine va_iald hx hb hC.1 hC.2.1 6 0 rfl rfl hi_233 dX10_day_233 ?_
                refine lv_aload_n hx hb dX10_day_234 rfl (lv_at hl 0 rfl) ?_
                refine va_get (ci := 10) (v := .ref (ad 1)) (C := RX10) (T := TX10) (N := 28) hx hb hts in_X10 hown hC.1 hC.2.1 0 rfl rfl 0 (by decide) (hts _ q806) (fun _ h9 => h9) rfl dX10_day_235 ?_
                refine lv_iconst (v := 0) hx hb dX10_day_238 (by decide) ?_
                refine va_iald hx hb hC.1 hC.2.1 1 0 rfl rfl (vp_in_iff.mpr (by decide)) dX10_day_239 ?_
                refine lv_icmp_ne (tgt := 252) hx hb dX10_day_240 (by decide) (fun c_240 => ?_) (fun c_240 => ?_)
                · have hf := if_f hf c_240
                  refine lv_iinc (v := x2_136 + 1) (lv' := [(2, .int (x2_136 + 1)), (0, .ref (ad 0)), (1, .int x1_134)]) hx hb dX10_day_252 hl (k := 2) rfl rfl (by decide) rfl (fun ls hl => ?_)
                  refine lv_goto (tgt := 136) hx hb dX10_day_255 (by decide) ?_
                  exact ih _ _ hf H locs ls hC (lv_sub hl [1, 2, 0] rfl)
                · have hf := if_t hf c_240
                  refine lv_aload_n hx hb dX10_day_243 rfl (lv_at hl 0 rfl) ?_
                  refine va_get (ci := 10) (v := .ref (ad 1)) (C := RX10) (T := TX10) (N := 28) hx hb hts in_X10 hown hC.1 hC.2.1 0 rfl rfl 0 (by decide) (hts _ q806) (fun _ h9 => h9) rfl dX10_day_244 ?_
                  refine lv_iconst (v := 3) hx hb dX10_day_247 (by decide) ?_
                  refine lv_iload_n hx hb dX10_day_248 rfl (lv_at hl 2 rfl) ?_
                  refine lv_iadd hx hb dX10_day_249 ?_
                  refine lv_iconst (v := 3) hx hb dX10_day_250 (by decide) ?_
                  obtain ⟨hi_251, hf⟩ := ck_some hf
                  refine va_iast hx hb hC.1 hC.2.1 hC.2.2.1 hC.2.2.2 1 0 rfl rfl hi_251 dX10_day_251 (fun H locs hP hD hS => ?_)
                  have hC : HC D gcl (gty d) A (mw d ad (upd w_213 (3 + x2_136).toNatClampNeg 3) isKept people room work price askings asked hangs hung tenths sortWorth sortDays sorts text texted trace at_ fault readPeople readPerson readAskings readAsked readHangs readHung rest brings later) s H locs := ⟨hC.1, hP, hD, hS⟩
                  refine lv_iinc (v := x2_136 + 1) (lv' := [(2, .int (x2_136 + 1)), (0, .ref (ad 0)), (1, .int x1_134)]) hx hb dX10_day_252 hl (k := 2) rfl rfl (by decide) rfl (fun ls hl => ?_)
                  refine lv_goto (tgt := 136) hx hb dX10_day_255 (by decide) ?_
                  exact ih _ _ hf H locs ls hC (lv_sub hl [1, 2, 0] rfl)
            have hf := hj
            refine lv_icmp_ne (tgt := 213) hx hb dX10_day_153 (by decide) (fun c_153 => ?_) (fun c_153 => ?_)
            · have hf := if_f hf c_153
              have e_1 := (Option.some.inj hf)
              subst e_1
              exact J_213 H locs ls hC (lv_sub hl [0, 1, 2] rfl)
            · have hf := if_t hf c_153
              refine lv_aload_n hx hb dX10_day_156 rfl (lv_at hl 0 rfl) ?_
              refine va_get (ci := 10) (v := .ref (ad 6)) (C := RX10) (T := TX10) (N := 28) hx hb hts in_X10 hown hC.1 hC.2.1 0 rfl rfl 7 (by decide) (hts _ q813) (fun _ h9 => h9) rfl dX10_day_157 ?_
              refine lv_iconst (v := 5) hx hb dX10_day_160 (by decide) ?_
              refine lv_iload_n hx hb dX10_day_161 rfl (lv_at hl 2 rfl) ?_
              refine lv_imul hx hb dX10_day_162 ?_
              refine lv_iconst (v := 4) hx hb dX10_day_163 (by decide) ?_
              refine lv_iadd hx hb dX10_day_164 ?_
              obtain ⟨hi_165, hf⟩ := ck_some hf
              refine va_iald hx hb hC.1 hC.2.1 6 0 rfl rfl hi_165 dX10_day_165 ?_
              refine lv_aload_n hx hb dX10_day_166 rfl (lv_at hl 0 rfl) ?_
              refine va_get (ci := 10) (v := .ref (ad 1)) (C := RX10) (T := TX10) (N := 28) hx hb hts in_X10 hown hC.1 hC.2.1 0 rfl rfl 0 (by decide) (hts _ q806) (fun _ h9 => h9) rfl dX10_day_167 ?_
              refine lv_iconst (v := 0) hx hb dX10_day_170 (by decide) ?_
              refine va_iald hx hb hC.1 hC.2.1 1 0 rfl rfl (vp_in_iff.mpr (by decide)) dX10_day_171 ?_
              refine lv_icmp_ne (tgt := 213) hx hb dX10_day_172 (by decide) (fun c_172 => ?_) (fun c_172 => ?_)
              · have hf := if_f hf c_172
                have e_1 := (Option.some.inj hf)
                subst e_1
                exact J_213 H locs ls hC (lv_sub hl [0, 1, 2] rfl)
              · have hf := if_t hf c_172
                refine lv_aload_n hx hb dX10_day_175 rfl (lv_at hl 0 rfl) ?_
                refine lv_aload_n hx hb dX10_day_176 rfl (lv_at hl 0 rfl) ?_
                refine lv_iload_n hx hb dX10_day_177 rfl (lv_at hl 2 rfl) ?_
                obtain ⟨r_178, hcall, hf⟩ := bnd_some hf
                refine hc_i (va_runV (C := RX10) (As := [.int x2_136]) (rest := [.ref (ad 0)]) ⟨hx, hb, hml, hown, hts⟩ (c_m_sleeveOf hcall) (cwV 1 hts (lw_V q956 q958 qs29 q59 q959) rfl rfl rfl (by decide +kernel) ⟨(Nat.le_trans (Nat.le_of_ble_eq_true rfl) hRf), (Nat.le_trans (Nat.le_of_ble_eq_true rfl) hRl)⟩) (pre_V (q0 := 0) (ci := 10) (fun _ _ _ _ h => h) (fun _ _ _ => trivial) hC rfl rfl) rfl rfl hl.1 rfl (lv_room (Nat.le_of_ble_eq_true rfl)) dX10_day_178 ⟨hRc, hRs⟩) hA hC (fun H locs hC => ?_)
                refine lv_iload_n hx hb dX10_day_181 rfl (lv_at hl 2 rfl) ?_
                obtain ⟨w_182, hcall, hf⟩ := bnd_some hf
                refine hc_v (va_runV (C := RX10) (As := [.int r_178, .int x2_136]) (rest := []) ⟨hx, hb, hml, hown, hts⟩ (c_m_remove hcall) (cwV 2 hts (lw_V q984 q986 qs33 q59 q987) rfl rfl rfl (by decide +kernel) ⟨(Nat.le_trans (Nat.le_of_ble_eq_true rfl) hRf), (Nat.le_trans (Nat.le_of_ble_eq_true rfl) hRl)⟩) (pre_V (q0 := 0) (ci := 10) (fun _ _ _ _ h => h) (fun _ _ _ => trivial) hC rfl rfl) rfl rfl hl.1 rfl (lv_room (Nat.le_of_ble_eq_true rfl)) dX10_day_182 ⟨hRc, hRs⟩) hA hC (fun H locs hC => ?_)
                refine lv_aload_n hx hb dX10_day_185 rfl (lv_at hl 0 rfl) ?_
                refine va_get (ci := 10) (v := .ref (ad 1)) (C := RX10) (T := TX10) (N := 28) hx hb hts in_X10 hown hC.1 hC.2.1 0 rfl rfl 0 (by decide) (hts _ q806) (fun _ h9 => h9) rfl dX10_day_186 ?_
                refine lv_iconst (v := 3) hx hb dX10_day_189 (by decide) ?_
                refine lv_iload_n hx hb dX10_day_190 rfl (lv_at hl 2 rfl) ?_
                refine lv_iadd hx hb dX10_day_191 ?_
                refine lv_iconst (v := 3) hx hb dX10_day_192 (by decide) ?_
                obtain ⟨hi_193, hf⟩ := ck_some hf
                refine va_iast hx hb hC.1 hC.2.1 hC.2.2.1 hC.2.2.2 1 0 rfl rfl hi_193 dX10_day_193 (fun H locs hP hD hS => ?_)
                have hC : HC D gcl (gty d) A (mw d ad (upd w_182 (3 + x2_136).toNatClampNeg 3) isKept people room work price askings asked hangs hung tenths sortWorth sortDays sorts text texted trace at_ fault readPeople readPerson readAskings readAsked readHangs readHung rest brings later) s H locs := ⟨hC.1, hP, hD, hS⟩
                refine lv_aload_n hx hb dX10_day_194 rfl (lv_at hl 0 rfl) ?_
                refine va_get (ci := 10) (v := .ref (ad 1)) (C := RX10) (T := TX10) (N := 28) hx hb hts in_X10 hown hC.1 hC.2.1 0 rfl rfl 0 (by decide) (hts _ q806) (fun _ h9 => h9) rfl dX10_day_195 ?_
                refine lv_iconst (v := 2) hx hb dX10_day_198 (by decide) ?_
                refine lv_dup2_11 hx hb dX10_day_199 rfl rfl ?_
                refine va_iald hx hb hC.1 hC.2.1 1 0 rfl rfl (vp_in_iff.mpr (by decide)) dX10_day_200 ?_
                refine lv_aload_n hx hb dX10_day_201 rfl (lv_at hl 0 rfl) ?_
                refine va_get (ci := 10) (v := .ref (ad 6)) (C := RX10) (T := TX10) (N := 28) hx hb hts in_X10 hown hC.1 hC.2.1 0 rfl rfl 7 (by decide) (hts _ q813) (fun _ h9 => h9) rfl dX10_day_202 ?_
                refine lv_iconst (v := 5) hx hb dX10_day_205 (by decide) ?_
                refine lv_iload_n hx hb dX10_day_206 rfl (lv_at hl 2 rfl) ?_
                refine lv_imul hx hb dX10_day_207 ?_
                refine lv_iconst (v := 3) hx hb dX10_day_208 (by decide) ?_
                refine lv_iadd hx hb dX10_day_209 ?_
                obtain ⟨hi_210, hf⟩ := ck_some hf
                refine va_iald hx hb hC.1 hC.2.1 6 0 rfl rfl hi_210 dX10_day_210 ?_
                refine lv_iadd hx hb dX10_day_211 ?_
                refine va_iast hx hb hC.1 hC.2.1 hC.2.2.1 hC.2.2.2 1 0 rfl rfl (vp_in_iff.mpr (by decide)) dX10_day_212 (fun H locs hP hD hS => ?_)
                have hC : HC D gcl (gty d) A (mw d ad (upd (upd w_182 (3 + x2_136).toNatClampNeg 3) (2 : Int32).toNatClampNeg (((upd w_182 (3 + x2_136).toNatClampNeg 3) (2 : Int32).toNatClampNeg) + (asked ((5 * x2_136) + 3).toNatClampNeg))) isKept people room work price askings asked hangs hung tenths sortWorth sortDays sorts text texted trace at_ fault readPeople readPerson readAskings readAsked readHangs readHung rest brings later) s H locs := ⟨hC.1, hP, hD, hS⟩
                have e_1 := (Option.some.inj hf)
                subst e_1
                exact J_213 H locs ls hC (lv_sub hl [0, 1, 2] rfl)
      exact L_136 _ _ _ hL H locs ls hC (lv_sub hl [1, 2, 0] rfl)
    have L_18 : ∀ (n_18 : Nat) (x1_18 : Int32) (x2_18 : Int32) (w_18 : Nat → Int32), m_day_L18 people work asked hangs hung n_18 x1_18 x2_18 w_18 = some (x1_134, w_134) → ∀ (H : Heap) (locs : List Loc) (ls : Array Slot), HC D gcl (gty d) A (mw d ad w_18 isKept people room work price askings asked hangs hung tenths sortWorth sortDays sorts text texted trace at_ fault readPeople readPerson readAskings readAsked readHangs readHung rest brings later) s H locs → lv_has ls 5 [(0, .ref (ad 0)), (1, .int x1_18), (2, .int x2_18)] → W p l e R s m args below meth c H locs cells slots Q (F0 m 18 ls []) := by
      intro n_18
      induction n_18 with
      | zero => intro _ _ _ hf; cases hf
      | succ n_18 ih =>
        intro x1_18 x2_18 w_18 hf H locs ls hC hl
        rw [m_day_L18_s] at hf
        refine lv_iload_n hx hb dX10_day_18 rfl (lv_at hl 2 rfl) ?_
        refine lv_aload_n hx hb dX10_day_19 rfl (lv_at hl 0 rfl) ?_
        refine va_get (ci := 10) (v := .int people) (C := RX10) (T := TX10) (N := 28) hx hb hts in_X10 hown hC.1 hC.2.1 0 rfl rfl 2 (by decide) (hts _ q808) (fun _ h9 => h9) rfl dX10_day_20 ?_
        refine lv_icmp_ge (tgt := 134) hx hb dX10_day_23 (by decide) (fun c_23 => ?_) (fun c_23 => ?_)
        · have hf := if_t hf c_23
          obtain ⟨e_1, e_2⟩ := so_2 (Option.some.inj hf)
          subst e_1
          subst e_2
          exact X_18 H locs ls hC (lv_sub hl [0, 1] rfl)
        · have hf := if_f hf c_23
          refine lv_iconst (v := 0) hx hb dX10_day_26 (by decide) ?_
          refine lv_istore_n (lv' := [(3, .int 0), (0, .ref (ad 0)), (1, .int x1_18), (2, .int x2_18)]) hx hb dX10_day_27 rfl hl (by decide) rfl (fun ls hl => ?_)
          obtain ⟨x1_128, w_128, hL, hf⟩ := bnd2_some hf
          have X_28 : ∀ (H : Heap) (locs : List Loc) (ls : Array Slot), HC D gcl (gty d) A (mw d ad w_128 isKept people room work price askings asked hangs hung tenths sortWorth sortDays sorts text texted trace at_ fault readPeople readPerson readAskings readAsked readHangs readHung rest brings later) s H locs → lv_has ls 5 [(0, .ref (ad 0)), (1, .int x1_128), (2, .int x2_18)] → W p l e R s m args below meth c H locs cells slots Q (F0 m 128 ls []) := by
            intro H locs ls hC hl
            refine lv_iinc (v := x2_18 + 1) (lv' := [(2, .int (x2_18 + 1)), (0, .ref (ad 0)), (1, .int x1_128)]) hx hb dX10_day_128 hl (k := 2) rfl rfl (by decide) rfl (fun ls hl => ?_)
            refine lv_goto (tgt := 18) hx hb dX10_day_131 (by decide) ?_
            exact ih _ _ _ hf H locs ls hC (lv_sub hl [1, 2, 0] rfl)
          have L_28 : ∀ (n_28 : Nat) (x1_28 : Int32) (x3_28 : Int32) (w_28 : Nat → Int32), m_day_L28 x2_18 work asked hangs hung n_28 x1_28 x3_28 w_28 = some (x1_128, w_128) → ∀ (H : Heap) (locs : List Loc) (ls : Array Slot), HC D gcl (gty d) A (mw d ad w_28 isKept people room work price askings asked hangs hung tenths sortWorth sortDays sorts text texted trace at_ fault readPeople readPerson readAskings readAsked readHangs readHung rest brings later) s H locs → lv_has ls 5 [(0, .ref (ad 0)), (1, .int x1_28), (2, .int x2_18), (3, .int x3_28)] → W p l e R s m args below meth c H locs cells slots Q (F0 m 28 ls []) := by
            intro n_28
            induction n_28 with
            | zero => intro _ _ _ hf; cases hf
            | succ n_28 ih =>
              intro x1_28 x3_28 w_28 hf H locs ls hC hl
              rw [m_day_L28_s] at hf
              refine lv_iload_n hx hb dX10_day_28 rfl (lv_at hl 3 rfl) ?_
              refine lv_aload_n hx hb dX10_day_29 rfl (lv_at hl 0 rfl) ?_
              refine va_get (ci := 10) (v := .ref (ad 4)) (C := RX10) (T := TX10) (N := 28) hx hb hts in_X10 hown hC.1 hC.2.1 0 rfl rfl 4 (by decide) (hts _ q810) (fun _ h9 => h9) rfl dX10_day_30 ?_
              refine lv_iload_n hx hb dX10_day_33 rfl (lv_at hl 2 rfl) ?_
              obtain ⟨hi_34, hf⟩ := ck_some hf
              refine va_iald hx hb hC.1 hC.2.1 4 0 rfl rfl hi_34 dX10_day_34 ?_
              refine lv_icmp_ge (tgt := 128) hx hb dX10_day_35 (by decide) (fun c_35 => ?_) (fun c_35 => ?_)
              · have hf := if_t hf c_35
                obtain ⟨e_1, e_2⟩ := so_2 (Option.some.inj hf)
                subst e_1
                subst e_2
                exact X_28 H locs ls hC (lv_sub hl [0, 1, 2] rfl)
              · have hf := if_f hf c_35
                refine lv_aload_n hx hb dX10_day_38 rfl (lv_at hl 0 rfl) ?_
                refine lv_iload_n hx hb dX10_day_39 rfl (lv_at hl 2 rfl) ?_
                obtain ⟨r_40, hcall, hf⟩ := bnd_some hf
                refine hc_i (va_runV (C := RX10) (As := [.int x2_18]) (rest := []) ⟨hx, hb, hml, hown, hts⟩ (c_m_firstFree hcall) (cwV 1 hts (lw_V q1004 q1006 qs34 q59 q1007) rfl rfl rfl (by decide +kernel) ⟨(Nat.le_trans (Nat.le_of_ble_eq_true rfl) hRf), (Nat.le_trans (Nat.le_of_ble_eq_true rfl) hRl)⟩) (pre_V (q0 := 0) (ci := 10) (fun _ _ _ _ h => h) (fun _ _ _ => trivial) hC rfl rfl) rfl rfl hl.1 rfl (lv_room (Nat.le_of_ble_eq_true rfl)) dX10_day_40 ⟨hRc, hRs⟩) hA hC (fun H locs hC => ?_)
                refine lv_istore (lv' := [(4, .int r_40), (0, .ref (ad 0)), (1, .int x1_28), (2, .int x2_18), (3, .int x3_28)]) hx hb dX10_day_43 hl (by decide) rfl (fun ls hl => ?_)
                refine lv_iload hx hb dX10_day_45 (lv_at hl 0 rfl) ?_
                refine lv_bipush (v := (-9)) hx hb dX10_day_47 (by decide) ?_
                refine lv_icmp_ne (tgt := 55) hx hb dX10_day_49 (by decide) (fun c_49 => ?_) (fun c_49 => ?_)
                · have hf := if_f hf c_49
                  refine lv_aload_n hx hb dX10_day_55 rfl (lv_at hl 1 rfl) ?_
                  refine va_get (ci := 10) (v := .ref (ad 1)) (C := RX10) (T := TX10) (N := 28) hx hb hts in_X10 hown hC.1 hC.2.1 0 rfl rfl 0 (by decide) (hts _ q806) (fun _ h9 => h9) rfl dX10_day_56 ?_
                  refine lv_bipush (v := 11) hx hb dX10_day_59 (by decide) ?_
                  refine lv_iload hx hb dX10_day_61 (lv_at hl 0 rfl) ?_
                  refine lv_iadd hx hb dX10_day_63 ?_
                  refine lv_dup2_11 hx hb dX10_day_64 rfl rfl ?_
                  obtain ⟨hi_65, hf⟩ := ck_some hf
                  refine va_iald hx hb hC.1 hC.2.1 1 0 rfl rfl hi_65 dX10_day_65 ?_
                  refine lv_iconst (v := 1) hx hb dX10_day_66 (by decide) ?_
                  refine lv_isub hx hb dX10_day_67 ?_
                  obtain ⟨hi_68, hf⟩ := ck_some hf
                  refine va_iast hx hb hC.1 hC.2.1 hC.2.2.1 hC.2.2.2 1 0 rfl rfl hi_68 dX10_day_68 (fun H locs hP hD hS => ?_)
                  have hC : HC D gcl (gty d) A (mw d ad (upd w_28 (11 + r_40).toNatClampNeg ((w_28 (11 + r_40).toNatClampNeg) - 1)) isKept people room work price askings asked hangs hung tenths sortWorth sortDays sorts text texted trace at_ fault readPeople readPerson readAskings readAsked readHangs readHung rest brings later) s H locs := ⟨hC.1, hP, hD, hS⟩
                  refine lv_aload_n hx hb dX10_day_69 rfl (lv_at hl 1 rfl) ?_
                  refine va_get (ci := 10) (v := .ref (ad 1)) (C := RX10) (T := TX10) (N := 28) hx hb hts in_X10 hown hC.1 hC.2.1 0 rfl rfl 0 (by decide) (hts _ q806) (fun _ h9 => h9) rfl dX10_day_70 ?_
                  refine lv_bipush (v := 11) hx hb dX10_day_73 (by decide) ?_
                  refine lv_iload hx hb dX10_day_75 (lv_at hl 0 rfl) ?_
                  refine lv_iadd hx hb dX10_day_77 ?_
                  obtain ⟨hi_78, hf⟩ := ck_some hf
                  refine va_iald hx hb hC.1 hC.2.1 1 0 rfl rfl hi_78 dX10_day_78 ?_
                  refine lv_if_ne (tgt := 122) hx hb dX10_day_79 (by decide) (fun c_79 => ?_) (fun c_79 => ?_)
                  · have hf := if_f hf c_79
                    refine lv_iinc (v := x3_28 + 1) (lv' := [(3, .int (x3_28 + 1)), (4, .int r_40), (0, .ref (ad 0)), (1, .int x1_28), (2, .int x2_18)]) hx hb dX10_day_122 hl (k := 4) rfl rfl (by decide) rfl (fun ls hl => ?_)
                    refine lv_goto (tgt := 28) hx hb dX10_day_125 (by decide) ?_
                    exact ih _ _ _ hf H locs ls hC (lv_sub hl [2, 3, 4, 0] rfl)
                  · have hf := if_t hf c_79
                    refine lv_aload_n hx hb dX10_day_82 rfl (lv_at hl 1 rfl) ?_
                    refine lv_iload_n hx hb dX10_day_83 rfl (lv_at hl 3 rfl) ?_
                    refine lv_iload hx hb dX10_day_84 (lv_at hl 0 rfl) ?_
                    obtain ⟨w_86, hcall, hf⟩ := bnd_some hf
                    refine hc_v (va_runV (C := RX10) (As := [.int x2_18, .int r_40]) (rest := []) ⟨hx, hb, hml, hown, hts⟩ (c_m_remove hcall) (cwV 2 hts (lw_V q984 q986 qs33 q59 q987) rfl rfl rfl (by decide +kernel) ⟨(Nat.le_trans (Nat.le_of_ble_eq_true rfl) hRf), (Nat.le_trans (Nat.le_of_ble_eq_true rfl) hRl)⟩) (pre_V (q0 := 0) (ci := 10) (fun _ _ _ _ h => h) (fun _ _ _ => trivial) hC rfl rfl) rfl rfl hl.1 rfl (lv_room (Nat.le_of_ble_eq_true rfl)) dX10_day_86 ⟨hRc, hRs⟩) hA hC (fun H locs hC => ?_)
                    refine lv_aload_n hx hb dX10_day_89 rfl (lv_at hl 1 rfl) ?_
                    refine va_get (ci := 10) (v := .ref (ad 1)) (C := RX10) (T := TX10) (N := 28) hx hb hts in_X10 hown hC.1 hC.2.1 0 rfl rfl 0 (by decide) (hts _ q806) (fun _ h9 => h9) rfl dX10_day_90 ?_
                    refine lv_iconst (v := 3) hx hb dX10_day_93 (by decide) ?_
                    refine lv_iload hx hb dX10_day_94 (lv_at hl 0 rfl) ?_
                    refine lv_iadd hx hb dX10_day_96 ?_
                    refine lv_iconst (v := 2) hx hb dX10_day_97 (by decide) ?_
                    obtain ⟨hi_98, hf⟩ := ck_some hf
                    refine va_iast hx hb hC.1 hC.2.1 hC.2.2.1 hC.2.2.2 1 0 rfl rfl hi_98 dX10_day_98 (fun H locs hP hD hS => ?_)
                    have hC : HC D gcl (gty d) A (mw d ad (upd w_86 (3 + r_40).toNatClampNeg 2) isKept people room work price askings asked hangs hung tenths sortWorth sortDays sorts text texted trace at_ fault readPeople readPerson readAskings readAsked readHangs readHung rest brings later) s H locs := ⟨hC.1, hP, hD, hS⟩
                    refine lv_aload_n hx hb dX10_day_99 rfl (lv_at hl 1 rfl) ?_
                    refine va_get (ci := 10) (v := .ref (ad 1)) (C := RX10) (T := TX10) (N := 28) hx hb hts in_X10 hown hC.1 hC.2.1 0 rfl rfl 0 (by decide) (hts _ q806) (fun _ h9 => h9) rfl dX10_day_100 ?_
                    refine lv_iconst (v := 1) hx hb dX10_day_103 (by decide) ?_
                    refine lv_dup2_11 hx hb dX10_day_104 rfl rfl ?_
                    refine va_iald hx hb hC.1 hC.2.1 1 0 rfl rfl (vp_in_iff.mpr (by decide)) dX10_day_105 ?_
                    refine lv_aload_n hx hb dX10_day_106 rfl (lv_at hl 1 rfl) ?_
                    refine va_get (ci := 10) (v := .ref (ad 6)) (C := RX10) (T := TX10) (N := 28) hx hb hts in_X10 hown hC.1 hC.2.1 0 rfl rfl 7 (by decide) (hts _ q813) (fun _ h9 => h9) rfl dX10_day_107 ?_
                    refine lv_iconst (v := 5) hx hb dX10_day_110 (by decide) ?_
                    refine lv_iload hx hb dX10_day_111 (lv_at hl 0 rfl) ?_
                    refine lv_imul hx hb dX10_day_113 ?_
                    refine lv_iconst (v := 3) hx hb dX10_day_114 (by decide) ?_
                    refine lv_iadd hx hb dX10_day_115 ?_
                    obtain ⟨hi_116, hf⟩ := ck_some hf
                    refine va_iald hx hb hC.1 hC.2.1 6 0 rfl rfl hi_116 dX10_day_116 ?_
                    refine lv_iadd hx hb dX10_day_117 ?_
                    refine va_iast hx hb hC.1 hC.2.1 hC.2.2.1 hC.2.2.2 1 0 rfl rfl (vp_in_iff.mpr (by decide)) dX10_day_118 (fun H locs hP hD hS => ?_)
                    have hC : HC D gcl (gty d) A (mw d ad (upd (upd w_86 (3 + r_40).toNatClampNeg 2) (1 : Int32).toNatClampNeg (((upd w_86 (3 + r_40).toNatClampNeg 2) (1 : Int32).toNatClampNeg) + (asked ((5 * r_40) + 3).toNatClampNeg))) isKept people room work price askings asked hangs hung tenths sortWorth sortDays sorts text texted trace at_ fault readPeople readPerson readAskings readAsked readHangs readHung rest brings later) s H locs := ⟨hC.1, hP, hD, hS⟩
                    refine lv_iinc (v := x1_28 + 1) (lv' := [(1, .int (x1_28 + 1)), (4, .int r_40), (0, .ref (ad 0)), (2, .int x2_18), (3, .int x3_28)]) hx hb dX10_day_119 hl (k := 2) rfl rfl (by decide) rfl (fun ls hl => ?_)
                    refine lv_iinc (v := x3_28 + 1) (lv' := [(3, .int (x3_28 + 1)), (1, .int (x1_28 + 1)), (4, .int r_40), (0, .ref (ad 0)), (2, .int x2_18)]) hx hb dX10_day_122 hl (k := 4) rfl rfl (by decide) rfl (fun ls hl => ?_)
                    refine lv_goto (tgt := 28) hx hb dX10_day_125 (by decide) ?_
                    exact ih _ _ _ hf H locs ls hC (lv_sub hl [3, 1, 4, 0] rfl)
                · have hf := if_t hf c_49
                  refine lv_goto (tgt := 128) hx hb dX10_day_52 (by decide) ?_
                  obtain ⟨e_1, e_2⟩ := so_2 (Option.some.inj hf)
                  subst e_1
                  subst e_2
                  exact X_28 H locs ls hC (lv_sub hl [1, 2, 3] rfl)
          exact L_28 _ _ _ _ hL H locs ls hC (lv_sub hl [1, 2, 3, 0] rfl)
    exact L_18 _ _ _ _ hL H locs ls hC (lv_sub hl [2, 1, 0] rfl)
  · have hf := if_t hf c_8
    refine lv_bipush (v := (-2)) hx hb dX10_day_11 (by decide) ?_
    obtain ⟨e_1, e_2⟩ := so_2 (Option.some.inj hf)
    subst e_1
    subst e_2
    exact K H locs ls _ rfl hC dX10_day_13
set_option maxRecDepth 100000 in
theorem c_m_day {l : Launch} {sz : Nat} {D : va_G} {d : Nat → ClassId} {ad : Nat → Nat} {w : Nat → Int32} {isKept : Nat → Int32} {people : Int32} {room : Nat → Int32} {work : Nat → Int32} {price : Nat → Int32} {askings : Int32} {asked : Nat → Int32} {hangs : Int32} {hung : Nat → Int32} {tenths : Nat → Int32} {sortWorth : Nat → Int32} {sortDays : Nat → Int32} {sorts : Int32} {text : Nat → Int32} {texted : Int32} {trace : Int64} {at_ : Int32} {fault : Int32} {readPeople : Int32} {readPerson : Nat → Int32} {readAskings : Int32} {readAsked : Nat → Int32} {readHangs : Int32} {readHung : Nat → Int32} {rest : Nat → Int32} {brings : Nat → Int64} {later : Nat → Int64} {r : Int32} {w_r : Nat → Int32} (hf : m_day w people work askings asked hangs hung = some (r, w_r)) : MI l yX10_day (ws_ yX10_day cX10_day 5 (some .int)) { frames := 2, cells := 0, slots := 0, locals := 46 } D gcl (gty d) (fun _ => True) (mw d ad w isKept people room work price askings asked hangs hung tenths sortWorth sortDays sorts text texted trace at_ fault readPeople readPerson readAskings readAsked readHangs readHung rest brings later) (mw d ad w_r isKept people room work price askings asked hangs hung tenths sortWorth sortDays sorts text texted trace at_ fault readPeople readPerson readAskings readAsked readHangs readHung rest brings later) sz [.ref (ad 0)] r :=
  MI.of (by decide) [.ref (ad 0)] [(0, .ref (ad 0))] (Nat.le_of_ble_eq_true rfl) rfl (fun p e s m below meth c ls Q hx hb hml hown hts hN hA hC hl K => w_m_day hx hb hml hown hts hA (Nat.le_refl _) (Nat.le_refl _) (Nat.le_refl _) (Nat.le_refl _) hf hC hl K)

def m_slips_L4 (w : Nat → Int32) (people : Int32) : Nat → Int32 → Int32 → Option (Int32)
  | 0, _, _ => none
  | n_4 + 1, x1_4, x2_4 =>
  if people ≤ x2_4 then (some x1_4) else
  ck (19 + x2_4) 300 <| m_slips_L4 w people n_4 (x1_4 + (w (19 + x2_4).toNatClampNeg)) (x2_4 + 1) 
theorem m_slips_L4_s (w : Nat → Int32) (people : Int32) (n_4 : Nat) (x1_4 : Int32) (x2_4 : Int32) : m_slips_L4 w people (n_4 + 1) x1_4 x2_4 = (
  if people ≤ x2_4 then (some x1_4) else
  ck (19 + x2_4) 300 <| m_slips_L4 w people n_4 (x1_4 + (w (19 + x2_4).toNatClampNeg)) (x2_4 + 1) ) := rfl
def m_slips (w : Nat → Int32) (people : Int32) : Option (Int32) :=
  bnd (m_slips_L4 w people g_fuel 0 0 ) (fun x1_30 =>
  some x1_30)
set_option maxHeartbeats 4000000 in
set_option maxRecDepth 100000 in
theorem w_m_slips {p : Program} {l : Launch} {e : Env} {R : Room} {s : State} {m : MethodId} {args : Array Value} {below : List Frame} {meth : Method} {c : Code} {H : Heap} {locs : List Loc} {cells slots : Nat} {Q : State → Prop} {A : Nat → Prop} {ls : Array Slot} {D : va_G} {d : Nat → ClassId} {ad : Nat → Nat} {w : Nat → Int32} {isKept : Nat → Int32} {people : Int32} {room : Nat → Int32} {work : Nat → Int32} {price : Nat → Int32} {askings : Int32} {asked : Nat → Int32} {hangs : Int32} {hung : Nat → Int32} {tenths : Nat → Int32} {sortWorth : Nat → Int32} {sortDays : Nat → Int32} {sorts : Int32} {text : Nat → Int32} {texted : Int32} {trace : Int64} {at_ : Int32} {fault : Int32} {readPeople : Int32} {readPerson : Nat → Int32} {readAskings : Int32} {readAsked : Nat → Int32} {readHangs : Int32} {readHung : Nat → Int32} {rest : Nat → Int32} {brings : Nat → Int64} {later : Nat → Int64} {r : Int32} (hx : p.tables.exec = Jvm.exec) (hb : c.code = cX10_slips) (hml : c.maxLocals = 3) (hown : s.vm.findClass RX10 = some m.cls) (hts : ∀ w ∈ lw_all, w.before args s = true) (hA : ∀ q, s.heap.size ≤ q → A q) (hRf : 0 ≤ R.frames) (hRl : 0 ≤ R.locals) (hRc : cells ≤ R.cells) (hRs : slots ≤ R.slots) (hf : m_slips w people = some r) (hC : HC D gcl (gty d) A (mw d ad w isKept people room work price askings asked hangs hung tenths sortWorth sortDays sorts text texted trace at_ fault readPeople readPerson readAskings readAsked readHangs readHung rest brings later) s H locs) (hl : lv_has ls 3 [(0, .ref (ad 0))]) (K : ∀ (H : Heap) (locs : List Loc) (ls : Array Slot) (pc : Nat), narrow .int (.int r) = .int r → HC D gcl (gty d) A (mw d ad w isKept people room work price askings asked hangs hung tenths sortWorth sortDays sorts text texted trace at_ fault readPeople readPerson readAskings readAsked readHangs readHung rest brings later) s H locs → decode cX10_slips pc = .ok (.ireturn, 1) → W p l e R s m args below meth c H locs cells slots Q (F0 m pc ls [.int r])) : W p l e R s m args below meth c H locs cells slots Q (F0 m 0 ls []) := by
  unfold m_slips at hf
  refine lv_iconst (v := 0) hx hb dX10_slips_0 (by decide) ?_
  refine lv_istore_n (lv' := [(1, .int 0), (0, .ref (ad 0))]) hx hb dX10_slips_1 rfl hl (by decide) rfl (fun ls hl => ?_)
  refine lv_iconst (v := 0) hx hb dX10_slips_2 (by decide) ?_
  refine lv_istore_n (lv' := [(2, .int 0), (1, .int 0), (0, .ref (ad 0))]) hx hb dX10_slips_3 rfl hl (by decide) rfl (fun ls hl => ?_)
  obtain ⟨x1_30, hL, hf⟩ := bnd_some hf
  have X_4 : ∀ (H : Heap) (locs : List Loc) (ls : Array Slot), HC D gcl (gty d) A (mw d ad w isKept people room work price askings asked hangs hung tenths sortWorth sortDays sorts text texted trace at_ fault readPeople readPerson readAskings readAsked readHangs readHung rest brings later) s H locs → lv_has ls 3 [(1, .int x1_30)] → W p l e R s m args below meth c H locs cells slots Q (F0 m 30 ls []) := by
    intro H locs ls hC hl
    refine lv_iload_n hx hb dX10_slips_30 rfl (lv_at hl 0 rfl) ?_
    have e_1 := (Option.some.inj hf)
    subst e_1
    exact K H locs ls _ rfl hC dX10_slips_31
  have L_4 : ∀ (n_4 : Nat) (x1_4 : Int32) (x2_4 : Int32), m_slips_L4 w people n_4 x1_4 x2_4 = some x1_30 → ∀ (H : Heap) (locs : List Loc) (ls : Array Slot), HC D gcl (gty d) A (mw d ad w isKept people room work price askings asked hangs hung tenths sortWorth sortDays sorts text texted trace at_ fault readPeople readPerson readAskings readAsked readHangs readHung rest brings later) s H locs → lv_has ls 3 [(0, .ref (ad 0)), (1, .int x1_4), (2, .int x2_4)] → W p l e R s m args below meth c H locs cells slots Q (F0 m 4 ls []) := by
    intro n_4
    induction n_4 with
    | zero => intro _ _ hf; cases hf
    | succ n_4 ih =>
      intro x1_4 x2_4 hf H locs ls hC hl
      rw [m_slips_L4_s] at hf
      refine lv_iload_n hx hb dX10_slips_4 rfl (lv_at hl 2 rfl) ?_
      refine lv_aload_n hx hb dX10_slips_5 rfl (lv_at hl 0 rfl) ?_
      refine va_get (ci := 10) (v := .int people) (C := RX10) (T := TX10) (N := 28) hx hb hts in_X10 hown hC.1 hC.2.1 0 rfl rfl 2 (by decide) (hts _ q808) (fun _ h9 => h9) rfl dX10_slips_6 ?_
      refine lv_icmp_ge (tgt := 30) hx hb dX10_slips_9 (by decide) (fun c_9 => ?_) (fun c_9 => ?_)
      · have hf := if_t hf c_9
        have e_1 := (Option.some.inj hf)
        subst e_1
        exact X_4 H locs ls hC (lv_sub hl [1] rfl)
      · have hf := if_f hf c_9
        refine lv_iload_n hx hb dX10_slips_12 rfl (lv_at hl 1 rfl) ?_
        refine lv_aload_n hx hb dX10_slips_13 rfl (lv_at hl 0 rfl) ?_
        refine va_get (ci := 10) (v := .ref (ad 1)) (C := RX10) (T := TX10) (N := 28) hx hb hts in_X10 hown hC.1 hC.2.1 0 rfl rfl 0 (by decide) (hts _ q806) (fun _ h9 => h9) rfl dX10_slips_14 ?_
        refine lv_bipush (v := 19) hx hb dX10_slips_17 (by decide) ?_
        refine lv_iload_n hx hb dX10_slips_19 rfl (lv_at hl 2 rfl) ?_
        refine lv_iadd hx hb dX10_slips_20 ?_
        obtain ⟨hi_21, hf⟩ := ck_some hf
        refine va_iald hx hb hC.1 hC.2.1 1 0 rfl rfl hi_21 dX10_slips_21 ?_
        refine lv_iadd hx hb dX10_slips_22 ?_
        refine lv_istore_n (lv' := [(1, .int (x1_4 + (w (19 + x2_4).toNatClampNeg))), (0, .ref (ad 0)), (2, .int x2_4)]) hx hb dX10_slips_23 rfl hl (by decide) rfl (fun ls hl => ?_)
        refine lv_iinc (v := x2_4 + 1) (lv' := [(2, .int (x2_4 + 1)), (1, .int (x1_4 + (w (19 + x2_4).toNatClampNeg))), (0, .ref (ad 0))]) hx hb dX10_slips_24 hl (k := 2) rfl rfl (by decide) rfl (fun ls hl => ?_)
        refine lv_goto (tgt := 4) hx hb dX10_slips_27 (by decide) ?_
        exact ih _ _ hf H locs ls hC (lv_sub hl [2, 1, 0] rfl)
  exact L_4 _ _ _ hL H locs ls hC (lv_sub hl [2, 1, 0] rfl)
set_option maxRecDepth 100000 in
theorem c_m_slips {l : Launch} {sz : Nat} {D : va_G} {d : Nat → ClassId} {ad : Nat → Nat} {w : Nat → Int32} {isKept : Nat → Int32} {people : Int32} {room : Nat → Int32} {work : Nat → Int32} {price : Nat → Int32} {askings : Int32} {asked : Nat → Int32} {hangs : Int32} {hung : Nat → Int32} {tenths : Nat → Int32} {sortWorth : Nat → Int32} {sortDays : Nat → Int32} {sorts : Int32} {text : Nat → Int32} {texted : Int32} {trace : Int64} {at_ : Int32} {fault : Int32} {readPeople : Int32} {readPerson : Nat → Int32} {readAskings : Int32} {readAsked : Nat → Int32} {readHangs : Int32} {readHung : Nat → Int32} {rest : Nat → Int32} {brings : Nat → Int64} {later : Nat → Int64} {r : Int32} (hf : m_slips w people = some r) : MI l yX10_slips (ws_ yX10_slips cX10_slips 3 (some .int)) { frames := 0, cells := 0, slots := 0, locals := 0 } D gcl (gty d) (fun _ => True) (mw d ad w isKept people room work price askings asked hangs hung tenths sortWorth sortDays sorts text texted trace at_ fault readPeople readPerson readAskings readAsked readHangs readHung rest brings later) (mw d ad w isKept people room work price askings asked hangs hung tenths sortWorth sortDays sorts text texted trace at_ fault readPeople readPerson readAskings readAsked readHangs readHung rest brings later) sz [.ref (ad 0)] r :=
  MI.of (by decide) [.ref (ad 0)] [(0, .ref (ad 0))] (Nat.le_of_ble_eq_true rfl) rfl (fun p e s m below meth c ls Q hx hb hml hown hts hN hA hC hl K => w_m_slips hx hb hml hown hts hA (Nat.le_refl _) (Nat.le_refl _) (Nat.le_refl _) (Nat.le_refl _) hf hC hl K)

def m_now (w : Nat → Int32) (people : Int32) (x1 : Int32) : Option (Int32) :=
  if x1 = 0 then (some (w (0 : Int32).toNatClampNeg)) else
  if x1 = 1 then (some (w (1 : Int32).toNatClampNeg)) else
  if x1 = 2 then (some (w (2 : Int32).toNatClampNeg)) else
  if x1 = 3 then (bnd (m_slips w people) fun r_58 =>
  some r_58) else
  if x1 = 4 then (some (w (43 : Int32).toNatClampNeg)) else
  some (-1)
set_option maxHeartbeats 4000000 in
set_option maxRecDepth 100000 in
theorem w_m_now {p : Program} {l : Launch} {e : Env} {R : Room} {s : State} {m : MethodId} {args : Array Value} {below : List Frame} {meth : Method} {c : Code} {H : Heap} {locs : List Loc} {cells slots : Nat} {Q : State → Prop} {A : Nat → Prop} {ls : Array Slot} {D : va_G} {d : Nat → ClassId} {ad : Nat → Nat} {w : Nat → Int32} {isKept : Nat → Int32} {people : Int32} {room : Nat → Int32} {work : Nat → Int32} {price : Nat → Int32} {askings : Int32} {asked : Nat → Int32} {hangs : Int32} {hung : Nat → Int32} {tenths : Nat → Int32} {sortWorth : Nat → Int32} {sortDays : Nat → Int32} {sorts : Int32} {text : Nat → Int32} {texted : Int32} {trace : Int64} {at_ : Int32} {fault : Int32} {readPeople : Int32} {readPerson : Nat → Int32} {readAskings : Int32} {readAsked : Nat → Int32} {readHangs : Int32} {readHung : Nat → Int32} {rest : Nat → Int32} {brings : Nat → Int64} {later : Nat → Int64} {x1 : Int32} {r : Int32} (hx : p.tables.exec = Jvm.exec) (hb : c.code = cX10_now) (hml : c.maxLocals = 2) (hown : s.vm.findClass RX10 = some m.cls) (hts : ∀ w ∈ lw_all, w.before args s = true) (hA : ∀ q, s.heap.size ≤ q → A q) (hRf : 1 ≤ R.frames) (hRl : 22 ≤ R.locals) (hRc : cells ≤ R.cells) (hRs : slots ≤ R.slots) (hf : m_now w people x1 = some r) (hC : HC D gcl (gty d) A (mw d ad w isKept people room work price askings asked hangs hung tenths sortWorth sortDays sorts text texted trace at_ fault readPeople readPerson readAskings readAsked readHangs readHung rest brings later) s H locs) (hl : lv_has ls 2 [(0, .ref (ad 0)), (1, .int x1)]) (K : ∀ (H : Heap) (locs : List Loc) (ls : Array Slot) (pc : Nat), narrow .int (.int r) = .int r → HC D gcl (gty d) A (mw d ad w isKept people room work price askings asked hangs hung tenths sortWorth sortDays sorts text texted trace at_ fault readPeople readPerson readAskings readAsked readHangs readHung rest brings later) s H locs → decode cX10_now pc = .ok (.ireturn, 1) → W p l e R s m args below meth c H locs cells slots Q (F0 m pc ls [.int r])) : W p l e R s m args below meth c H locs cells slots Q (F0 m 0 ls []) := by
  unfold m_now at hf
  refine lv_iload_n hx hb dX10_now_0 rfl (lv_at hl 1 rfl) ?_
  by_cases c_1_0 : x1 = 0
  · have hf := if_t hf c_1_0
    refine lv_tableIn (tgt := 36) hx hb dX10_now_1 (by rw [c_1_0]; decide) (by rw [c_1_0]; decide) (by rw [c_1_0]; rfl) (by decide) ?_
    refine lv_aload_n hx hb dX10_now_36 rfl (lv_at hl 0 rfl) ?_
    refine va_get (ci := 10) (v := .ref (ad 1)) (C := RX10) (T := TX10) (N := 28) hx hb hts in_X10 hown hC.1 hC.2.1 0 rfl rfl 0 (by decide) (hts _ q806) (fun _ h9 => h9) rfl dX10_now_37 ?_
    refine lv_iconst (v := 0) hx hb dX10_now_40 (by decide) ?_
    refine va_iald hx hb hC.1 hC.2.1 1 0 rfl rfl (vp_in_iff.mpr (by decide)) dX10_now_41 ?_
    have e_1 := (Option.some.inj hf)
    subst e_1
    exact K H locs ls _ rfl hC dX10_now_42
  · have hf := if_f hf c_1_0
    by_cases c_1_1 : x1 = 1
    · have hf := if_t hf c_1_1
      refine lv_tableIn (tgt := 43) hx hb dX10_now_1 (by rw [c_1_1]; decide) (by rw [c_1_1]; decide) (by rw [c_1_1]; rfl) (by decide) ?_
      refine lv_aload_n hx hb dX10_now_43 rfl (lv_at hl 0 rfl) ?_
      refine va_get (ci := 10) (v := .ref (ad 1)) (C := RX10) (T := TX10) (N := 28) hx hb hts in_X10 hown hC.1 hC.2.1 0 rfl rfl 0 (by decide) (hts _ q806) (fun _ h9 => h9) rfl dX10_now_44 ?_
      refine lv_iconst (v := 1) hx hb dX10_now_47 (by decide) ?_
      refine va_iald hx hb hC.1 hC.2.1 1 0 rfl rfl (vp_in_iff.mpr (by decide)) dX10_now_48 ?_
      have e_1 := (Option.some.inj hf)
      subst e_1
      exact K H locs ls _ rfl hC dX10_now_49
    · have hf := if_f hf c_1_1
      by_cases c_1_2 : x1 = 2
      · have hf := if_t hf c_1_2
        refine lv_tableIn (tgt := 50) hx hb dX10_now_1 (by rw [c_1_2]; decide) (by rw [c_1_2]; decide) (by rw [c_1_2]; rfl) (by decide) ?_
        refine lv_aload_n hx hb dX10_now_50 rfl (lv_at hl 0 rfl) ?_
        refine va_get (ci := 10) (v := .ref (ad 1)) (C := RX10) (T := TX10) (N := 28) hx hb hts in_X10 hown hC.1 hC.2.1 0 rfl rfl 0 (by decide) (hts _ q806) (fun _ h9 => h9) rfl dX10_now_51 ?_
        refine lv_iconst (v := 2) hx hb dX10_now_54 (by decide) ?_
        refine va_iald hx hb hC.1 hC.2.1 1 0 rfl rfl (vp_in_iff.mpr (by decide)) dX10_now_55 ?_
        have e_1 := (Option.some.inj hf)
        subst e_1
        exact K H locs ls _ rfl hC dX10_now_56
      · have hf := if_f hf c_1_2
        by_cases c_1_3 : x1 = 3
        · have hf := if_t hf c_1_3
          refine lv_tableIn (tgt := 57) hx hb dX10_now_1 (by rw [c_1_3]; decide) (by rw [c_1_3]; decide) (by rw [c_1_3]; rfl) (by decide) ?_
          refine lv_aload_n hx hb dX10_now_57 rfl (lv_at hl 0 rfl) ?_
          obtain ⟨r_58, hcall, hf⟩ := bnd_some hf
          refine hc_i (va_runV (C := RX10) (As := []) (rest := []) ⟨hx, hb, hml, hown, hts⟩ (c_m_slips hcall) (cwV 0 hts (lw_V q1016 q1018 qs36 q59 q1019) rfl rfl rfl (by decide +kernel) ⟨(Nat.le_trans (Nat.le_of_ble_eq_true rfl) hRf), (Nat.le_trans (Nat.le_of_ble_eq_true rfl) hRl)⟩) (pre_V (q0 := 0) (ci := 10) (fun _ _ _ _ h => h) (fun _ _ _ => trivial) hC rfl rfl) rfl rfl hl.1 rfl (lv_room (Nat.le_of_ble_eq_true rfl)) dX10_now_58 ⟨hRc, hRs⟩) hA hC (fun H locs hC => ?_)
          have e_1 := (Option.some.inj hf)
          subst e_1
          exact K H locs ls _ rfl hC dX10_now_61
        · have hf := if_f hf c_1_3
          by_cases c_1_4 : x1 = 4
          · have hf := if_t hf c_1_4
            refine lv_tableIn (tgt := 62) hx hb dX10_now_1 (by rw [c_1_4]; decide) (by rw [c_1_4]; decide) (by rw [c_1_4]; rfl) (by decide) ?_
            refine lv_aload_n hx hb dX10_now_62 rfl (lv_at hl 0 rfl) ?_
            refine va_get (ci := 10) (v := .ref (ad 1)) (C := RX10) (T := TX10) (N := 28) hx hb hts in_X10 hown hC.1 hC.2.1 0 rfl rfl 0 (by decide) (hts _ q806) (fun _ h9 => h9) rfl dX10_now_63 ?_
            refine lv_bipush (v := 43) hx hb dX10_now_66 (by decide) ?_
            refine va_iald hx hb hC.1 hC.2.1 1 0 rfl rfl (vp_in_iff.mpr (by decide)) dX10_now_68 ?_
            have e_1 := (Option.some.inj hf)
            subst e_1
            exact K H locs ls _ rfl hC dX10_now_69
          · have hf := if_f hf c_1_4
            refine lv_tableOut (tgt := 70) hx hb dX10_now_1 (by have n0 := lv_neT c_1_0 (show (0 : Int32).toInt = 0 by decide); have n1 := lv_neT c_1_1 (show (1 : Int32).toInt = 1 by decide); have n2 := lv_neT c_1_2 (show (2 : Int32).toInt = 2 by decide); have n3 := lv_neT c_1_3 (show (3 : Int32).toInt = 3 by decide); have n4 := lv_neT c_1_4 (show (4 : Int32).toInt = 4 by decide); first | omega | (rcases Int.lt_or_le (x1).toInt 0 with q | q <;> omega)) (by decide) ?_
            refine lv_iconst (v := (-1)) hx hb dX10_now_70 (by decide) ?_
            have e_1 := (Option.some.inj hf)
            subst e_1
            exact K H locs ls _ rfl hC dX10_now_71
set_option maxRecDepth 100000 in
theorem c_m_now {l : Launch} {sz : Nat} {D : va_G} {d : Nat → ClassId} {ad : Nat → Nat} {w : Nat → Int32} {isKept : Nat → Int32} {people : Int32} {room : Nat → Int32} {work : Nat → Int32} {price : Nat → Int32} {askings : Int32} {asked : Nat → Int32} {hangs : Int32} {hung : Nat → Int32} {tenths : Nat → Int32} {sortWorth : Nat → Int32} {sortDays : Nat → Int32} {sorts : Int32} {text : Nat → Int32} {texted : Int32} {trace : Int64} {at_ : Int32} {fault : Int32} {readPeople : Int32} {readPerson : Nat → Int32} {readAskings : Int32} {readAsked : Nat → Int32} {readHangs : Int32} {readHung : Nat → Int32} {rest : Nat → Int32} {brings : Nat → Int64} {later : Nat → Int64} {x1 : Int32} {r : Int32} (hf : m_now w people x1 = some r) : MI l yX10_now (ws_ yX10_now cX10_now 2 (some .int)) { frames := 1, cells := 0, slots := 0, locals := 22 } D gcl (gty d) (fun _ => True) (mw d ad w isKept people room work price askings asked hangs hung tenths sortWorth sortDays sorts text texted trace at_ fault readPeople readPerson readAskings readAsked readHangs readHung rest brings later) (mw d ad w isKept people room work price askings asked hangs hung tenths sortWorth sortDays sorts text texted trace at_ fault readPeople readPerson readAskings readAsked readHangs readHung rest brings later) sz [.ref (ad 0), .int x1] r :=
  MI.of (by decide) [.ref (ad 0), .int x1] [(0, .ref (ad 0)), (1, .int x1)] (Nat.le_of_ble_eq_true rfl) rfl (fun p e s m below meth c ls Q hx hb hml hown hts hN hA hC hl K => w_m_now hx hb hml hown hts hA (Nat.le_refl _) (Nat.le_refl _) (Nat.le_refl _) (Nat.le_refl _) hf hC hl K)
