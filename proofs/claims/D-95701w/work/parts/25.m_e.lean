set_option maxRecDepth 100000

def m_leftOf_L14 (x2_4 : Int32) (hangs : Int32) (hung : Nat → Int32) : Nat → Int32 → Int32 → Option (Int32)
  | 0, _, _ => none
  | n_14 + 1, x4_14, x5_14 =>
  if hangs ≤ x5_14 then (some x4_14) else
  ck (2 * x5_14) 16 <| bnd (m_has x2_4 (hung (2 * x5_14).toNatClampNeg)) fun r_35 =>
  if r_35 = 0 then (m_leftOf_L14 x2_4 hangs hung n_14 (x4_14 ||| 0) (x5_14 + 1) ) else
  ck ((2 * x5_14) + 1) 16 <| bnd (m_has x2_4 (hung ((2 * x5_14) + 1).toNatClampNeg)) fun r_53 =>
  if r_53 = 0 then (m_leftOf_L14 x2_4 hangs hung n_14 (x4_14 ||| 0) (x5_14 + 1) ) else
  ck (2 * x5_14) 16 <| m_leftOf_L14 x2_4 hangs hung n_14 (x4_14 ||| (1 <<< ((hung (2 * x5_14).toNatClampNeg) &&& 31))) (x5_14 + 1) 
theorem m_leftOf_L14_s (x2_4 : Int32) (hangs : Int32) (hung : Nat → Int32) (n_14 : Nat) (x4_14 : Int32) (x5_14 : Int32) : m_leftOf_L14 x2_4 hangs hung (n_14 + 1) x4_14 x5_14 = (
  if hangs ≤ x5_14 then (some x4_14) else
  ck (2 * x5_14) 16 <| bnd (m_has x2_4 (hung (2 * x5_14).toNatClampNeg)) fun r_35 =>
  if r_35 = 0 then (m_leftOf_L14 x2_4 hangs hung n_14 (x4_14 ||| 0) (x5_14 + 1) ) else
  ck ((2 * x5_14) + 1) 16 <| bnd (m_has x2_4 (hung ((2 * x5_14) + 1).toNatClampNeg)) fun r_53 =>
  if r_53 = 0 then (m_leftOf_L14 x2_4 hangs hung n_14 (x4_14 ||| 0) (x5_14 + 1) ) else
  ck (2 * x5_14) 16 <| m_leftOf_L14 x2_4 hangs hung n_14 (x4_14 ||| (1 <<< ((hung (2 * x5_14).toNatClampNeg) &&& 31))) (x5_14 + 1) ) := rfl
def m_leftOf_L4 (hangs : Int32) (hung : Nat → Int32) : Nat → Int32 → Int32 → Option (Int32)
  | 0, _, _ => none
  | n_4 + 1, x2_4, x3_4 =>
  if x3_4 = 0 then (some x2_4) else
  bnd (m_leftOf_L14 x2_4 hangs hung g_fuel 0 0 ) (fun x4_83 =>
  if x4_83 = x2_4 then (m_leftOf_L4 hangs hung n_4 x4_83 0 ) else
  m_leftOf_L4 hangs hung n_4 x4_83 1 )
theorem m_leftOf_L4_s (hangs : Int32) (hung : Nat → Int32) (n_4 : Nat) (x2_4 : Int32) (x3_4 : Int32) : m_leftOf_L4 hangs hung (n_4 + 1) x2_4 x3_4 = (
  if x3_4 = 0 then (some x2_4) else
  bnd (m_leftOf_L14 x2_4 hangs hung g_fuel 0 0 ) (fun x4_83 =>
  if x4_83 = x2_4 then (m_leftOf_L4 hangs hung n_4 x4_83 0 ) else
  m_leftOf_L4 hangs hung n_4 x4_83 1 )) := rfl
def m_leftOf (hangs : Int32) (hung : Nat → Int32) (x1 : Int32) : Option (Int32) :=
  bnd (m_leftOf_L4 hangs hung g_fuel x1 1 ) (fun x2_101 =>
  some x2_101)
set_option maxHeartbeats 4000000 in
set_option maxRecDepth 100000 in
theorem w_m_leftOf {p : Program} {l : Launch} {e : Env} {R : Room} {s : State} {m : MethodId} {args : Array Value} {below : List Frame} {meth : Method} {c : Code} {H : Heap} {locs : List Loc} {cells slots : Nat} {Q : State → Prop} {A : Nat → Prop} {ls : Array Slot} {D : va_G} {d : Nat → ClassId} {ad : Nat → Nat} {w : Nat → Int32} {isKept : Nat → Int32} {people : Int32} {room : Nat → Int32} {work : Nat → Int32} {price : Nat → Int32} {askings : Int32} {asked : Nat → Int32} {hangs : Int32} {hung : Nat → Int32} {tenths : Nat → Int32} {sortWorth : Nat → Int32} {sortDays : Nat → Int32} {sorts : Int32} {text : Nat → Int32} {texted : Int32} {trace : Int64} {at_ : Int32} {fault : Int32} {readPeople : Int32} {readPerson : Nat → Int32} {readAskings : Int32} {readAsked : Nat → Int32} {readHangs : Int32} {readHung : Nat → Int32} {rest : Nat → Int32} {brings : Nat → Int64} {later : Nat → Int64} {x1 : Int32} {r : Int32} (hx : p.tables.exec = Jvm.exec) (hb : c.code = cX10_leftOf) (hml : c.maxLocals = 6) (hown : s.vm.findClass RX10 = some m.cls) (hts : ∀ w ∈ lw_all, w.before args s = true) (hA : ∀ q, s.heap.size ≤ q → A q) (hRf : 1 ≤ R.frames) (hRl : 21 ≤ R.locals) (hRc : cells ≤ R.cells) (hRs : slots ≤ R.slots) (hf : m_leftOf hangs hung x1 = some r) (hC : HC D gcl (gty d) A (mw d ad w isKept people room work price askings asked hangs hung tenths sortWorth sortDays sorts text texted trace at_ fault readPeople readPerson readAskings readAsked readHangs readHung rest brings later) s H locs) (hl : lv_has ls 6 [(0, .ref (ad 0)), (1, .int x1)]) (K : ∀ (H : Heap) (locs : List Loc) (ls : Array Slot) (pc : Nat), narrow .int (.int r) = .int r → HC D gcl (gty d) A (mw d ad w isKept people room work price askings asked hangs hung tenths sortWorth sortDays sorts text texted trace at_ fault readPeople readPerson readAskings readAsked readHangs readHung rest brings later) s H locs → decode cX10_leftOf pc = .ok (.ireturn, 1) → W p l e R s m args below meth c H locs cells slots Q (F0 m pc ls [.int r])) : W p l e R s m args below meth c H locs cells slots Q (F0 m 0 ls []) := by
  unfold m_leftOf at hf
  refine lv_iload_n hx hb dX10_leftOf_0 rfl (lv_at hl 1 rfl) ?_
  refine lv_istore_n (lv' := [(2, .int x1), (0, .ref (ad 0)), (1, .int x1)]) hx hb dX10_leftOf_1 rfl hl (by decide) rfl (fun ls hl => ?_)
  refine lv_iconst (v := 1) hx hb dX10_leftOf_2 (by decide) ?_
  refine lv_istore_n (lv' := [(3, .int 1), (2, .int x1), (0, .ref (ad 0)), (1, .int x1)]) hx hb dX10_leftOf_3 rfl hl (by decide) rfl (fun ls hl => ?_)
  obtain ⟨x2_101, hL, hf⟩ := bnd_some hf
  have X_4 : ∀ (H : Heap) (locs : List Loc) (ls : Array Slot), HC D gcl (gty d) A (mw d ad w isKept people room work price askings asked hangs hung tenths sortWorth sortDays sorts text texted trace at_ fault readPeople readPerson readAskings readAsked readHangs readHung rest brings later) s H locs → lv_has ls 6 [(2, .int x2_101)] → W p l e R s m args below meth c H locs cells slots Q (F0 m 101 ls []) := by
    intro H locs ls hC hl
    refine lv_iload_n hx hb dX10_leftOf_101 rfl (lv_at hl 0 rfl) ?_
    have e_1 := (Option.some.inj hf)
    subst e_1
    exact K H locs ls _ rfl hC dX10_leftOf_102
  have L_4 : ∀ (n_4 : Nat) (x2_4 : Int32) (x3_4 : Int32), m_leftOf_L4 hangs hung n_4 x2_4 x3_4 = some x2_101 → ∀ (H : Heap) (locs : List Loc) (ls : Array Slot), HC D gcl (gty d) A (mw d ad w isKept people room work price askings asked hangs hung tenths sortWorth sortDays sorts text texted trace at_ fault readPeople readPerson readAskings readAsked readHangs readHung rest brings later) s H locs → lv_has ls 6 [(0, .ref (ad 0)), (2, .int x2_4), (3, .int x3_4)] → W p l e R s m args below meth c H locs cells slots Q (F0 m 4 ls []) := by
    intro n_4
    induction n_4 with
    | zero => intro _ _ hf; cases hf
    | succ n_4 ih =>
      intro x2_4 x3_4 hf H locs ls hC hl
      rw [m_leftOf_L4_s] at hf
      refine lv_iload_n hx hb dX10_leftOf_4 rfl (lv_at hl 2 rfl) ?_
      refine lv_if_eq (tgt := 101) hx hb dX10_leftOf_5 (by decide) (fun c_5 => ?_) (fun c_5 => ?_)
      · have hf := if_t hf c_5
        have e_1 := (Option.some.inj hf)
        subst e_1
        exact X_4 H locs ls hC (lv_sub hl [1] rfl)
      · have hf := if_f hf c_5
        refine lv_iconst (v := 0) hx hb dX10_leftOf_8 (by decide) ?_
        refine lv_istore (lv' := [(4, .int 0), (0, .ref (ad 0)), (2, .int x2_4), (3, .int x3_4)]) hx hb dX10_leftOf_9 hl (by decide) rfl (fun ls hl => ?_)
        refine lv_iconst (v := 0) hx hb dX10_leftOf_11 (by decide) ?_
        refine lv_istore (lv' := [(5, .int 0), (4, .int 0), (0, .ref (ad 0)), (2, .int x2_4), (3, .int x3_4)]) hx hb dX10_leftOf_12 hl (by decide) rfl (fun ls hl => ?_)
        obtain ⟨x4_83, hL, hf⟩ := bnd_some hf
        have X_14 : ∀ (H : Heap) (locs : List Loc) (ls : Array Slot), HC D gcl (gty d) A (mw d ad w isKept people room work price askings asked hangs hung tenths sortWorth sortDays sorts text texted trace at_ fault readPeople readPerson readAskings readAsked readHangs readHung rest brings later) s H locs → lv_has ls 6 [(0, .ref (ad 0)), (2, .int x2_4), (4, .int x4_83)] → W p l e R s m args below meth c H locs cells slots Q (F0 m 83 ls []) := by
          intro H locs ls hC hl
          refine lv_iload hx hb dX10_leftOf_83 (lv_at hl 2 rfl) ?_
          refine lv_iload_n hx hb dX10_leftOf_85 rfl (lv_at hl 1 rfl) ?_
          refine lv_icmp_eq (tgt := 93) hx hb dX10_leftOf_86 (by decide) (fun c_86 => ?_) (fun c_86 => ?_)
          · have hf := if_t hf c_86
            refine lv_iconst (v := 0) hx hb dX10_leftOf_93 (by decide) ?_
            refine lv_istore_n (lv' := [(3, .int 0), (0, .ref (ad 0)), (2, .int x2_4), (4, .int x4_83)]) hx hb dX10_leftOf_94 rfl hl (by decide) rfl (fun ls hl => ?_)
            refine lv_iload hx hb dX10_leftOf_95 (lv_at hl 3 rfl) ?_
            refine lv_istore_n (lv' := [(2, .int x4_83), (3, .int 0), (0, .ref (ad 0)), (4, .int x4_83)]) hx hb dX10_leftOf_97 rfl hl (by decide) rfl (fun ls hl => ?_)
            refine lv_goto (tgt := 4) hx hb dX10_leftOf_98 (by decide) ?_
            exact ih _ _ hf H locs ls hC (lv_sub hl [2, 0, 1] rfl)
          · have hf := if_f hf c_86
            refine lv_iconst (v := 1) hx hb dX10_leftOf_89 (by decide) ?_
            refine lv_goto (tgt := 94) hx hb dX10_leftOf_90 (by decide) ?_
            refine lv_istore_n (lv' := [(3, .int 1), (0, .ref (ad 0)), (2, .int x2_4), (4, .int x4_83)]) hx hb dX10_leftOf_94 rfl hl (by decide) rfl (fun ls hl => ?_)
            refine lv_iload hx hb dX10_leftOf_95 (lv_at hl 3 rfl) ?_
            refine lv_istore_n (lv' := [(2, .int x4_83), (3, .int 1), (0, .ref (ad 0)), (4, .int x4_83)]) hx hb dX10_leftOf_97 rfl hl (by decide) rfl (fun ls hl => ?_)
            refine lv_goto (tgt := 4) hx hb dX10_leftOf_98 (by decide) ?_
            exact ih _ _ hf H locs ls hC (lv_sub hl [2, 0, 1] rfl)
        have L_14 : ∀ (n_14 : Nat) (x4_14 : Int32) (x5_14 : Int32), m_leftOf_L14 x2_4 hangs hung n_14 x4_14 x5_14 = some x4_83 → ∀ (H : Heap) (locs : List Loc) (ls : Array Slot), HC D gcl (gty d) A (mw d ad w isKept people room work price askings asked hangs hung tenths sortWorth sortDays sorts text texted trace at_ fault readPeople readPerson readAskings readAsked readHangs readHung rest brings later) s H locs → lv_has ls 6 [(0, .ref (ad 0)), (2, .int x2_4), (4, .int x4_14), (5, .int x5_14)] → W p l e R s m args below meth c H locs cells slots Q (F0 m 14 ls []) := by
          intro n_14
          induction n_14 with
          | zero => intro _ _ hf; cases hf
          | succ n_14 ih =>
            intro x4_14 x5_14 hf H locs ls hC hl
            rw [m_leftOf_L14_s] at hf
            refine lv_iload hx hb dX10_leftOf_14 (lv_at hl 3 rfl) ?_
            refine lv_aload_n hx hb dX10_leftOf_16 rfl (lv_at hl 0 rfl) ?_
            refine va_get (ci := 10) (v := .int hangs) (C := RX10) (T := TX10) (N := 28) hx hb hts in_X10 hown hC.1 hC.2.1 0 rfl rfl 8 (by decide) (hts _ q814) (fun _ h9 => h9) rfl dX10_leftOf_17 ?_
            refine lv_icmp_ge (tgt := 83) hx hb dX10_leftOf_20 (by decide) (fun c_20 => ?_) (fun c_20 => ?_)
            · have hf := if_t hf c_20
              have e_1 := (Option.some.inj hf)
              subst e_1
              exact X_14 H locs ls hC (lv_sub hl [0, 1, 2] rfl)
            · have hf := if_f hf c_20
              refine lv_iload hx hb dX10_leftOf_23 (lv_at hl 2 rfl) ?_
              refine lv_iload_n hx hb dX10_leftOf_25 rfl (lv_at hl 1 rfl) ?_
              refine lv_aload_n hx hb dX10_leftOf_26 rfl (lv_at hl 0 rfl) ?_
              refine va_get (ci := 10) (v := .ref (ad 7)) (C := RX10) (T := TX10) (N := 28) hx hb hts in_X10 hown hC.1 hC.2.1 0 rfl rfl 9 (by decide) (hts _ q815) (fun _ h9 => h9) rfl dX10_leftOf_27 ?_
              refine lv_iconst (v := 2) hx hb dX10_leftOf_30 (by decide) ?_
              refine lv_iload hx hb dX10_leftOf_31 (lv_at hl 3 rfl) ?_
              refine lv_imul hx hb dX10_leftOf_33 ?_
              obtain ⟨hi_34, hf⟩ := ck_some hf
              refine va_iald hx hb hC.1 hC.2.1 7 0 rfl rfl hi_34 dX10_leftOf_34 ?_
              obtain ⟨r_35, hcall, hf⟩ := bnd_some hf
              refine hc_i (va_runS (As := [.int x2_4, .int (hung (2 * x5_14).toNatClampNeg)]) (rest := [.int x4_14]) ⟨hx, hb, hml, hown, hts⟩ (c_m_has hcall) (va_cwS 2 hts (lw_S q1032 q1033 q59 q1034) rfl rfl rfl (by decide +kernel) ⟨(Nat.le_trans (Nat.le_of_ble_eq_true rfl) hRf), (Nat.le_trans (Nat.le_of_ble_eq_true rfl) hRl)⟩) (pre_S (fun _ _ _ _ h => h) (fun _ _ _ => trivial) hC) rfl rfl hl.1 rfl (lv_room (Nat.le_of_ble_eq_true rfl)) dX10_leftOf_35 ⟨hRc, hRs⟩) hA hC (fun H locs hC => ?_)
              refine lv_if_eq (tgt := 73) hx hb dX10_leftOf_38 (by decide) (fun c_38 => ?_) (fun c_38 => ?_)
              · have hf := if_t hf c_38
                refine lv_iconst (v := 0) hx hb dX10_leftOf_73 (by decide) ?_
                refine lv_ior hx hb dX10_leftOf_74 ?_
                refine lv_istore (lv' := [(4, .int (x4_14 ||| 0)), (0, .ref (ad 0)), (2, .int x2_4), (5, .int x5_14)]) hx hb dX10_leftOf_75 hl (by decide) rfl (fun ls hl => ?_)
                refine lv_iinc (v := x5_14 + 1) (lv' := [(5, .int (x5_14 + 1)), (4, .int (x4_14 ||| 0)), (0, .ref (ad 0)), (2, .int x2_4)]) hx hb dX10_leftOf_77 hl (k := 3) rfl rfl (by decide) rfl (fun ls hl => ?_)
                refine lv_goto (tgt := 14) hx hb dX10_leftOf_80 (by decide) ?_
                exact ih _ _ hf H locs ls hC (lv_sub hl [2, 3, 1, 0] rfl)
              · have hf := if_f hf c_38
                refine lv_iload_n hx hb dX10_leftOf_41 rfl (lv_at hl 1 rfl) ?_
                refine lv_aload_n hx hb dX10_leftOf_42 rfl (lv_at hl 0 rfl) ?_
                refine va_get (ci := 10) (v := .ref (ad 7)) (C := RX10) (T := TX10) (N := 28) hx hb hts in_X10 hown hC.1 hC.2.1 0 rfl rfl 9 (by decide) (hts _ q815) (fun _ h9 => h9) rfl dX10_leftOf_43 ?_
                refine lv_iconst (v := 2) hx hb dX10_leftOf_46 (by decide) ?_
                refine lv_iload hx hb dX10_leftOf_47 (lv_at hl 3 rfl) ?_
                refine lv_imul hx hb dX10_leftOf_49 ?_
                refine lv_iconst (v := 1) hx hb dX10_leftOf_50 (by decide) ?_
                refine lv_iadd hx hb dX10_leftOf_51 ?_
                obtain ⟨hi_52, hf⟩ := ck_some hf
                refine va_iald hx hb hC.1 hC.2.1 7 0 rfl rfl hi_52 dX10_leftOf_52 ?_
                obtain ⟨r_53, hcall, hf⟩ := bnd_some hf
                refine hc_i (va_runS (As := [.int x2_4, .int (hung ((2 * x5_14) + 1).toNatClampNeg)]) (rest := [.int x4_14]) ⟨hx, hb, hml, hown, hts⟩ (c_m_has hcall) (va_cwS 2 hts (lw_S q1032 q1033 q59 q1034) rfl rfl rfl (by decide +kernel) ⟨(Nat.le_trans (Nat.le_of_ble_eq_true rfl) hRf), (Nat.le_trans (Nat.le_of_ble_eq_true rfl) hRl)⟩) (pre_S (fun _ _ _ _ h => h) (fun _ _ _ => trivial) hC) rfl rfl hl.1 rfl (lv_room (Nat.le_of_ble_eq_true rfl)) dX10_leftOf_53 ⟨hRc, hRs⟩) hA hC (fun H locs hC => ?_)
                refine lv_if_eq (tgt := 73) hx hb dX10_leftOf_56 (by decide) (fun c_56 => ?_) (fun c_56 => ?_)
                · have hf := if_t hf c_56
                  refine lv_iconst (v := 0) hx hb dX10_leftOf_73 (by decide) ?_
                  refine lv_ior hx hb dX10_leftOf_74 ?_
                  refine lv_istore (lv' := [(4, .int (x4_14 ||| 0)), (0, .ref (ad 0)), (2, .int x2_4), (5, .int x5_14)]) hx hb dX10_leftOf_75 hl (by decide) rfl (fun ls hl => ?_)
                  refine lv_iinc (v := x5_14 + 1) (lv' := [(5, .int (x5_14 + 1)), (4, .int (x4_14 ||| 0)), (0, .ref (ad 0)), (2, .int x2_4)]) hx hb dX10_leftOf_77 hl (k := 3) rfl rfl (by decide) rfl (fun ls hl => ?_)
                  refine lv_goto (tgt := 14) hx hb dX10_leftOf_80 (by decide) ?_
                  exact ih _ _ hf H locs ls hC (lv_sub hl [2, 3, 1, 0] rfl)
                · have hf := if_f hf c_56
                  refine lv_iconst (v := 1) hx hb dX10_leftOf_59 (by decide) ?_
                  refine lv_aload_n hx hb dX10_leftOf_60 rfl (lv_at hl 0 rfl) ?_
                  refine va_get (ci := 10) (v := .ref (ad 7)) (C := RX10) (T := TX10) (N := 28) hx hb hts in_X10 hown hC.1 hC.2.1 0 rfl rfl 9 (by decide) (hts _ q815) (fun _ h9 => h9) rfl dX10_leftOf_61 ?_
                  refine lv_iconst (v := 2) hx hb dX10_leftOf_64 (by decide) ?_
                  refine lv_iload hx hb dX10_leftOf_65 (lv_at hl 3 rfl) ?_
                  refine lv_imul hx hb dX10_leftOf_67 ?_
                  obtain ⟨hi_68, hf⟩ := ck_some hf
                  refine va_iald hx hb hC.1 hC.2.1 7 0 rfl rfl hi_68 dX10_leftOf_68 ?_
                  refine lv_ishl hx hb dX10_leftOf_69 ?_
                  refine lv_goto (tgt := 74) hx hb dX10_leftOf_70 (by decide) ?_
                  refine lv_ior hx hb dX10_leftOf_74 ?_
                  refine lv_istore (lv' := [(4, .int (x4_14 ||| (1 <<< ((hung (2 * x5_14).toNatClampNeg) &&& 31)))), (0, .ref (ad 0)), (2, .int x2_4), (5, .int x5_14)]) hx hb dX10_leftOf_75 hl (by decide) rfl (fun ls hl => ?_)
                  refine lv_iinc (v := x5_14 + 1) (lv' := [(5, .int (x5_14 + 1)), (4, .int (x4_14 ||| (1 <<< ((hung (2 * x5_14).toNatClampNeg) &&& 31)))), (0, .ref (ad 0)), (2, .int x2_4)]) hx hb dX10_leftOf_77 hl (k := 3) rfl rfl (by decide) rfl (fun ls hl => ?_)
                  refine lv_goto (tgt := 14) hx hb dX10_leftOf_80 (by decide) ?_
                  exact ih _ _ hf H locs ls hC (lv_sub hl [2, 3, 1, 0] rfl)
        exact L_14 _ _ _ hL H locs ls hC (lv_sub hl [2, 3, 1, 0] rfl)
  exact L_4 _ _ _ hL H locs ls hC (lv_sub hl [2, 1, 0] rfl)
set_option maxRecDepth 100000 in
theorem c_m_leftOf {l : Launch} {sz : Nat} {D : va_G} {d : Nat → ClassId} {ad : Nat → Nat} {w : Nat → Int32} {isKept : Nat → Int32} {people : Int32} {room : Nat → Int32} {work : Nat → Int32} {price : Nat → Int32} {askings : Int32} {asked : Nat → Int32} {hangs : Int32} {hung : Nat → Int32} {tenths : Nat → Int32} {sortWorth : Nat → Int32} {sortDays : Nat → Int32} {sorts : Int32} {text : Nat → Int32} {texted : Int32} {trace : Int64} {at_ : Int32} {fault : Int32} {readPeople : Int32} {readPerson : Nat → Int32} {readAskings : Int32} {readAsked : Nat → Int32} {readHangs : Int32} {readHung : Nat → Int32} {rest : Nat → Int32} {brings : Nat → Int64} {later : Nat → Int64} {x1 : Int32} {r : Int32} (hf : m_leftOf hangs hung x1 = some r) : MI l yX10_leftOf (ws_ yX10_leftOf cX10_leftOf 6 (some .int)) { frames := 1, cells := 0, slots := 0, locals := 21 } D gcl (gty d) (fun _ => True) (mw d ad w isKept people room work price askings asked hangs hung tenths sortWorth sortDays sorts text texted trace at_ fault readPeople readPerson readAskings readAsked readHangs readHung rest brings later) (mw d ad w isKept people room work price askings asked hangs hung tenths sortWorth sortDays sorts text texted trace at_ fault readPeople readPerson readAskings readAsked readHangs readHung rest brings later) sz [.ref (ad 0), .int x1] r :=
  MI.of (by decide) [.ref (ad 0), .int x1] [(0, .ref (ad 0)), (1, .int x1)] (Nat.le_of_ble_eq_true rfl) rfl (fun p e s m below meth c ls Q hx hb hml hown hts hN hA hC hl K => w_m_leftOf hx hb hml hown hts hA (Nat.le_refl _) (Nat.le_refl _) (Nat.le_refl _) (Nat.le_refl _) hf hC hl K)

def m_allAskings (askings : Int32) : Option (Int32) :=
  some ((1 <<< (askings &&& 31)) - 1)
set_option maxHeartbeats 4000000 in
set_option maxRecDepth 100000 in
theorem w_m_allAskings {p : Program} {l : Launch} {e : Env} {R : Room} {s : State} {m : MethodId} {args : Array Value} {below : List Frame} {meth : Method} {c : Code} {H : Heap} {locs : List Loc} {cells slots : Nat} {Q : State → Prop} {A : Nat → Prop} {ls : Array Slot} {D : va_G} {d : Nat → ClassId} {ad : Nat → Nat} {w : Nat → Int32} {isKept : Nat → Int32} {people : Int32} {room : Nat → Int32} {work : Nat → Int32} {price : Nat → Int32} {askings : Int32} {asked : Nat → Int32} {hangs : Int32} {hung : Nat → Int32} {tenths : Nat → Int32} {sortWorth : Nat → Int32} {sortDays : Nat → Int32} {sorts : Int32} {text : Nat → Int32} {texted : Int32} {trace : Int64} {at_ : Int32} {fault : Int32} {readPeople : Int32} {readPerson : Nat → Int32} {readAskings : Int32} {readAsked : Nat → Int32} {readHangs : Int32} {readHung : Nat → Int32} {rest : Nat → Int32} {brings : Nat → Int64} {later : Nat → Int64} {r : Int32} (hx : p.tables.exec = Jvm.exec) (hb : c.code = cX10_allAskings) (hml : c.maxLocals = 1) (hown : s.vm.findClass RX10 = some m.cls) (hts : ∀ w ∈ lw_all, w.before args s = true) (hA : ∀ q, s.heap.size ≤ q → A q) (hRf : 0 ≤ R.frames) (hRl : 0 ≤ R.locals) (hRc : cells ≤ R.cells) (hRs : slots ≤ R.slots) (hf : m_allAskings askings = some r) (hC : HC D gcl (gty d) A (mw d ad w isKept people room work price askings asked hangs hung tenths sortWorth sortDays sorts text texted trace at_ fault readPeople readPerson readAskings readAsked readHangs readHung rest brings later) s H locs) (hl : lv_has ls 1 [(0, .ref (ad 0))]) (K : ∀ (H : Heap) (locs : List Loc) (ls : Array Slot) (pc : Nat), narrow .int (.int r) = .int r → HC D gcl (gty d) A (mw d ad w isKept people room work price askings asked hangs hung tenths sortWorth sortDays sorts text texted trace at_ fault readPeople readPerson readAskings readAsked readHangs readHung rest brings later) s H locs → decode cX10_allAskings pc = .ok (.ireturn, 1) → W p l e R s m args below meth c H locs cells slots Q (F0 m pc ls [.int r])) : W p l e R s m args below meth c H locs cells slots Q (F0 m 0 ls []) := by
  unfold m_allAskings at hf
  refine lv_iconst (v := 1) hx hb dX10_allAskings_0 (by decide) ?_
  refine lv_aload_n hx hb dX10_allAskings_1 rfl (lv_at hl 0 rfl) ?_
  refine va_get (ci := 10) (v := .int askings) (C := RX10) (T := TX10) (N := 28) hx hb hts in_X10 hown hC.1 hC.2.1 0 rfl rfl 6 (by decide) (hts _ q812) (fun _ h9 => h9) rfl dX10_allAskings_2 ?_
  refine lv_ishl hx hb dX10_allAskings_5 ?_
  refine lv_iconst (v := 1) hx hb dX10_allAskings_6 (by decide) ?_
  refine lv_isub hx hb dX10_allAskings_7 ?_
  have e_1 := (Option.some.inj hf)
  subst e_1
  exact K H locs ls _ rfl hC dX10_allAskings_8
set_option maxRecDepth 100000 in
theorem c_m_allAskings {l : Launch} {sz : Nat} {D : va_G} {d : Nat → ClassId} {ad : Nat → Nat} {w : Nat → Int32} {isKept : Nat → Int32} {people : Int32} {room : Nat → Int32} {work : Nat → Int32} {price : Nat → Int32} {askings : Int32} {asked : Nat → Int32} {hangs : Int32} {hung : Nat → Int32} {tenths : Nat → Int32} {sortWorth : Nat → Int32} {sortDays : Nat → Int32} {sorts : Int32} {text : Nat → Int32} {texted : Int32} {trace : Int64} {at_ : Int32} {fault : Int32} {readPeople : Int32} {readPerson : Nat → Int32} {readAskings : Int32} {readAsked : Nat → Int32} {readHangs : Int32} {readHung : Nat → Int32} {rest : Nat → Int32} {brings : Nat → Int64} {later : Nat → Int64} {r : Int32} (hf : m_allAskings askings = some r) : MI l yX10_allAskings (ws_ yX10_allAskings cX10_allAskings 1 (some .int)) { frames := 0, cells := 0, slots := 0, locals := 0 } D gcl (gty d) (fun _ => True) (mw d ad w isKept people room work price askings asked hangs hung tenths sortWorth sortDays sorts text texted trace at_ fault readPeople readPerson readAskings readAsked readHangs readHung rest brings later) (mw d ad w isKept people room work price askings asked hangs hung tenths sortWorth sortDays sorts text texted trace at_ fault readPeople readPerson readAskings readAsked readHangs readHung rest brings later) sz [.ref (ad 0)] r :=
  MI.of (by decide) [.ref (ad 0)] [(0, .ref (ad 0))] (Nat.le_of_ble_eq_true rfl) rfl (fun p e s m below meth c ls Q hx hb hml hown hts hN hA hC hl K => w_m_allAskings hx hb hml hown hts hA (Nat.le_refl _) (Nat.le_refl _) (Nat.le_refl _) (Nat.le_refl _) hf hC hl K)

def m_ring (askings : Int32) (hangs : Int32) (hung : Nat → Int32) : Option (Int32) :=
  bnd (m_allAskings askings) fun r_2 =>
  bnd (m_leftOf hangs hung r_2) fun r_5 =>
  if r_5 = 0 then (some 0) else
  some 1
set_option maxHeartbeats 4000000 in
set_option maxRecDepth 100000 in
theorem w_m_ring {p : Program} {l : Launch} {e : Env} {R : Room} {s : State} {m : MethodId} {args : Array Value} {below : List Frame} {meth : Method} {c : Code} {H : Heap} {locs : List Loc} {cells slots : Nat} {Q : State → Prop} {A : Nat → Prop} {ls : Array Slot} {D : va_G} {d : Nat → ClassId} {ad : Nat → Nat} {w : Nat → Int32} {isKept : Nat → Int32} {people : Int32} {room : Nat → Int32} {work : Nat → Int32} {price : Nat → Int32} {askings : Int32} {asked : Nat → Int32} {hangs : Int32} {hung : Nat → Int32} {tenths : Nat → Int32} {sortWorth : Nat → Int32} {sortDays : Nat → Int32} {sorts : Int32} {text : Nat → Int32} {texted : Int32} {trace : Int64} {at_ : Int32} {fault : Int32} {readPeople : Int32} {readPerson : Nat → Int32} {readAskings : Int32} {readAsked : Nat → Int32} {readHangs : Int32} {readHung : Nat → Int32} {rest : Nat → Int32} {brings : Nat → Int64} {later : Nat → Int64} {r : Int32} (hx : p.tables.exec = Jvm.exec) (hb : c.code = cX10_ring) (hml : c.maxLocals = 1) (hown : s.vm.findClass RX10 = some m.cls) (hts : ∀ w ∈ lw_all, w.before args s = true) (hA : ∀ q, s.heap.size ≤ q → A q) (hRf : 2 ≤ R.frames) (hRl : 46 ≤ R.locals) (hRc : cells ≤ R.cells) (hRs : slots ≤ R.slots) (hf : m_ring askings hangs hung = some r) (hC : HC D gcl (gty d) A (mw d ad w isKept people room work price askings asked hangs hung tenths sortWorth sortDays sorts text texted trace at_ fault readPeople readPerson readAskings readAsked readHangs readHung rest brings later) s H locs) (hl : lv_has ls 1 [(0, .ref (ad 0))]) (K : ∀ (H : Heap) (locs : List Loc) (ls : Array Slot) (pc : Nat), narrow .int (.int r) = .int r → HC D gcl (gty d) A (mw d ad w isKept people room work price askings asked hangs hung tenths sortWorth sortDays sorts text texted trace at_ fault readPeople readPerson readAskings readAsked readHangs readHung rest brings later) s H locs → decode cX10_ring pc = .ok (.ireturn, 1) → W p l e R s m args below meth c H locs cells slots Q (F0 m pc ls [.int r])) : W p l e R s m args below meth c H locs cells slots Q (F0 m 0 ls []) := by
  unfold m_ring at hf
  refine lv_aload_n hx hb dX10_ring_0 rfl (lv_at hl 0 rfl) ?_
  refine lv_aload_n hx hb dX10_ring_1 rfl (lv_at hl 0 rfl) ?_
  obtain ⟨r_2, hcall, hf⟩ := bnd_some hf
  refine hc_i (va_runV (C := RX10) (As := []) (rest := [.ref (ad 0)]) ⟨hx, hb, hml, hown, hts⟩ (c_m_allAskings hcall) (cwV 0 hts (lw_V q1080 q1082 qs43 q59 q1083) rfl rfl rfl (by decide +kernel) ⟨(Nat.le_trans (Nat.le_of_ble_eq_true rfl) hRf), (Nat.le_trans (Nat.le_of_ble_eq_true rfl) hRl)⟩) (pre_V (q0 := 0) (ci := 10) (fun _ _ _ _ h => h) (fun _ _ _ => trivial) hC rfl rfl) rfl rfl hl.1 rfl (lv_room (Nat.le_of_ble_eq_true rfl)) dX10_ring_2 ⟨hRc, hRs⟩) hA hC (fun H locs hC => ?_)
  obtain ⟨r_5, hcall, hf⟩ := bnd_some hf
  refine hc_i (va_runV (C := RX10) (As := [.int r_2]) (rest := []) ⟨hx, hb, hml, hown, hts⟩ (c_m_leftOf hcall) (cwV 1 hts (lw_V q1084 q1086 qs44 q59 q1087) rfl rfl rfl (by decide +kernel) ⟨(Nat.le_trans (Nat.le_of_ble_eq_true rfl) hRf), (Nat.le_trans (Nat.le_of_ble_eq_true rfl) hRl)⟩) (pre_V (q0 := 0) (ci := 10) (fun _ _ _ _ h => h) (fun _ _ _ => trivial) hC rfl rfl) rfl rfl hl.1 rfl (lv_room (Nat.le_of_ble_eq_true rfl)) dX10_ring_5 ⟨hRc, hRs⟩) hA hC (fun H locs hC => ?_)
  refine lv_if_ne (tgt := 15) hx hb dX10_ring_8 (by decide) (fun c_8 => ?_) (fun c_8 => ?_)
  · have hf := if_f hf c_8
    refine lv_iconst (v := 1) hx hb dX10_ring_15 (by decide) ?_
    have e_1 := (Option.some.inj hf)
    subst e_1
    exact K H locs ls _ rfl hC dX10_ring_16
  · have hf := if_t hf c_8
    refine lv_iconst (v := 0) hx hb dX10_ring_11 (by decide) ?_
    refine lv_goto (tgt := 16) hx hb dX10_ring_12 (by decide) ?_
    have e_1 := (Option.some.inj hf)
    subst e_1
    exact K H locs ls _ rfl hC dX10_ring_16
set_option maxRecDepth 100000 in
theorem c_m_ring {l : Launch} {sz : Nat} {D : va_G} {d : Nat → ClassId} {ad : Nat → Nat} {w : Nat → Int32} {isKept : Nat → Int32} {people : Int32} {room : Nat → Int32} {work : Nat → Int32} {price : Nat → Int32} {askings : Int32} {asked : Nat → Int32} {hangs : Int32} {hung : Nat → Int32} {tenths : Nat → Int32} {sortWorth : Nat → Int32} {sortDays : Nat → Int32} {sorts : Int32} {text : Nat → Int32} {texted : Int32} {trace : Int64} {at_ : Int32} {fault : Int32} {readPeople : Int32} {readPerson : Nat → Int32} {readAskings : Int32} {readAsked : Nat → Int32} {readHangs : Int32} {readHung : Nat → Int32} {rest : Nat → Int32} {brings : Nat → Int64} {later : Nat → Int64} {r : Int32} (hf : m_ring askings hangs hung = some r) : MI l yX10_ring (ws_ yX10_ring cX10_ring 1 (some .int)) { frames := 2, cells := 0, slots := 0, locals := 46 } D gcl (gty d) (fun _ => True) (mw d ad w isKept people room work price askings asked hangs hung tenths sortWorth sortDays sorts text texted trace at_ fault readPeople readPerson readAskings readAsked readHangs readHung rest brings later) (mw d ad w isKept people room work price askings asked hangs hung tenths sortWorth sortDays sorts text texted trace at_ fault readPeople readPerson readAskings readAsked readHangs readHung rest brings later) sz [.ref (ad 0)] r :=
  MI.of (by decide) [.ref (ad 0)] [(0, .ref (ad 0))] (Nat.le_of_ble_eq_true rfl) rfl (fun p e s m below meth c ls Q hx hb hml hown hts hN hA hC hl K => w_m_ring hx hb hml hown hts hA (Nat.le_refl _) (Nat.le_refl _) (Nat.le_refl _) (Nat.le_refl _) hf hC hl K)

def m_order_L50 (x2_38 : Int32) (hangs : Int32) (hung : Nat → Int32) : Nat → Int32 → Int32 → Option (Int32)
  | 0, _, _ => none
  | n_50 + 1, x5_50, x6_50 =>
  if hangs ≤ x6_50 then (some x5_50) else
  ck ((2 * x6_50) + 1) 16 <| bnd (m_has x2_38 (hung ((2 * x6_50) + 1).toNatClampNeg)) fun r_73 =>
  if r_73 = 0 then (m_order_L50 x2_38 hangs hung n_50 (x5_50 ||| 0) (x6_50 + 1) ) else
  ck (2 * x6_50) 16 <| m_order_L50 x2_38 hangs hung n_50 (x5_50 ||| (1 <<< ((hung (2 * x6_50).toNatClampNeg) &&& 31))) (x6_50 + 1) 
theorem m_order_L50_s (x2_38 : Int32) (hangs : Int32) (hung : Nat → Int32) (n_50 : Nat) (x5_50 : Int32) (x6_50 : Int32) : m_order_L50 x2_38 hangs hung (n_50 + 1) x5_50 x6_50 = (
  if hangs ≤ x6_50 then (some x5_50) else
  ck ((2 * x6_50) + 1) 16 <| bnd (m_has x2_38 (hung ((2 * x6_50) + 1).toNatClampNeg)) fun r_73 =>
  if r_73 = 0 then (m_order_L50 x2_38 hangs hung n_50 (x5_50 ||| 0) (x6_50 + 1) ) else
  ck (2 * x6_50) 16 <| m_order_L50 x2_38 hangs hung n_50 (x5_50 ||| (1 <<< ((hung (2 * x6_50).toNatClampNeg) &&& 31))) (x6_50 + 1) ) := rfl
def m_order_L105 (x2_38 : Int32) (x5_103 : Int32) : Nat → Int32 → Option (Int32)
  | 0, _ => none
  | n_105 + 1, x3_105 =>
  bnd (m_has (x2_38 &&& (x5_103 ^^^ (-1))) x3_105) fun r_112 =>
  if r_112 = 0 then (m_order_L105 x2_38 x5_103 n_105 (x3_105 + 1) ) else
  some x3_105
theorem m_order_L105_s (x2_38 : Int32) (x5_103 : Int32) (n_105 : Nat) (x3_105 : Int32) : m_order_L105 x2_38 x5_103 (n_105 + 1) x3_105 = (
  bnd (m_has (x2_38 &&& (x5_103 ^^^ (-1))) x3_105) fun r_112 =>
  if r_112 = 0 then (m_order_L105 x2_38 x5_103 n_105 (x3_105 + 1) ) else
  some x3_105) := rfl
def m_order_L38 (x1 : Int32) (hangs : Int32) (hung : Nat → Int32) : Nat → Int32 → Int32 → Int32 → Option (Int32)
  | 0, _, _, _ => none
  | n_38 + 1, x2_38, x3_38, x4_38 =>
  if x1 < x4_38 then (some x3_38) else
  bnd (m_order_L50 x2_38 hangs hung g_fuel 0 0 ) (fun x5_103 =>
  bnd (m_order_L105 x2_38 x5_103 g_fuel 0 ) (fun x3_124 =>
  m_order_L38 x1 hangs hung n_38 (x2_38 &&& ((1 <<< (x3_124 &&& 31)) ^^^ (-1))) x3_124 (x4_38 + 1) ))
theorem m_order_L38_s (x1 : Int32) (hangs : Int32) (hung : Nat → Int32) (n_38 : Nat) (x2_38 : Int32) (x3_38 : Int32) (x4_38 : Int32) : m_order_L38 x1 hangs hung (n_38 + 1) x2_38 x3_38 x4_38 = (
  if x1 < x4_38 then (some x3_38) else
  bnd (m_order_L50 x2_38 hangs hung g_fuel 0 0 ) (fun x5_103 =>
  bnd (m_order_L105 x2_38 x5_103 g_fuel 0 ) (fun x3_124 =>
  m_order_L38 x1 hangs hung n_38 (x2_38 &&& ((1 <<< (x3_124 &&& 31)) ^^^ (-1))) x3_124 (x4_38 + 1) ))) := rfl
def m_order (askings : Int32) (hangs : Int32) (hung : Nat → Int32) (x1 : Int32) : Option (Int32) :=
  if 0 ≤ x1 then (bnd (m_ring askings hangs hung) fun r_7 =>
  if r_7 = 1 then (some (-9)) else
  if x1 < askings then (bnd (m_allAskings askings) fun r_29 =>
  bnd (m_order_L38 x1 hangs hung g_fuel r_29 0 0 ) (fun x3_138 =>
  some x3_138)) else
  some (-5)) else
  some (-1)
set_option maxHeartbeats 4000000 in
set_option maxRecDepth 100000 in
theorem w_m_order {p : Program} {l : Launch} {e : Env} {R : Room} {s : State} {m : MethodId} {args : Array Value} {below : List Frame} {meth : Method} {c : Code} {H : Heap} {locs : List Loc} {cells slots : Nat} {Q : State → Prop} {A : Nat → Prop} {ls : Array Slot} {D : va_G} {d : Nat → ClassId} {ad : Nat → Nat} {w : Nat → Int32} {isKept : Nat → Int32} {people : Int32} {room : Nat → Int32} {work : Nat → Int32} {price : Nat → Int32} {askings : Int32} {asked : Nat → Int32} {hangs : Int32} {hung : Nat → Int32} {tenths : Nat → Int32} {sortWorth : Nat → Int32} {sortDays : Nat → Int32} {sorts : Int32} {text : Nat → Int32} {texted : Int32} {trace : Int64} {at_ : Int32} {fault : Int32} {readPeople : Int32} {readPerson : Nat → Int32} {readAskings : Int32} {readAsked : Nat → Int32} {readHangs : Int32} {readHung : Nat → Int32} {rest : Nat → Int32} {brings : Nat → Int64} {later : Nat → Int64} {x1 : Int32} {r : Int32} (hx : p.tables.exec = Jvm.exec) (hb : c.code = cX10_order) (hml : c.maxLocals = 7) (hown : s.vm.findClass RX10 = some m.cls) (hts : ∀ w ∈ lw_all, w.before args s = true) (hA : ∀ q, s.heap.size ≤ q → A q) (hRf : 3 ≤ R.frames) (hRl : 66 ≤ R.locals) (hRc : cells ≤ R.cells) (hRs : slots ≤ R.slots) (hf : m_order askings hangs hung x1 = some r) (hC : HC D gcl (gty d) A (mw d ad w isKept people room work price askings asked hangs hung tenths sortWorth sortDays sorts text texted trace at_ fault readPeople readPerson readAskings readAsked readHangs readHung rest brings later) s H locs) (hl : lv_has ls 7 [(0, .ref (ad 0)), (1, .int x1)]) (K : ∀ (H : Heap) (locs : List Loc) (ls : Array Slot) (pc : Nat), narrow .int (.int r) = .int r → HC D gcl (gty d) A (mw d ad w isKept people room work price askings asked hangs hung tenths sortWorth sortDays sorts text texted trace at_ fault readPeople readPerson readAskings readAsked readHangs readHung rest brings later) s H locs → decode cX10_order pc = .ok (.ireturn, 1) → W p l e R s m args below meth c H locs cells slots Q (F0 m pc ls [.int r])) : W p l e R s m args below meth c H locs cells slots Q (F0 m 0 ls []) := by
  unfold m_order at hf
  refine lv_iload_n hx hb dX10_order_0 rfl (lv_at hl 1 rfl) ?_
  refine lv_if_ge (tgt := 6) hx hb dX10_order_1 (by decide) (fun c_1 => ?_) (fun c_1 => ?_)
  · have hf := if_t hf c_1
    refine lv_aload_n hx hb dX10_order_6 rfl (lv_at hl 0 rfl) ?_
    obtain ⟨r_7, hcall, hf⟩ := bnd_some hf
    refine hc_i (va_runV (C := RX10) (As := []) (rest := []) ⟨hx, hb, hml, hown, hts⟩ (c_m_ring hcall) (cwV 0 hts (lw_V q1092 q1077 q1078 q59 q1079) rfl rfl rfl (by decide +kernel) ⟨(Nat.le_trans (Nat.le_of_ble_eq_true rfl) hRf), (Nat.le_trans (Nat.le_of_ble_eq_true rfl) hRl)⟩) (pre_V (q0 := 0) (ci := 10) (fun _ _ _ _ h => h) (fun _ _ _ => trivial) hC rfl rfl) rfl rfl hl.1 rfl (lv_room (Nat.le_of_ble_eq_true rfl)) dX10_order_7 ⟨hRc, hRs⟩) hA hC (fun H locs hC => ?_)
    refine lv_iconst (v := 1) hx hb dX10_order_10 (by decide) ?_
    refine lv_icmp_ne (tgt := 17) hx hb dX10_order_11 (by decide) (fun c_11 => ?_) (fun c_11 => ?_)
    · have hf := if_f hf c_11
      refine lv_iload_n hx hb dX10_order_17 rfl (lv_at hl 1 rfl) ?_
      refine lv_aload_n hx hb dX10_order_18 rfl (lv_at hl 0 rfl) ?_
      refine va_get (ci := 10) (v := .int askings) (C := RX10) (T := TX10) (N := 28) hx hb hts in_X10 hown hC.1 hC.2.1 0 rfl rfl 6 (by decide) (hts _ q812) (fun _ h9 => h9) rfl dX10_order_19 ?_
      refine lv_icmp_lt (tgt := 28) hx hb dX10_order_22 (by decide) (fun c_22 => ?_) (fun c_22 => ?_)
      · have hf := if_t hf c_22
        refine lv_aload_n hx hb dX10_order_28 rfl (lv_at hl 0 rfl) ?_
        obtain ⟨r_29, hcall, hf⟩ := bnd_some hf
        refine hc_i (va_runV (C := RX10) (As := []) (rest := []) ⟨hx, hb, hml, hown, hts⟩ (c_m_allAskings hcall) (cwV 0 hts (lw_V q1080 q1082 qs43 q59 q1083) rfl rfl rfl (by decide +kernel) ⟨(Nat.le_trans (Nat.le_of_ble_eq_true rfl) hRf), (Nat.le_trans (Nat.le_of_ble_eq_true rfl) hRl)⟩) (pre_V (q0 := 0) (ci := 10) (fun _ _ _ _ h => h) (fun _ _ _ => trivial) hC rfl rfl) rfl rfl hl.1 rfl (lv_room (Nat.le_of_ble_eq_true rfl)) dX10_order_29 ⟨hRc, hRs⟩) hA hC (fun H locs hC => ?_)
        refine lv_istore_n (lv' := [(2, .int r_29), (0, .ref (ad 0)), (1, .int x1)]) hx hb dX10_order_32 rfl hl (by decide) rfl (fun ls hl => ?_)
        refine lv_iconst (v := 0) hx hb dX10_order_33 (by decide) ?_
        refine lv_istore_n (lv' := [(3, .int 0), (2, .int r_29), (0, .ref (ad 0)), (1, .int x1)]) hx hb dX10_order_34 rfl hl (by decide) rfl (fun ls hl => ?_)
        refine lv_iconst (v := 0) hx hb dX10_order_35 (by decide) ?_
        refine lv_istore (lv' := [(4, .int 0), (3, .int 0), (2, .int r_29), (0, .ref (ad 0)), (1, .int x1)]) hx hb dX10_order_36 hl (by decide) rfl (fun ls hl => ?_)
        obtain ⟨x3_138, hL, hf⟩ := bnd_some hf
        have X_38 : ∀ (H : Heap) (locs : List Loc) (ls : Array Slot), HC D gcl (gty d) A (mw d ad w isKept people room work price askings asked hangs hung tenths sortWorth sortDays sorts text texted trace at_ fault readPeople readPerson readAskings readAsked readHangs readHung rest brings later) s H locs → lv_has ls 7 [(3, .int x3_138)] → W p l e R s m args below meth c H locs cells slots Q (F0 m 138 ls []) := by
          intro H locs ls hC hl
          refine lv_iload_n hx hb dX10_order_138 rfl (lv_at hl 0 rfl) ?_
          have e_1 := (Option.some.inj hf)
          subst e_1
          exact K H locs ls _ rfl hC dX10_order_139
        have L_38 : ∀ (n_38 : Nat) (x2_38 : Int32) (x3_38 : Int32) (x4_38 : Int32), m_order_L38 x1 hangs hung n_38 x2_38 x3_38 x4_38 = some x3_138 → ∀ (H : Heap) (locs : List Loc) (ls : Array Slot), HC D gcl (gty d) A (mw d ad w isKept people room work price askings asked hangs hung tenths sortWorth sortDays sorts text texted trace at_ fault readPeople readPerson readAskings readAsked readHangs readHung rest brings later) s H locs → lv_has ls 7 [(0, .ref (ad 0)), (1, .int x1), (2, .int x2_38), (3, .int x3_38), (4, .int x4_38)] → W p l e R s m args below meth c H locs cells slots Q (F0 m 38 ls []) := by
          intro n_38
          induction n_38 with
          | zero => intro _ _ _ hf; cases hf
          | succ n_38 ih =>
            intro x2_38 x3_38 x4_38 hf H locs ls hC hl
            rw [m_order_L38_s] at hf
            refine lv_iload hx hb dX10_order_38 (lv_at hl 4 rfl) ?_
            refine lv_iload_n hx hb dX10_order_40 rfl (lv_at hl 1 rfl) ?_
            refine lv_icmp_gt (tgt := 138) hx hb dX10_order_41 (by decide) (fun c_41 => ?_) (fun c_41 => ?_)
            · have hf := if_t hf c_41
              have e_1 := (Option.some.inj hf)
              subst e_1
              exact X_38 H locs ls hC (lv_sub hl [3] rfl)
            · have hf := if_f hf c_41
              refine lv_iconst (v := 0) hx hb dX10_order_44 (by decide) ?_
              refine lv_istore (lv' := [(5, .int 0), (0, .ref (ad 0)), (1, .int x1), (2, .int x2_38), (3, .int x3_38), (4, .int x4_38)]) hx hb dX10_order_45 hl (by decide) rfl (fun ls hl => ?_)
              refine lv_iconst (v := 0) hx hb dX10_order_47 (by decide) ?_
              refine lv_istore (lv' := [(6, .int 0), (5, .int 0), (0, .ref (ad 0)), (1, .int x1), (2, .int x2_38), (3, .int x3_38), (4, .int x4_38)]) hx hb dX10_order_48 hl (by decide) rfl (fun ls hl => ?_)
              obtain ⟨x5_103, hL, hf⟩ := bnd_some hf
              have X_50 : ∀ (H : Heap) (locs : List Loc) (ls : Array Slot), HC D gcl (gty d) A (mw d ad w isKept people room work price askings asked hangs hung tenths sortWorth sortDays sorts text texted trace at_ fault readPeople readPerson readAskings readAsked readHangs readHung rest brings later) s H locs → lv_has ls 7 [(0, .ref (ad 0)), (1, .int x1), (2, .int x2_38), (4, .int x4_38), (5, .int x5_103)] → W p l e R s m args below meth c H locs cells slots Q (F0 m 103 ls []) := by
                intro H locs ls hC hl
                refine lv_iconst (v := 0) hx hb dX10_order_103 (by decide) ?_
                refine lv_istore_n (lv' := [(3, .int 0), (0, .ref (ad 0)), (1, .int x1), (2, .int x2_38), (4, .int x4_38), (5, .int x5_103)]) hx hb dX10_order_104 rfl hl (by decide) rfl (fun ls hl => ?_)
                obtain ⟨x3_124, hL, hf⟩ := bnd_some hf
                have X_105 : ∀ (H : Heap) (locs : List Loc) (ls : Array Slot), HC D gcl (gty d) A (mw d ad w isKept people room work price askings asked hangs hung tenths sortWorth sortDays sorts text texted trace at_ fault readPeople readPerson readAskings readAsked readHangs readHung rest brings later) s H locs → lv_has ls 7 [(0, .ref (ad 0)), (1, .int x1), (2, .int x2_38), (3, .int x3_124), (4, .int x4_38)] → W p l e R s m args below meth c H locs cells slots Q (F0 m 124 ls []) := by
                  intro H locs ls hC hl
                  refine lv_iload_n hx hb dX10_order_124 rfl (lv_at hl 2 rfl) ?_
                  refine lv_iconst (v := 1) hx hb dX10_order_125 (by decide) ?_
                  refine lv_iload_n hx hb dX10_order_126 rfl (lv_at hl 3 rfl) ?_
                  refine lv_ishl hx hb dX10_order_127 ?_
                  refine lv_iconst (v := (-1)) hx hb dX10_order_128 (by decide) ?_
                  refine lv_ixor hx hb dX10_order_129 ?_
                  refine lv_iand hx hb dX10_order_130 ?_
                  refine lv_istore_n (lv' := [(2, .int (x2_38 &&& ((1 <<< (x3_124 &&& 31)) ^^^ (-1)))), (0, .ref (ad 0)), (1, .int x1), (3, .int x3_124), (4, .int x4_38)]) hx hb dX10_order_131 rfl hl (by decide) rfl (fun ls hl => ?_)
                  refine lv_iinc (v := x4_38 + 1) (lv' := [(4, .int (x4_38 + 1)), (2, .int (x2_38 &&& ((1 <<< (x3_124 &&& 31)) ^^^ (-1)))), (0, .ref (ad 0)), (1, .int x1), (3, .int x3_124)]) hx hb dX10_order_132 hl (k := 4) rfl rfl (by decide) rfl (fun ls hl => ?_)
                  refine lv_goto (tgt := 38) hx hb dX10_order_135 (by decide) ?_
                  exact ih _ _ _ hf H locs ls hC (lv_sub hl [2, 3, 1, 4, 0] rfl)
                have L_105 : ∀ (n_105 : Nat) (x3_105 : Int32), m_order_L105 x2_38 x5_103 n_105 x3_105 = some x3_124 → ∀ (H : Heap) (locs : List Loc) (ls : Array Slot), HC D gcl (gty d) A (mw d ad w isKept people room work price askings asked hangs hung tenths sortWorth sortDays sorts text texted trace at_ fault readPeople readPerson readAskings readAsked readHangs readHung rest brings later) s H locs → lv_has ls 7 [(0, .ref (ad 0)), (1, .int x1), (2, .int x2_38), (3, .int x3_105), (4, .int x4_38), (5, .int x5_103)] → W p l e R s m args below meth c H locs cells slots Q (F0 m 105 ls []) := by
                  intro n_105
                  induction n_105 with
                  | zero => intro _ hf; cases hf
                  | succ n_105 ih =>
                    intro x3_105 hf H locs ls hC hl
                    rw [m_order_L105_s] at hf
                    refine lv_iload_n hx hb dX10_order_105 rfl (lv_at hl 2 rfl) ?_
                    refine lv_iload hx hb dX10_order_106 (lv_at hl 5 rfl) ?_
                    refine lv_iconst (v := (-1)) hx hb dX10_order_108 (by decide) ?_
                    refine lv_ixor hx hb dX10_order_109 ?_
                    refine lv_iand hx hb dX10_order_110 ?_
                    refine lv_iload_n hx hb dX10_order_111 rfl (lv_at hl 3 rfl) ?_
                    obtain ⟨r_112, hcall, hf⟩ := bnd_some hf
                    refine hc_i (va_runS (As := [.int (x2_38 &&& (x5_103 ^^^ (-1))), .int x3_105]) (rest := []) ⟨hx, hb, hml, hown, hts⟩ (c_m_has hcall) (va_cwS 2 hts (lw_S q1032 q1033 q59 q1034) rfl rfl rfl (by decide +kernel) ⟨(Nat.le_trans (Nat.le_of_ble_eq_true rfl) hRf), (Nat.le_trans (Nat.le_of_ble_eq_true rfl) hRl)⟩) (pre_S (fun _ _ _ _ h => h) (fun _ _ _ => trivial) hC) rfl rfl hl.1 rfl (lv_room (Nat.le_of_ble_eq_true rfl)) dX10_order_112 ⟨hRc, hRs⟩) hA hC (fun H locs hC => ?_)
                    refine lv_if_ne (tgt := 124) hx hb dX10_order_115 (by decide) (fun c_115 => ?_) (fun c_115 => ?_)
                    · have hf := if_f hf c_115
                      have e_1 := (Option.some.inj hf)
                      subst e_1
                      exact X_105 H locs ls hC (lv_sub hl [0, 1, 2, 3, 4] rfl)
                    · have hf := if_t hf c_115
                      refine lv_iinc (v := x3_105 + 1) (lv' := [(3, .int (x3_105 + 1)), (0, .ref (ad 0)), (1, .int x1), (2, .int x2_38), (4, .int x4_38), (5, .int x5_103)]) hx hb dX10_order_118 hl (k := 3) rfl rfl (by decide) rfl (fun ls hl => ?_)
                      refine lv_goto (tgt := 105) hx hb dX10_order_121 (by decide) ?_
                      exact ih _ hf H locs ls hC (lv_sub hl [1, 2, 3, 0, 4, 5] rfl)
                exact L_105 _ _ hL H locs ls hC (lv_sub hl [1, 2, 3, 0, 4, 5] rfl)
              have L_50 : ∀ (n_50 : Nat) (x5_50 : Int32) (x6_50 : Int32), m_order_L50 x2_38 hangs hung n_50 x5_50 x6_50 = some x5_103 → ∀ (H : Heap) (locs : List Loc) (ls : Array Slot), HC D gcl (gty d) A (mw d ad w isKept people room work price askings asked hangs hung tenths sortWorth sortDays sorts text texted trace at_ fault readPeople readPerson readAskings readAsked readHangs readHung rest brings later) s H locs → lv_has ls 7 [(0, .ref (ad 0)), (1, .int x1), (2, .int x2_38), (4, .int x4_38), (5, .int x5_50), (6, .int x6_50)] → W p l e R s m args below meth c H locs cells slots Q (F0 m 50 ls []) := by
                intro n_50
                induction n_50 with
                | zero => intro _ _ hf; cases hf
                | succ n_50 ih =>
                  intro x5_50 x6_50 hf H locs ls hC hl
                  rw [m_order_L50_s] at hf
                  refine lv_iload hx hb dX10_order_50 (lv_at hl 5 rfl) ?_
                  refine lv_aload_n hx hb dX10_order_52 rfl (lv_at hl 0 rfl) ?_
                  refine va_get (ci := 10) (v := .int hangs) (C := RX10) (T := TX10) (N := 28) hx hb hts in_X10 hown hC.1 hC.2.1 0 rfl rfl 8 (by decide) (hts _ q814) (fun _ h9 => h9) rfl dX10_order_53 ?_
                  refine lv_icmp_ge (tgt := 103) hx hb dX10_order_56 (by decide) (fun c_56 => ?_) (fun c_56 => ?_)
                  · have hf := if_t hf c_56
                    have e_1 := (Option.some.inj hf)
                    subst e_1
                    exact X_50 H locs ls hC (lv_sub hl [0, 1, 2, 3, 4] rfl)
                  · have hf := if_f hf c_56
                    refine lv_iload hx hb dX10_order_59 (lv_at hl 4 rfl) ?_
                    refine lv_iload_n hx hb dX10_order_61 rfl (lv_at hl 2 rfl) ?_
                    refine lv_aload_n hx hb dX10_order_62 rfl (lv_at hl 0 rfl) ?_
                    refine va_get (ci := 10) (v := .ref (ad 7)) (C := RX10) (T := TX10) (N := 28) hx hb hts in_X10 hown hC.1 hC.2.1 0 rfl rfl 9 (by decide) (hts _ q815) (fun _ h9 => h9) rfl dX10_order_63 ?_
                    refine lv_iconst (v := 2) hx hb dX10_order_66 (by decide) ?_
                    refine lv_iload hx hb dX10_order_67 (lv_at hl 5 rfl) ?_
                    refine lv_imul hx hb dX10_order_69 ?_
                    refine lv_iconst (v := 1) hx hb dX10_order_70 (by decide) ?_
                    refine lv_iadd hx hb dX10_order_71 ?_
                    obtain ⟨hi_72, hf⟩ := ck_some hf
                    refine va_iald hx hb hC.1 hC.2.1 7 0 rfl rfl hi_72 dX10_order_72 ?_
                    obtain ⟨r_73, hcall, hf⟩ := bnd_some hf
                    refine hc_i (va_runS (As := [.int x2_38, .int (hung ((2 * x6_50) + 1).toNatClampNeg)]) (rest := [.int x5_50]) ⟨hx, hb, hml, hown, hts⟩ (c_m_has hcall) (va_cwS 2 hts (lw_S q1032 q1033 q59 q1034) rfl rfl rfl (by decide +kernel) ⟨(Nat.le_trans (Nat.le_of_ble_eq_true rfl) hRf), (Nat.le_trans (Nat.le_of_ble_eq_true rfl) hRl)⟩) (pre_S (fun _ _ _ _ h => h) (fun _ _ _ => trivial) hC) rfl rfl hl.1 rfl (lv_room (Nat.le_of_ble_eq_true rfl)) dX10_order_73 ⟨hRc, hRs⟩) hA hC (fun H locs hC => ?_)
                    refine lv_if_eq (tgt := 93) hx hb dX10_order_76 (by decide) (fun c_76 => ?_) (fun c_76 => ?_)
                    · have hf := if_t hf c_76
                      refine lv_iconst (v := 0) hx hb dX10_order_93 (by decide) ?_
                      refine lv_ior hx hb dX10_order_94 ?_
                      refine lv_istore (lv' := [(5, .int (x5_50 ||| 0)), (0, .ref (ad 0)), (1, .int x1), (2, .int x2_38), (4, .int x4_38), (6, .int x6_50)]) hx hb dX10_order_95 hl (by decide) rfl (fun ls hl => ?_)
                      refine lv_iinc (v := x6_50 + 1) (lv' := [(6, .int (x6_50 + 1)), (5, .int (x5_50 ||| 0)), (0, .ref (ad 0)), (1, .int x1), (2, .int x2_38), (4, .int x4_38)]) hx hb dX10_order_97 hl (k := 5) rfl rfl (by decide) rfl (fun ls hl => ?_)
                      refine lv_goto (tgt := 50) hx hb dX10_order_100 (by decide) ?_
                      exact ih _ _ hf H locs ls hC (lv_sub hl [2, 3, 4, 5, 1, 0] rfl)
                    · have hf := if_f hf c_76
                      refine lv_iconst (v := 1) hx hb dX10_order_79 (by decide) ?_
                      refine lv_aload_n hx hb dX10_order_80 rfl (lv_at hl 0 rfl) ?_
                      refine va_get (ci := 10) (v := .ref (ad 7)) (C := RX10) (T := TX10) (N := 28) hx hb hts in_X10 hown hC.1 hC.2.1 0 rfl rfl 9 (by decide) (hts _ q815) (fun _ h9 => h9) rfl dX10_order_81 ?_
                      refine lv_iconst (v := 2) hx hb dX10_order_84 (by decide) ?_
                      refine lv_iload hx hb dX10_order_85 (lv_at hl 5 rfl) ?_
                      refine lv_imul hx hb dX10_order_87 ?_
                      obtain ⟨hi_88, hf⟩ := ck_some hf
                      refine va_iald hx hb hC.1 hC.2.1 7 0 rfl rfl hi_88 dX10_order_88 ?_
                      refine lv_ishl hx hb dX10_order_89 ?_
                      refine lv_goto (tgt := 94) hx hb dX10_order_90 (by decide) ?_
                      refine lv_ior hx hb dX10_order_94 ?_
                      refine lv_istore (lv' := [(5, .int (x5_50 ||| (1 <<< ((hung (2 * x6_50).toNatClampNeg) &&& 31)))), (0, .ref (ad 0)), (1, .int x1), (2, .int x2_38), (4, .int x4_38), (6, .int x6_50)]) hx hb dX10_order_95 hl (by decide) rfl (fun ls hl => ?_)
                      refine lv_iinc (v := x6_50 + 1) (lv' := [(6, .int (x6_50 + 1)), (5, .int (x5_50 ||| (1 <<< ((hung (2 * x6_50).toNatClampNeg) &&& 31)))), (0, .ref (ad 0)), (1, .int x1), (2, .int x2_38), (4, .int x4_38)]) hx hb dX10_order_97 hl (k := 5) rfl rfl (by decide) rfl (fun ls hl => ?_)
                      refine lv_goto (tgt := 50) hx hb dX10_order_100 (by decide) ?_
                      exact ih _ _ hf H locs ls hC (lv_sub hl [2, 3, 4, 5, 1, 0] rfl)
              exact L_50 _ _ _ hL H locs ls hC (lv_sub hl [2, 3, 4, 6, 1, 0] rfl)
        exact L_38 _ _ _ _ hL H locs ls hC (lv_sub hl [3, 4, 2, 1, 0] rfl)
      · have hf := if_f hf c_22
        refine lv_bipush (v := (-5)) hx hb dX10_order_25 (by decide) ?_
        have e_1 := (Option.some.inj hf)
        subst e_1
        exact K H locs ls _ rfl hC dX10_order_27
    · have hf := if_t hf c_11
      refine lv_bipush (v := (-9)) hx hb dX10_order_14 (by decide) ?_
      have e_1 := (Option.some.inj hf)
      subst e_1
      exact K H locs ls _ rfl hC dX10_order_16
  · have hf := if_f hf c_1
    refine lv_iconst (v := (-1)) hx hb dX10_order_4 (by decide) ?_
    have e_1 := (Option.some.inj hf)
    subst e_1
    exact K H locs ls _ rfl hC dX10_order_5
set_option maxRecDepth 100000 in
theorem c_m_order {l : Launch} {sz : Nat} {D : va_G} {d : Nat → ClassId} {ad : Nat → Nat} {w : Nat → Int32} {isKept : Nat → Int32} {people : Int32} {room : Nat → Int32} {work : Nat → Int32} {price : Nat → Int32} {askings : Int32} {asked : Nat → Int32} {hangs : Int32} {hung : Nat → Int32} {tenths : Nat → Int32} {sortWorth : Nat → Int32} {sortDays : Nat → Int32} {sorts : Int32} {text : Nat → Int32} {texted : Int32} {trace : Int64} {at_ : Int32} {fault : Int32} {readPeople : Int32} {readPerson : Nat → Int32} {readAskings : Int32} {readAsked : Nat → Int32} {readHangs : Int32} {readHung : Nat → Int32} {rest : Nat → Int32} {brings : Nat → Int64} {later : Nat → Int64} {x1 : Int32} {r : Int32} (hf : m_order askings hangs hung x1 = some r) : MI l yX10_order (ws_ yX10_order cX10_order 7 (some .int)) { frames := 3, cells := 0, slots := 0, locals := 66 } D gcl (gty d) (fun _ => True) (mw d ad w isKept people room work price askings asked hangs hung tenths sortWorth sortDays sorts text texted trace at_ fault readPeople readPerson readAskings readAsked readHangs readHung rest brings later) (mw d ad w isKept people room work price askings asked hangs hung tenths sortWorth sortDays sorts text texted trace at_ fault readPeople readPerson readAskings readAsked readHangs readHung rest brings later) sz [.ref (ad 0), .int x1] r :=
  MI.of (by decide) [.ref (ad 0), .int x1] [(0, .ref (ad 0)), (1, .int x1)] (Nat.le_of_ble_eq_true rfl) rfl (fun p e s m below meth c ls Q hx hb hml hown hts hN hA hC hl K => w_m_order hx hb hml hown hts hA (Nat.le_refl _) (Nat.le_refl _) (Nat.le_refl _) (Nat.le_refl _) hf hC hl K)

def m_fewest_L22 (askings : Int32) (hangs : Int32) (hung : Nat → Int32) : Nat → Int32 → Int32 → Option (Int32)
  | 0, _, _ => none
  | n_22 + 1, x2_22, x3_22 =>
  if x3_22 < 0 then (some x2_22) else
  bnd (m_ones x3_22) fun r_27 =>
  bnd (m_ones x2_22) fun r_31 =>
  if r_31 < r_27 then (m_fewest_L22 askings hangs hung n_22 x2_22 (x3_22 + (-1)) ) else
  bnd (m_allAskings askings) fun r_39 =>
  bnd (m_leftOf hangs hung (r_39 &&& (x3_22 ^^^ (-1)))) fun r_46 =>
  if r_46 = 0 then (m_fewest_L22 askings hangs hung n_22 x3_22 (x3_22 + (-1)) ) else
  m_fewest_L22 askings hangs hung n_22 x2_22 (x3_22 + (-1)) 
theorem m_fewest_L22_s (askings : Int32) (hangs : Int32) (hung : Nat → Int32) (n_22 : Nat) (x2_22 : Int32) (x3_22 : Int32) : m_fewest_L22 askings hangs hung (n_22 + 1) x2_22 x3_22 = (
  if x3_22 < 0 then (some x2_22) else
  bnd (m_ones x3_22) fun r_27 =>
  bnd (m_ones x2_22) fun r_31 =>
  if r_31 < r_27 then (m_fewest_L22 askings hangs hung n_22 x2_22 (x3_22 + (-1)) ) else
  bnd (m_allAskings askings) fun r_39 =>
  bnd (m_leftOf hangs hung (r_39 &&& (x3_22 ^^^ (-1)))) fun r_46 =>
  if r_46 = 0 then (m_fewest_L22 askings hangs hung n_22 x3_22 (x3_22 + (-1)) ) else
  m_fewest_L22 askings hangs hung n_22 x2_22 (x3_22 + (-1)) ) := rfl
def m_fewest (askings : Int32) (hangs : Int32) (hung : Nat → Int32) (x1 : Int32) : Option (Int32) :=
  bnd (m_in x1.toInt64 0 1) fun r_4 =>
  if r_4 = 0 then (some (-1)) else
  bnd (m_allAskings askings) fun r_13 =>
  bnd (m_allAskings askings) fun r_18 =>
  bnd (m_fewest_L22 askings hangs hung g_fuel r_13 r_18 ) (fun x2_64 =>
  if x1 = 0 then (bnd (m_ones x2_64) fun r_69 =>
  some r_69) else
  some x2_64)
set_option maxHeartbeats 4000000 in
set_option maxRecDepth 100000 in
theorem w_m_fewest {p : Program} {l : Launch} {e : Env} {R : Room} {s : State} {m : MethodId} {args : Array Value} {below : List Frame} {meth : Method} {c : Code} {H : Heap} {locs : List Loc} {cells slots : Nat} {Q : State → Prop} {A : Nat → Prop} {ls : Array Slot} {D : va_G} {d : Nat → ClassId} {ad : Nat → Nat} {w : Nat → Int32} {isKept : Nat → Int32} {people : Int32} {room : Nat → Int32} {work : Nat → Int32} {price : Nat → Int32} {askings : Int32} {asked : Nat → Int32} {hangs : Int32} {hung : Nat → Int32} {tenths : Nat → Int32} {sortWorth : Nat → Int32} {sortDays : Nat → Int32} {sorts : Int32} {text : Nat → Int32} {texted : Int32} {trace : Int64} {at_ : Int32} {fault : Int32} {readPeople : Int32} {readPerson : Nat → Int32} {readAskings : Int32} {readAsked : Nat → Int32} {readHangs : Int32} {readHung : Nat → Int32} {rest : Nat → Int32} {brings : Nat → Int64} {later : Nat → Int64} {x1 : Int32} {r : Int32} (hx : p.tables.exec = Jvm.exec) (hb : c.code = cX10_fewest) (hml : c.maxLocals = 4) (hown : s.vm.findClass RX10 = some m.cls) (hts : ∀ w ∈ lw_all, w.before args s = true) (hA : ∀ q, s.heap.size ≤ q → A q) (hRf : 2 ≤ R.frames) (hRl : 46 ≤ R.locals) (hRc : cells ≤ R.cells) (hRs : slots ≤ R.slots) (hf : m_fewest askings hangs hung x1 = some r) (hC : HC D gcl (gty d) A (mw d ad w isKept people room work price askings asked hangs hung tenths sortWorth sortDays sorts text texted trace at_ fault readPeople readPerson readAskings readAsked readHangs readHung rest brings later) s H locs) (hl : lv_has ls 4 [(0, .ref (ad 0)), (1, .int x1)]) (K : ∀ (H : Heap) (locs : List Loc) (ls : Array Slot) (pc : Nat), narrow .int (.int r) = .int r → HC D gcl (gty d) A (mw d ad w isKept people room work price askings asked hangs hung tenths sortWorth sortDays sorts text texted trace at_ fault readPeople readPerson readAskings readAsked readHangs readHung rest brings later) s H locs → decode cX10_fewest pc = .ok (.ireturn, 1) → W p l e R s m args below meth c H locs cells slots Q (F0 m pc ls [.int r])) : W p l e R s m args below meth c H locs cells slots Q (F0 m 0 ls []) := by
  unfold m_fewest at hf
  refine lv_iload_n hx hb dX10_fewest_0 rfl (lv_at hl 1 rfl) ?_
  refine lv_i2l (v := x1.toInt64) hx hb dX10_fewest_1 rfl ?_
  refine lv_lconst (v := 0) hx hb dX10_fewest_2 (by decide) ?_
  refine lv_lconst (v := 1) hx hb dX10_fewest_3 (by decide) ?_
  obtain ⟨r_4, hcall, hf⟩ := bnd_some hf
  refine hc_i (va_runS (As := [.long x1.toInt64, .long 0, .long 1]) (rest := []) ⟨hx, hb, hml, hown, hts⟩ (c_m_in hcall) (va_cwS 3 hts (lw_S q898 q899 q59 q900) rfl rfl rfl (by decide +kernel) ⟨(Nat.le_trans (Nat.le_of_ble_eq_true rfl) hRf), (Nat.le_trans (Nat.le_of_ble_eq_true rfl) hRl)⟩) (pre_S (fun _ _ _ _ h => h) (fun _ _ _ => trivial) hC) rfl rfl hl.1 rfl (lv_room (Nat.le_of_ble_eq_true rfl)) dX10_fewest_4 ⟨hRc, hRs⟩) hA hC (fun H locs hC => ?_)
  refine lv_if_ne (tgt := 12) hx hb dX10_fewest_7 (by decide) (fun c_7 => ?_) (fun c_7 => ?_)
  · have hf := if_f hf c_7
    refine lv_aload_n hx hb dX10_fewest_12 rfl (lv_at hl 0 rfl) ?_
    obtain ⟨r_13, hcall, hf⟩ := bnd_some hf
    refine hc_i (va_runV (C := RX10) (As := []) (rest := []) ⟨hx, hb, hml, hown, hts⟩ (c_m_allAskings hcall) (cwV 0 hts (lw_V q1080 q1082 qs43 q59 q1083) rfl rfl rfl (by decide +kernel) ⟨(Nat.le_trans (Nat.le_of_ble_eq_true rfl) hRf), (Nat.le_trans (Nat.le_of_ble_eq_true rfl) hRl)⟩) (pre_V (q0 := 0) (ci := 10) (fun _ _ _ _ h => h) (fun _ _ _ => trivial) hC rfl rfl) rfl rfl hl.1 rfl (lv_room (Nat.le_of_ble_eq_true rfl)) dX10_fewest_13 ⟨hRc, hRs⟩) hA hC (fun H locs hC => ?_)
    refine lv_istore_n (lv' := [(2, .int r_13), (0, .ref (ad 0)), (1, .int x1)]) hx hb dX10_fewest_16 rfl hl (by decide) rfl (fun ls hl => ?_)
    refine lv_aload_n hx hb dX10_fewest_17 rfl (lv_at hl 1 rfl) ?_
    obtain ⟨r_18, hcall, hf⟩ := bnd_some hf
    refine hc_i (va_runV (C := RX10) (As := []) (rest := []) ⟨hx, hb, hml, hown, hts⟩ (c_m_allAskings hcall) (cwV 0 hts (lw_V q1080 q1082 qs43 q59 q1083) rfl rfl rfl (by decide +kernel) ⟨(Nat.le_trans (Nat.le_of_ble_eq_true rfl) hRf), (Nat.le_trans (Nat.le_of_ble_eq_true rfl) hRl)⟩) (pre_V (q0 := 0) (ci := 10) (fun _ _ _ _ h => h) (fun _ _ _ => trivial) hC rfl rfl) rfl rfl hl.1 rfl (lv_room (Nat.le_of_ble_eq_true rfl)) dX10_fewest_18 ⟨hRc, hRs⟩) hA hC (fun H locs hC => ?_)
    refine lv_istore_n (lv' := [(3, .int r_18), (2, .int r_13), (0, .ref (ad 0)), (1, .int x1)]) hx hb dX10_fewest_21 rfl hl (by decide) rfl (fun ls hl => ?_)
    obtain ⟨x2_64, hL, hf⟩ := bnd_some hf
    have X_22 : ∀ (H : Heap) (locs : List Loc) (ls : Array Slot), HC D gcl (gty d) A (mw d ad w isKept people room work price askings asked hangs hung tenths sortWorth sortDays sorts text texted trace at_ fault readPeople readPerson readAskings readAsked readHangs readHung rest brings later) s H locs → lv_has ls 4 [(1, .int x1), (2, .int x2_64)] → W p l e R s m args below meth c H locs cells slots Q (F0 m 64 ls []) := by
      intro H locs ls hC hl
      refine lv_iload_n hx hb dX10_fewest_64 rfl (lv_at hl 0 rfl) ?_
      refine lv_if_ne (tgt := 75) hx hb dX10_fewest_65 (by decide) (fun c_65 => ?_) (fun c_65 => ?_)
      · have hf := if_f hf c_65
        refine lv_iload_n hx hb dX10_fewest_75 rfl (lv_at hl 1 rfl) ?_
        have e_1 := (Option.some.inj hf)
        subst e_1
        exact K H locs ls _ rfl hC dX10_fewest_76
      · have hf := if_t hf c_65
        refine lv_iload_n hx hb dX10_fewest_68 rfl (lv_at hl 1 rfl) ?_
        obtain ⟨r_69, hcall, hf⟩ := bnd_some hf
        refine hc_i (va_runS (As := [.int x2_64]) (rest := []) ⟨hx, hb, hml, hown, hts⟩ (c_m_ones hcall) (va_cwS 1 hts (lw_S q1039 q1040 q59 q1041) rfl rfl rfl (by decide +kernel) ⟨(Nat.le_trans (Nat.le_of_ble_eq_true rfl) hRf), (Nat.le_trans (Nat.le_of_ble_eq_true rfl) hRl)⟩) (pre_S (fun _ _ _ _ h => h) (fun _ _ _ => trivial) hC) rfl rfl hl.1 rfl (lv_room (Nat.le_of_ble_eq_true rfl)) dX10_fewest_69 ⟨hRc, hRs⟩) hA hC (fun H locs hC => ?_)
        refine lv_goto (tgt := 76) hx hb dX10_fewest_72 (by decide) ?_
        have e_1 := (Option.some.inj hf)
        subst e_1
        exact K H locs ls _ rfl hC dX10_fewest_76
    have L_22 : ∀ (n_22 : Nat) (x2_22 : Int32) (x3_22 : Int32), m_fewest_L22 askings hangs hung n_22 x2_22 x3_22 = some x2_64 → ∀ (H : Heap) (locs : List Loc) (ls : Array Slot), HC D gcl (gty d) A (mw d ad w isKept people room work price askings asked hangs hung tenths sortWorth sortDays sorts text texted trace at_ fault readPeople readPerson readAskings readAsked readHangs readHung rest brings later) s H locs → lv_has ls 4 [(0, .ref (ad 0)), (1, .int x1), (2, .int x2_22), (3, .int x3_22)] → W p l e R s m args below meth c H locs cells slots Q (F0 m 22 ls []) := by
      intro n_22
      induction n_22 with
      | zero => intro _ _ hf; cases hf
      | succ n_22 ih =>
        intro x2_22 x3_22 hf H locs ls hC hl
        rw [m_fewest_L22_s] at hf
        refine lv_iload_n hx hb dX10_fewest_22 rfl (lv_at hl 3 rfl) ?_
        refine lv_if_lt (tgt := 64) hx hb dX10_fewest_23 (by decide) (fun c_23 => ?_) (fun c_23 => ?_)
        · have hf := if_t hf c_23
          have e_1 := (Option.some.inj hf)
          subst e_1
          exact X_22 H locs ls hC (lv_sub hl [1, 2] rfl)
        · have hf := if_f hf c_23
          refine lv_iload_n hx hb dX10_fewest_26 rfl (lv_at hl 3 rfl) ?_
          obtain ⟨r_27, hcall, hf⟩ := bnd_some hf
          refine hc_i (va_runS (As := [.int x3_22]) (rest := []) ⟨hx, hb, hml, hown, hts⟩ (c_m_ones hcall) (va_cwS 1 hts (lw_S q1039 q1040 q59 q1041) rfl rfl rfl (by decide +kernel) ⟨(Nat.le_trans (Nat.le_of_ble_eq_true rfl) hRf), (Nat.le_trans (Nat.le_of_ble_eq_true rfl) hRl)⟩) (pre_S (fun _ _ _ _ h => h) (fun _ _ _ => trivial) hC) rfl rfl hl.1 rfl (lv_room (Nat.le_of_ble_eq_true rfl)) dX10_fewest_27 ⟨hRc, hRs⟩) hA hC (fun H locs hC => ?_)
          refine lv_iload_n hx hb dX10_fewest_30 rfl (lv_at hl 2 rfl) ?_
          obtain ⟨r_31, hcall, hf⟩ := bnd_some hf
          refine hc_i (va_runS (As := [.int x2_22]) (rest := [.int r_27]) ⟨hx, hb, hml, hown, hts⟩ (c_m_ones hcall) (va_cwS 1 hts (lw_S q1039 q1040 q59 q1041) rfl rfl rfl (by decide +kernel) ⟨(Nat.le_trans (Nat.le_of_ble_eq_true rfl) hRf), (Nat.le_trans (Nat.le_of_ble_eq_true rfl) hRl)⟩) (pre_S (fun _ _ _ _ h => h) (fun _ _ _ => trivial) hC) rfl rfl hl.1 rfl (lv_room (Nat.le_of_ble_eq_true rfl)) dX10_fewest_31 ⟨hRc, hRs⟩) hA hC (fun H locs hC => ?_)
          refine lv_icmp_gt (tgt := 56) hx hb dX10_fewest_34 (by decide) (fun c_34 => ?_) (fun c_34 => ?_)
          · have hf := if_t hf c_34
            refine lv_iload_n hx hb dX10_fewest_56 rfl (lv_at hl 2 rfl) ?_
            refine lv_istore_n (lv' := [(2, .int x2_22), (0, .ref (ad 0)), (1, .int x1), (3, .int x3_22)]) hx hb dX10_fewest_57 rfl hl (by decide) rfl (fun ls hl => ?_)
            refine lv_iinc (v := x3_22 + (-1)) (lv' := [(3, .int (x3_22 + (-1))), (2, .int x2_22), (0, .ref (ad 0)), (1, .int x1)]) hx hb dX10_fewest_58 hl (k := 3) rfl rfl (by decide) rfl (fun ls hl => ?_)
            refine lv_goto (tgt := 22) hx hb dX10_fewest_61 (by decide) ?_
            exact ih _ _ hf H locs ls hC (lv_sub hl [2, 3, 1, 0] rfl)
          · have hf := if_f hf c_34
            refine lv_aload_n hx hb dX10_fewest_37 rfl (lv_at hl 0 rfl) ?_
            refine lv_aload_n hx hb dX10_fewest_38 rfl (lv_at hl 0 rfl) ?_
            obtain ⟨r_39, hcall, hf⟩ := bnd_some hf
            refine hc_i (va_runV (C := RX10) (As := []) (rest := [.ref (ad 0)]) ⟨hx, hb, hml, hown, hts⟩ (c_m_allAskings hcall) (cwV 0 hts (lw_V q1080 q1082 qs43 q59 q1083) rfl rfl rfl (by decide +kernel) ⟨(Nat.le_trans (Nat.le_of_ble_eq_true rfl) hRf), (Nat.le_trans (Nat.le_of_ble_eq_true rfl) hRl)⟩) (pre_V (q0 := 0) (ci := 10) (fun _ _ _ _ h => h) (fun _ _ _ => trivial) hC rfl rfl) rfl rfl hl.1 rfl (lv_room (Nat.le_of_ble_eq_true rfl)) dX10_fewest_39 ⟨hRc, hRs⟩) hA hC (fun H locs hC => ?_)
            refine lv_iload_n hx hb dX10_fewest_42 rfl (lv_at hl 3 rfl) ?_
            refine lv_iconst (v := (-1)) hx hb dX10_fewest_43 (by decide) ?_
            refine lv_ixor hx hb dX10_fewest_44 ?_
            refine lv_iand hx hb dX10_fewest_45 ?_
            obtain ⟨r_46, hcall, hf⟩ := bnd_some hf
            refine hc_i (va_runV (C := RX10) (As := [.int (r_39 &&& (x3_22 ^^^ (-1)))]) (rest := []) ⟨hx, hb, hml, hown, hts⟩ (c_m_leftOf hcall) (cwV 1 hts (lw_V q1084 q1086 qs44 q59 q1087) rfl rfl rfl (by decide +kernel) ⟨(Nat.le_trans (Nat.le_of_ble_eq_true rfl) hRf), (Nat.le_trans (Nat.le_of_ble_eq_true rfl) hRl)⟩) (pre_V (q0 := 0) (ci := 10) (fun _ _ _ _ h => h) (fun _ _ _ => trivial) hC rfl rfl) rfl rfl hl.1 rfl (lv_room (Nat.le_of_ble_eq_true rfl)) dX10_fewest_46 ⟨hRc, hRs⟩) hA hC (fun H locs hC => ?_)
            refine lv_if_ne (tgt := 56) hx hb dX10_fewest_49 (by decide) (fun c_49 => ?_) (fun c_49 => ?_)
            · have hf := if_f hf c_49
              refine lv_iload_n hx hb dX10_fewest_56 rfl (lv_at hl 2 rfl) ?_
              refine lv_istore_n (lv' := [(2, .int x2_22), (0, .ref (ad 0)), (1, .int x1), (3, .int x3_22)]) hx hb dX10_fewest_57 rfl hl (by decide) rfl (fun ls hl => ?_)
              refine lv_iinc (v := x3_22 + (-1)) (lv' := [(3, .int (x3_22 + (-1))), (2, .int x2_22), (0, .ref (ad 0)), (1, .int x1)]) hx hb dX10_fewest_58 hl (k := 3) rfl rfl (by decide) rfl (fun ls hl => ?_)
              refine lv_goto (tgt := 22) hx hb dX10_fewest_61 (by decide) ?_
              exact ih _ _ hf H locs ls hC (lv_sub hl [2, 3, 1, 0] rfl)
            · have hf := if_t hf c_49
              refine lv_iload_n hx hb dX10_fewest_52 rfl (lv_at hl 3 rfl) ?_
              refine lv_goto (tgt := 57) hx hb dX10_fewest_53 (by decide) ?_
              refine lv_istore_n (lv' := [(2, .int x3_22), (0, .ref (ad 0)), (1, .int x1), (3, .int x3_22)]) hx hb dX10_fewest_57 rfl hl (by decide) rfl (fun ls hl => ?_)
              refine lv_iinc (v := x3_22 + (-1)) (lv' := [(3, .int (x3_22 + (-1))), (2, .int x3_22), (0, .ref (ad 0)), (1, .int x1)]) hx hb dX10_fewest_58 hl (k := 3) rfl rfl (by decide) rfl (fun ls hl => ?_)
              refine lv_goto (tgt := 22) hx hb dX10_fewest_61 (by decide) ?_
              exact ih _ _ hf H locs ls hC (lv_sub hl [2, 3, 1, 0] rfl)
    exact L_22 _ _ _ hL H locs ls hC (lv_sub hl [2, 3, 1, 0] rfl)
  · have hf := if_t hf c_7
    refine lv_iconst (v := (-1)) hx hb dX10_fewest_10 (by decide) ?_
    have e_1 := (Option.some.inj hf)
    subst e_1
    exact K H locs ls _ rfl hC dX10_fewest_11
set_option maxRecDepth 100000 in
theorem c_m_fewest {l : Launch} {sz : Nat} {D : va_G} {d : Nat → ClassId} {ad : Nat → Nat} {w : Nat → Int32} {isKept : Nat → Int32} {people : Int32} {room : Nat → Int32} {work : Nat → Int32} {price : Nat → Int32} {askings : Int32} {asked : Nat → Int32} {hangs : Int32} {hung : Nat → Int32} {tenths : Nat → Int32} {sortWorth : Nat → Int32} {sortDays : Nat → Int32} {sorts : Int32} {text : Nat → Int32} {texted : Int32} {trace : Int64} {at_ : Int32} {fault : Int32} {readPeople : Int32} {readPerson : Nat → Int32} {readAskings : Int32} {readAsked : Nat → Int32} {readHangs : Int32} {readHung : Nat → Int32} {rest : Nat → Int32} {brings : Nat → Int64} {later : Nat → Int64} {x1 : Int32} {r : Int32} (hf : m_fewest askings hangs hung x1 = some r) : MI l yX10_fewest (ws_ yX10_fewest cX10_fewest 4 (some .int)) { frames := 2, cells := 0, slots := 0, locals := 46 } D gcl (gty d) (fun _ => True) (mw d ad w isKept people room work price askings asked hangs hung tenths sortWorth sortDays sorts text texted trace at_ fault readPeople readPerson readAskings readAsked readHangs readHung rest brings later) (mw d ad w isKept people room work price askings asked hangs hung tenths sortWorth sortDays sorts text texted trace at_ fault readPeople readPerson readAskings readAsked readHangs readHung rest brings later) sz [.ref (ad 0), .int x1] r :=
  MI.of (by decide) [.ref (ad 0), .int x1] [(0, .ref (ad 0)), (1, .int x1)] (Nat.le_of_ble_eq_true rfl) rfl (fun p e s m below meth c ls Q hx hb hml hown hts hN hA hC hl K => w_m_fewest hx hb hml hown hts hA (Nat.le_refl _) (Nat.le_refl _) (Nat.le_refl _) (Nat.le_refl _) hf hC hl K)

def m_leftTo_L4 (x1 : Int32) (w : Nat → Int32) : Nat → Int32 → Int32 → Option (Int32)
  | 0, _, _ => none
  | n_4 + 1, x2_4, x3_4 =>
  ck (19 + x1) 300 <| if (w (19 + x1).toNatClampNeg) ≤ x3_4 then (some x2_4) else
  ck ((23 + (5 * x1)) + x3_4) 300 <| ck (11 + (w ((23 + (5 * x1)) + x3_4).toNatClampNeg)) 300 <| m_leftTo_L4 x1 w n_4 (x2_4 + (w (11 + (w ((23 + (5 * x1)) + x3_4).toNatClampNeg)).toNatClampNeg)) (x3_4 + 1) 
theorem m_leftTo_L4_s (x1 : Int32) (w : Nat → Int32) (n_4 : Nat) (x2_4 : Int32) (x3_4 : Int32) : m_leftTo_L4 x1 w (n_4 + 1) x2_4 x3_4 = (
  ck (19 + x1) 300 <| if (w (19 + x1).toNatClampNeg) ≤ x3_4 then (some x2_4) else
  ck ((23 + (5 * x1)) + x3_4) 300 <| ck (11 + (w ((23 + (5 * x1)) + x3_4).toNatClampNeg)) 300 <| m_leftTo_L4 x1 w n_4 (x2_4 + (w (11 + (w ((23 + (5 * x1)) + x3_4).toNatClampNeg)).toNatClampNeg)) (x3_4 + 1) ) := rfl
def m_leftTo (w : Nat → Int32) (x1 : Int32) : Option (Int32) :=
  bnd (m_leftTo_L4 x1 w g_fuel 0 0 ) (fun x2_47 =>
  some x2_47)
set_option maxHeartbeats 4000000 in
set_option maxRecDepth 100000 in
theorem w_m_leftTo {p : Program} {l : Launch} {e : Env} {R : Room} {s : State} {m : MethodId} {args : Array Value} {below : List Frame} {meth : Method} {c : Code} {H : Heap} {locs : List Loc} {cells slots : Nat} {Q : State → Prop} {A : Nat → Prop} {ls : Array Slot} {D : va_G} {d : Nat → ClassId} {ad : Nat → Nat} {w : Nat → Int32} {isKept : Nat → Int32} {people : Int32} {room : Nat → Int32} {work : Nat → Int32} {price : Nat → Int32} {askings : Int32} {asked : Nat → Int32} {hangs : Int32} {hung : Nat → Int32} {tenths : Nat → Int32} {sortWorth : Nat → Int32} {sortDays : Nat → Int32} {sorts : Int32} {text : Nat → Int32} {texted : Int32} {trace : Int64} {at_ : Int32} {fault : Int32} {readPeople : Int32} {readPerson : Nat → Int32} {readAskings : Int32} {readAsked : Nat → Int32} {readHangs : Int32} {readHung : Nat → Int32} {rest : Nat → Int32} {brings : Nat → Int64} {later : Nat → Int64} {x1 : Int32} {r : Int32} (hx : p.tables.exec = Jvm.exec) (hb : c.code = cX10_leftTo) (hml : c.maxLocals = 4) (hown : s.vm.findClass RX10 = some m.cls) (hts : ∀ w ∈ lw_all, w.before args s = true) (hA : ∀ q, s.heap.size ≤ q → A q) (hRf : 0 ≤ R.frames) (hRl : 0 ≤ R.locals) (hRc : cells ≤ R.cells) (hRs : slots ≤ R.slots) (hf : m_leftTo w x1 = some r) (hC : HC D gcl (gty d) A (mw d ad w isKept people room work price askings asked hangs hung tenths sortWorth sortDays sorts text texted trace at_ fault readPeople readPerson readAskings readAsked readHangs readHung rest brings later) s H locs) (hl : lv_has ls 4 [(0, .ref (ad 0)), (1, .int x1)]) (K : ∀ (H : Heap) (locs : List Loc) (ls : Array Slot) (pc : Nat), narrow .int (.int r) = .int r → HC D gcl (gty d) A (mw d ad w isKept people room work price askings asked hangs hung tenths sortWorth sortDays sorts text texted trace at_ fault readPeople readPerson readAskings readAsked readHangs readHung rest brings later) s H locs → decode cX10_leftTo pc = .ok (.ireturn, 1) → W p l e R s m args below meth c H locs cells slots Q (F0 m pc ls [.int r])) : W p l e R s m args below meth c H locs cells slots Q (F0 m 0 ls []) := by
  unfold m_leftTo at hf
  refine lv_iconst (v := 0) hx hb dX10_leftTo_0 (by decide) ?_
  refine lv_istore_n (lv' := [(2, .int 0), (0, .ref (ad 0)), (1, .int x1)]) hx hb dX10_leftTo_1 rfl hl (by decide) rfl (fun ls hl => ?_)
  refine lv_iconst (v := 0) hx hb dX10_leftTo_2 (by decide) ?_
  refine lv_istore_n (lv' := [(3, .int 0), (2, .int 0), (0, .ref (ad 0)), (1, .int x1)]) hx hb dX10_leftTo_3 rfl hl (by decide) rfl (fun ls hl => ?_)
  obtain ⟨x2_47, hL, hf⟩ := bnd_some hf
  have X_4 : ∀ (H : Heap) (locs : List Loc) (ls : Array Slot), HC D gcl (gty d) A (mw d ad w isKept people room work price askings asked hangs hung tenths sortWorth sortDays sorts text texted trace at_ fault readPeople readPerson readAskings readAsked readHangs readHung rest brings later) s H locs → lv_has ls 4 [(2, .int x2_47)] → W p l e R s m args below meth c H locs cells slots Q (F0 m 47 ls []) := by
    intro H locs ls hC hl
    refine lv_iload_n hx hb dX10_leftTo_47 rfl (lv_at hl 0 rfl) ?_
    have e_1 := (Option.some.inj hf)
    subst e_1
    exact K H locs ls _ rfl hC dX10_leftTo_48
  have L_4 : ∀ (n_4 : Nat) (x2_4 : Int32) (x3_4 : Int32), m_leftTo_L4 x1 w n_4 x2_4 x3_4 = some x2_47 → ∀ (H : Heap) (locs : List Loc) (ls : Array Slot), HC D gcl (gty d) A (mw d ad w isKept people room work price askings asked hangs hung tenths sortWorth sortDays sorts text texted trace at_ fault readPeople readPerson readAskings readAsked readHangs readHung rest brings later) s H locs → lv_has ls 4 [(0, .ref (ad 0)), (1, .int x1), (2, .int x2_4), (3, .int x3_4)] → W p l e R s m args below meth c H locs cells slots Q (F0 m 4 ls []) := by
    intro n_4
    induction n_4 with
    | zero => intro _ _ hf; cases hf
    | succ n_4 ih =>
      intro x2_4 x3_4 hf H locs ls hC hl
      rw [m_leftTo_L4_s] at hf
      refine lv_iload_n hx hb dX10_leftTo_4 rfl (lv_at hl 3 rfl) ?_
      refine lv_aload_n hx hb dX10_leftTo_5 rfl (lv_at hl 0 rfl) ?_
      refine va_get (ci := 10) (v := .ref (ad 1)) (C := RX10) (T := TX10) (N := 28) hx hb hts in_X10 hown hC.1 hC.2.1 0 rfl rfl 0 (by decide) (hts _ q806) (fun _ h9 => h9) rfl dX10_leftTo_6 ?_
      refine lv_bipush (v := 19) hx hb dX10_leftTo_9 (by decide) ?_
      refine lv_iload_n hx hb dX10_leftTo_11 rfl (lv_at hl 1 rfl) ?_
      refine lv_iadd hx hb dX10_leftTo_12 ?_
      obtain ⟨hi_13, hf⟩ := ck_some hf
      refine va_iald hx hb hC.1 hC.2.1 1 0 rfl rfl hi_13 dX10_leftTo_13 ?_
      refine lv_icmp_ge (tgt := 47) hx hb dX10_leftTo_14 (by decide) (fun c_14 => ?_) (fun c_14 => ?_)
      · have hf := if_t hf c_14
        have e_1 := (Option.some.inj hf)
        subst e_1
        exact X_4 H locs ls hC (lv_sub hl [2] rfl)
      · have hf := if_f hf c_14
        refine lv_iload_n hx hb dX10_leftTo_17 rfl (lv_at hl 2 rfl) ?_
        refine lv_aload_n hx hb dX10_leftTo_18 rfl (lv_at hl 0 rfl) ?_
        refine va_get (ci := 10) (v := .ref (ad 1)) (C := RX10) (T := TX10) (N := 28) hx hb hts in_X10 hown hC.1 hC.2.1 0 rfl rfl 0 (by decide) (hts _ q806) (fun _ h9 => h9) rfl dX10_leftTo_19 ?_
        refine lv_bipush (v := 11) hx hb dX10_leftTo_22 (by decide) ?_
        refine lv_aload_n hx hb dX10_leftTo_24 rfl (lv_at hl 0 rfl) ?_
        refine va_get (ci := 10) (v := .ref (ad 1)) (C := RX10) (T := TX10) (N := 28) hx hb hts in_X10 hown hC.1 hC.2.1 0 rfl rfl 0 (by decide) (hts _ q806) (fun _ h9 => h9) rfl dX10_leftTo_25 ?_
        refine lv_bipush (v := 23) hx hb dX10_leftTo_28 (by decide) ?_
        refine lv_iconst (v := 5) hx hb dX10_leftTo_30 (by decide) ?_
        refine lv_iload_n hx hb dX10_leftTo_31 rfl (lv_at hl 1 rfl) ?_
        refine lv_imul hx hb dX10_leftTo_32 ?_
        refine lv_iadd hx hb dX10_leftTo_33 ?_
        refine lv_iload_n hx hb dX10_leftTo_34 rfl (lv_at hl 3 rfl) ?_
        refine lv_iadd hx hb dX10_leftTo_35 ?_
        obtain ⟨hi_36, hf⟩ := ck_some hf
        refine va_iald hx hb hC.1 hC.2.1 1 0 rfl rfl hi_36 dX10_leftTo_36 ?_
        refine lv_iadd hx hb dX10_leftTo_37 ?_
        obtain ⟨hi_38, hf⟩ := ck_some hf
        refine va_iald hx hb hC.1 hC.2.1 1 0 rfl rfl hi_38 dX10_leftTo_38 ?_
        refine lv_iadd hx hb dX10_leftTo_39 ?_
        refine lv_istore_n (lv' := [(2, .int (x2_4 + (w (11 + (w ((23 + (5 * x1)) + x3_4).toNatClampNeg)).toNatClampNeg))), (0, .ref (ad 0)), (1, .int x1), (3, .int x3_4)]) hx hb dX10_leftTo_40 rfl hl (by decide) rfl (fun ls hl => ?_)
        refine lv_iinc (v := x3_4 + 1) (lv' := [(3, .int (x3_4 + 1)), (2, .int (x2_4 + (w (11 + (w ((23 + (5 * x1)) + x3_4).toNatClampNeg)).toNatClampNeg))), (0, .ref (ad 0)), (1, .int x1)]) hx hb dX10_leftTo_41 hl (k := 3) rfl rfl (by decide) rfl (fun ls hl => ?_)
        refine lv_goto (tgt := 4) hx hb dX10_leftTo_44 (by decide) ?_
        exact ih _ _ hf H locs ls hC (lv_sub hl [2, 3, 1, 0] rfl)
  exact L_4 _ _ _ hL H locs ls hC (lv_sub hl [2, 3, 1, 0] rfl)
set_option maxRecDepth 100000 in
theorem c_m_leftTo {l : Launch} {sz : Nat} {D : va_G} {d : Nat → ClassId} {ad : Nat → Nat} {w : Nat → Int32} {isKept : Nat → Int32} {people : Int32} {room : Nat → Int32} {work : Nat → Int32} {price : Nat → Int32} {askings : Int32} {asked : Nat → Int32} {hangs : Int32} {hung : Nat → Int32} {tenths : Nat → Int32} {sortWorth : Nat → Int32} {sortDays : Nat → Int32} {sorts : Int32} {text : Nat → Int32} {texted : Int32} {trace : Int64} {at_ : Int32} {fault : Int32} {readPeople : Int32} {readPerson : Nat → Int32} {readAskings : Int32} {readAsked : Nat → Int32} {readHangs : Int32} {readHung : Nat → Int32} {rest : Nat → Int32} {brings : Nat → Int64} {later : Nat → Int64} {x1 : Int32} {r : Int32} (hf : m_leftTo w x1 = some r) : MI l yX10_leftTo (ws_ yX10_leftTo cX10_leftTo 4 (some .int)) { frames := 0, cells := 0, slots := 0, locals := 0 } D gcl (gty d) (fun _ => True) (mw d ad w isKept people room work price askings asked hangs hung tenths sortWorth sortDays sorts text texted trace at_ fault readPeople readPerson readAskings readAsked readHangs readHung rest brings later) (mw d ad w isKept people room work price askings asked hangs hung tenths sortWorth sortDays sorts text texted trace at_ fault readPeople readPerson readAskings readAsked readHangs readHung rest brings later) sz [.ref (ad 0), .int x1] r :=
  MI.of (by decide) [.ref (ad 0), .int x1] [(0, .ref (ad 0)), (1, .int x1)] (Nat.le_of_ble_eq_true rfl) rfl (fun p e s m below meth c ls Q hx hb hml hown hts hN hA hC hl K => w_m_leftTo hx hb hml hown hts hA (Nat.le_refl _) (Nat.le_refl _) (Nat.le_refl _) (Nat.le_refl _) hf hC hl K)

def m_great_L64 (x2 : Int32) (x7_54 : Int32) (w : Nat → Int32) (people : Int32) (room : Nat → Int32) (work : Nat → Int32) (price : Nat → Int32) : Nat → Int32 → Int32 → Int32 → Int32 → Option (Int32 × Int32 × Int32)
  | 0, _, _, _, _ => none
  | n_64 + 1, x4_64, x5_64, x6_64, x8_64 =>
  if people ≤ x8_64 then (some (x4_64, x5_64, x6_64)) else
  ck x8_64 4 <| bnd (m_leftTo w x8_64) fun r_94 =>
  ck x8_64 4 <| if (price x8_64.toNatClampNeg) = x7_54 then (ck (19 + x8_64) 300 <| ck x8_64 4 <| if (room x8_64.toNatClampNeg) ≤ (w (19 + x8_64).toNatClampNeg) then (m_great_L64 x2 x7_54 w people room work price n_64 x4_64 x5_64 x6_64 (x8_64 + 1) ) else
  if (((work x8_64.toNatClampNeg) * ((x2 - (w (0 : Int32).toNatClampNeg)) + 1)) - r_94) ≤ 0 then (m_great_L64 x2 x7_54 w people room work price n_64 x4_64 x5_64 x6_64 (x8_64 + 1) ) else
  if x4_64 ≤ 0 then (m_great_L64 x2 x7_54 w people room work price n_64 x4_64 x5_64 x6_64 (x8_64 + 1) ) else
  bnd (m_lesser x4_64 (((work x8_64.toNatClampNeg) * ((x2 - (w (0 : Int32).toNatClampNeg)) + 1)) - r_94)) fun r_146 =>
  m_great_L64 x2 x7_54 w people room work price n_64 (x4_64 - r_146) (x5_64 + (r_146 * x7_54)) (x6_64 ||| (1 <<< (x8_64 &&& 31))) (x8_64 + 1) ) else
  m_great_L64 x2 x7_54 w people room work price n_64 x4_64 x5_64 x6_64 (x8_64 + 1) 
theorem m_great_L64_s (x2 : Int32) (x7_54 : Int32) (w : Nat → Int32) (people : Int32) (room : Nat → Int32) (work : Nat → Int32) (price : Nat → Int32) (n_64 : Nat) (x4_64 : Int32) (x5_64 : Int32) (x6_64 : Int32) (x8_64 : Int32) : m_great_L64 x2 x7_54 w people room work price (n_64 + 1) x4_64 x5_64 x6_64 x8_64 = (
  if people ≤ x8_64 then (some (x4_64, x5_64, x6_64)) else
  ck x8_64 4 <| bnd (m_leftTo w x8_64) fun r_94 =>
  ck x8_64 4 <| if (price x8_64.toNatClampNeg) = x7_54 then (ck (19 + x8_64) 300 <| ck x8_64 4 <| if (room x8_64.toNatClampNeg) ≤ (w (19 + x8_64).toNatClampNeg) then (m_great_L64 x2 x7_54 w people room work price n_64 x4_64 x5_64 x6_64 (x8_64 + 1) ) else
  if (((work x8_64.toNatClampNeg) * ((x2 - (w (0 : Int32).toNatClampNeg)) + 1)) - r_94) ≤ 0 then (m_great_L64 x2 x7_54 w people room work price n_64 x4_64 x5_64 x6_64 (x8_64 + 1) ) else
  if x4_64 ≤ 0 then (m_great_L64 x2 x7_54 w people room work price n_64 x4_64 x5_64 x6_64 (x8_64 + 1) ) else
  bnd (m_lesser x4_64 (((work x8_64.toNatClampNeg) * ((x2 - (w (0 : Int32).toNatClampNeg)) + 1)) - r_94)) fun r_146 =>
  m_great_L64 x2 x7_54 w people room work price n_64 (x4_64 - r_146) (x5_64 + (r_146 * x7_54)) (x6_64 ||| (1 <<< (x8_64 &&& 31))) (x8_64 + 1) ) else
  m_great_L64 x2 x7_54 w people room work price n_64 x4_64 x5_64 x6_64 (x8_64 + 1) ) := rfl
def m_great_L54 (x2 : Int32) (w : Nat → Int32) (people : Int32) (room : Nat → Int32) (work : Nat → Int32) (price : Nat → Int32) : Nat → Int32 → Int32 → Int32 → Int32 → Option (Int32 × Int32 × Int32)
  | 0, _, _, _, _ => none
  | n_54 + 1, x4_54, x5_54, x6_54, x7_54 =>
  if 10 ≤ x7_54 then (some (x4_54, x5_54, x6_54)) else
  bnd3 (m_great_L64 x2 x7_54 w people room work price g_fuel x4_54 x5_54 x6_54 0 ) (fun x4_183 x5_183 x6_183 =>
  m_great_L54 x2 w people room work price n_54 x4_183 x5_183 x6_183 (x7_54 + 1) )
theorem m_great_L54_s (x2 : Int32) (w : Nat → Int32) (people : Int32) (room : Nat → Int32) (work : Nat → Int32) (price : Nat → Int32) (n_54 : Nat) (x4_54 : Int32) (x5_54 : Int32) (x6_54 : Int32) (x7_54 : Int32) : m_great_L54 x2 w people room work price (n_54 + 1) x4_54 x5_54 x6_54 x7_54 = (
  if 10 ≤ x7_54 then (some (x4_54, x5_54, x6_54)) else
  bnd3 (m_great_L64 x2 x7_54 w people room work price g_fuel x4_54 x5_54 x6_54 0 ) (fun x4_183 x5_183 x6_183 =>
  m_great_L54 x2 w people room work price n_54 x4_183 x5_183 x6_183 (x7_54 + 1) )) := rfl
def m_great (w : Nat → Int32) (people : Int32) (room : Nat → Int32) (work : Nat → Int32) (price : Nat → Int32) (x1 : Int32) (x2 : Int32) (x3 : Int32) : Option (Int32) :=
  bnd (m_in x1.toInt64 1 99) fun r_6 =>
  if r_6 = 0 then (some (-1)) else
  bnd (m_in x2.toInt64 ((w (0 : Int32).toNatClampNeg).toInt64) 9) fun r_24 =>
  if r_24 = 0 then (some (-1)) else
  bnd (m_in x3.toInt64 0 1) fun r_34 =>
  if r_34 = 0 then (some (-1)) else
  bnd3 (m_great_L54 x2 w people room work price g_fuel x1 0 0 0 ) (fun x4_189 x5_189 x6_189 =>
  if x4_189 ≤ 0 then (if x3 = 0 then (some x5_189) else
  some x6_189) else
  some (-9))
set_option maxHeartbeats 4000000 in
set_option maxRecDepth 100000 in
theorem w_m_great {p : Program} {l : Launch} {e : Env} {R : Room} {s : State} {m : MethodId} {args : Array Value} {below : List Frame} {meth : Method} {c : Code} {H : Heap} {locs : List Loc} {cells slots : Nat} {Q : State → Prop} {A : Nat → Prop} {ls : Array Slot} {D : va_G} {d : Nat → ClassId} {ad : Nat → Nat} {w : Nat → Int32} {isKept : Nat → Int32} {people : Int32} {room : Nat → Int32} {work : Nat → Int32} {price : Nat → Int32} {askings : Int32} {asked : Nat → Int32} {hangs : Int32} {hung : Nat → Int32} {tenths : Nat → Int32} {sortWorth : Nat → Int32} {sortDays : Nat → Int32} {sorts : Int32} {text : Nat → Int32} {texted : Int32} {trace : Int64} {at_ : Int32} {fault : Int32} {readPeople : Int32} {readPerson : Nat → Int32} {readAskings : Int32} {readAsked : Nat → Int32} {readHangs : Int32} {readHung : Nat → Int32} {rest : Nat → Int32} {brings : Nat → Int64} {later : Nat → Int64} {x1 : Int32} {x2 : Int32} {x3 : Int32} {r : Int32} (hx : p.tables.exec = Jvm.exec) (hb : c.code = cX10_great) (hml : c.maxLocals = 11) (hown : s.vm.findClass RX10 = some m.cls) (hts : ∀ w ∈ lw_all, w.before args s = true) (hA : ∀ q, s.heap.size ≤ q → A q) (hRf : 1 ≤ R.frames) (hRl : 25 ≤ R.locals) (hRc : cells ≤ R.cells) (hRs : slots ≤ R.slots) (hf : m_great w people room work price x1 x2 x3 = some r) (hC : HC D gcl (gty d) A (mw d ad w isKept people room work price askings asked hangs hung tenths sortWorth sortDays sorts text texted trace at_ fault readPeople readPerson readAskings readAsked readHangs readHung rest brings later) s H locs) (hl : lv_has ls 11 [(0, .ref (ad 0)), (1, .int x1), (2, .int x2), (3, .int x3)]) (K : ∀ (H : Heap) (locs : List Loc) (ls : Array Slot) (pc : Nat), narrow .int (.int r) = .int r → HC D gcl (gty d) A (mw d ad w isKept people room work price askings asked hangs hung tenths sortWorth sortDays sorts text texted trace at_ fault readPeople readPerson readAskings readAsked readHangs readHung rest brings later) s H locs → decode cX10_great pc = .ok (.ireturn, 1) → W p l e R s m args below meth c H locs cells slots Q (F0 m pc ls [.int r])) : W p l e R s m args below meth c H locs cells slots Q (F0 m 0 ls []) := by
  unfold m_great at hf
  refine lv_iload_n hx hb dX10_great_0 rfl (lv_at hl 1 rfl) ?_
  refine lv_i2l (v := x1.toInt64) hx hb dX10_great_1 rfl ?_
  refine lv_lconst (v := 1) hx hb dX10_great_2 (by decide) ?_
  refine lv_ldc2 (v := 99) hx hb hown (hts _ q1052) dX10_great_3 ?_
  obtain ⟨r_6, hcall, hf⟩ := bnd_some hf
  refine hc_i (va_runS (As := [.long x1.toInt64, .long 1, .long 99]) (rest := []) ⟨hx, hb, hml, hown, hts⟩ (c_m_in hcall) (va_cwS 3 hts (lw_S q898 q899 q59 q900) rfl rfl rfl (by decide +kernel) ⟨(Nat.le_trans (Nat.le_of_ble_eq_true rfl) hRf), (Nat.le_trans (Nat.le_of_ble_eq_true rfl) hRl)⟩) (pre_S (fun _ _ _ _ h => h) (fun _ _ _ => trivial) hC) rfl rfl hl.1 rfl (lv_room (Nat.le_of_ble_eq_true rfl)) dX10_great_6 ⟨hRc, hRs⟩) hA hC (fun H locs hC => ?_)
  refine lv_if_eq (tgt := 40) hx hb dX10_great_9 (by decide) (fun c_9 => ?_) (fun c_9 => ?_)
  · have hf := if_t hf c_9
    refine lv_iconst (v := (-1)) hx hb dX10_great_40 (by decide) ?_
    have e_1 := (Option.some.inj hf)
    subst e_1
    exact K H locs ls _ rfl hC dX10_great_41
  · have hf := if_f hf c_9
    refine lv_iload_n hx hb dX10_great_12 rfl (lv_at hl 2 rfl) ?_
    refine lv_i2l (v := x2.toInt64) hx hb dX10_great_13 rfl ?_
    refine lv_aload_n hx hb dX10_great_14 rfl (lv_at hl 0 rfl) ?_
    refine va_get (ci := 10) (v := .ref (ad 1)) (C := RX10) (T := TX10) (N := 28) hx hb hts in_X10 hown hC.1 hC.2.1 0 rfl rfl 0 (by decide) (hts _ q806) (fun _ h9 => h9) rfl dX10_great_15 ?_
    refine lv_iconst (v := 0) hx hb dX10_great_18 (by decide) ?_
    refine va_iald hx hb hC.1 hC.2.1 1 0 rfl rfl (vp_in_iff.mpr (by decide)) dX10_great_19 ?_
    refine lv_i2l (v := (w (0 : Int32).toNatClampNeg).toInt64) hx hb dX10_great_20 rfl ?_
    refine lv_ldc2 (v := 9) hx hb hown (hts _ q1101) dX10_great_21 ?_
    obtain ⟨r_24, hcall, hf⟩ := bnd_some hf
    refine hc_i (va_runS (As := [.long x2.toInt64, .long ((w (0 : Int32).toNatClampNeg).toInt64), .long 9]) (rest := []) ⟨hx, hb, hml, hown, hts⟩ (c_m_in hcall) (va_cwS 3 hts (lw_S q898 q899 q59 q900) rfl rfl rfl (by decide +kernel) ⟨(Nat.le_trans (Nat.le_of_ble_eq_true rfl) hRf), (Nat.le_trans (Nat.le_of_ble_eq_true rfl) hRl)⟩) (pre_S (fun _ _ _ _ h => h) (fun _ _ _ => trivial) hC) rfl rfl hl.1 rfl (lv_room (Nat.le_of_ble_eq_true rfl)) dX10_great_24 ⟨hRc, hRs⟩) hA hC (fun H locs hC => ?_)
    refine lv_if_eq (tgt := 40) hx hb dX10_great_27 (by decide) (fun c_27 => ?_) (fun c_27 => ?_)
    · have hf := if_t hf c_27
      refine lv_iconst (v := (-1)) hx hb dX10_great_40 (by decide) ?_
      have e_1 := (Option.some.inj hf)
      subst e_1
      exact K H locs ls _ rfl hC dX10_great_41
    · have hf := if_f hf c_27
      refine lv_iload_n hx hb dX10_great_30 rfl (lv_at hl 3 rfl) ?_
      refine lv_i2l (v := x3.toInt64) hx hb dX10_great_31 rfl ?_
      refine lv_lconst (v := 0) hx hb dX10_great_32 (by decide) ?_
      refine lv_lconst (v := 1) hx hb dX10_great_33 (by decide) ?_
      obtain ⟨r_34, hcall, hf⟩ := bnd_some hf
      refine hc_i (va_runS (As := [.long x3.toInt64, .long 0, .long 1]) (rest := []) ⟨hx, hb, hml, hown, hts⟩ (c_m_in hcall) (va_cwS 3 hts (lw_S q898 q899 q59 q900) rfl rfl rfl (by decide +kernel) ⟨(Nat.le_trans (Nat.le_of_ble_eq_true rfl) hRf), (Nat.le_trans (Nat.le_of_ble_eq_true rfl) hRl)⟩) (pre_S (fun _ _ _ _ h => h) (fun _ _ _ => trivial) hC) rfl rfl hl.1 rfl (lv_room (Nat.le_of_ble_eq_true rfl)) dX10_great_34 ⟨hRc, hRs⟩) hA hC (fun H locs hC => ?_)
      refine lv_if_ne (tgt := 42) hx hb dX10_great_37 (by decide) (fun c_37 => ?_) (fun c_37 => ?_)
      · have hf := if_f hf c_37
        refine lv_iload_n hx hb dX10_great_42 rfl (lv_at hl 1 rfl) ?_
        refine lv_istore (lv' := [(4, .int x1), (0, .ref (ad 0)), (1, .int x1), (2, .int x2), (3, .int x3)]) hx hb dX10_great_43 hl (by decide) rfl (fun ls hl => ?_)
        refine lv_iconst (v := 0) hx hb dX10_great_45 (by decide) ?_
        refine lv_istore (lv' := [(5, .int 0), (4, .int x1), (0, .ref (ad 0)), (1, .int x1), (2, .int x2), (3, .int x3)]) hx hb dX10_great_46 hl (by decide) rfl (fun ls hl => ?_)
        refine lv_iconst (v := 0) hx hb dX10_great_48 (by decide) ?_
        refine lv_istore (lv' := [(6, .int 0), (5, .int 0), (4, .int x1), (0, .ref (ad 0)), (1, .int x1), (2, .int x2), (3, .int x3)]) hx hb dX10_great_49 hl (by decide) rfl (fun ls hl => ?_)
        refine lv_iconst (v := 0) hx hb dX10_great_51 (by decide) ?_
        refine lv_istore (lv' := [(7, .int 0), (6, .int 0), (5, .int 0), (4, .int x1), (0, .ref (ad 0)), (1, .int x1), (2, .int x2), (3, .int x3)]) hx hb dX10_great_52 hl (by decide) rfl (fun ls hl => ?_)
        obtain ⟨x4_189, x5_189, x6_189, hL, hf⟩ := bnd3_some hf
        have X_54 : ∀ (H : Heap) (locs : List Loc) (ls : Array Slot), HC D gcl (gty d) A (mw d ad w isKept people room work price askings asked hangs hung tenths sortWorth sortDays sorts text texted trace at_ fault readPeople readPerson readAskings readAsked readHangs readHung rest brings later) s H locs → lv_has ls 11 [(3, .int x3), (4, .int x4_189), (5, .int x5_189), (6, .int x6_189)] → W p l e R s m args below meth c H locs cells slots Q (F0 m 189 ls []) := by
          intro H locs ls hC hl
          refine lv_iload hx hb dX10_great_189 (lv_at hl 1 rfl) ?_
          refine lv_if_le (tgt := 199) hx hb dX10_great_191 (by decide) (fun c_191 => ?_) (fun c_191 => ?_)
          · have hf := if_t hf c_191
            refine lv_iload_n hx hb dX10_great_199 rfl (lv_at hl 0 rfl) ?_
            refine lv_if_ne (tgt := 208) hx hb dX10_great_200 (by decide) (fun c_200 => ?_) (fun c_200 => ?_)
            · have hf := if_f hf c_200
              refine lv_iload hx hb dX10_great_208 (lv_at hl 3 rfl) ?_
              have e_1 := (Option.some.inj hf)
              subst e_1
              exact K H locs ls _ rfl hC dX10_great_210
            · have hf := if_t hf c_200
              refine lv_iload hx hb dX10_great_203 (lv_at hl 2 rfl) ?_
              refine lv_goto (tgt := 210) hx hb dX10_great_205 (by decide) ?_
              have e_1 := (Option.some.inj hf)
              subst e_1
              exact K H locs ls _ rfl hC dX10_great_210
          · have hf := if_f hf c_191
            refine lv_bipush (v := (-9)) hx hb dX10_great_194 (by decide) ?_
            refine lv_goto (tgt := 210) hx hb dX10_great_196 (by decide) ?_
            have e_1 := (Option.some.inj hf)
            subst e_1
            exact K H locs ls _ rfl hC dX10_great_210
        have L_54 : ∀ (n_54 : Nat) (x4_54 : Int32) (x5_54 : Int32) (x6_54 : Int32) (x7_54 : Int32), m_great_L54 x2 w people room work price n_54 x4_54 x5_54 x6_54 x7_54 = some (x4_189, x5_189, x6_189) → ∀ (H : Heap) (locs : List Loc) (ls : Array Slot), HC D gcl (gty d) A (mw d ad w isKept people room work price askings asked hangs hung tenths sortWorth sortDays sorts text texted trace at_ fault readPeople readPerson readAskings readAsked readHangs readHung rest brings later) s H locs → lv_has ls 11 [(0, .ref (ad 0)), (2, .int x2), (3, .int x3), (4, .int x4_54), (5, .int x5_54), (6, .int x6_54), (7, .int x7_54)] → W p l e R s m args below meth c H locs cells slots Q (F0 m 54 ls []) := by
          intro n_54
          induction n_54 with
          | zero => intro _ _ _ _ hf; cases hf
          | succ n_54 ih =>
            intro x4_54 x5_54 x6_54 x7_54 hf H locs ls hC hl
            rw [m_great_L54_s] at hf
            refine lv_iload hx hb dX10_great_54 (lv_at hl 6 rfl) ?_
            refine lv_bipush (v := 10) hx hb dX10_great_56 (by decide) ?_
            refine lv_icmp_ge (tgt := 189) hx hb dX10_great_58 (by decide) (fun c_58 => ?_) (fun c_58 => ?_)
            · have hf := if_t hf c_58
              obtain ⟨e_1, e_2, e_3⟩ := so_3 (Option.some.inj hf)
              subst e_1
              subst e_2
              subst e_3
              exact X_54 H locs ls hC (lv_sub hl [2, 3, 4, 5] rfl)
            · have hf := if_f hf c_58
              refine lv_iconst (v := 0) hx hb dX10_great_61 (by decide) ?_
              refine lv_istore (lv' := [(8, .int 0), (0, .ref (ad 0)), (2, .int x2), (3, .int x3), (4, .int x4_54), (5, .int x5_54), (6, .int x6_54), (7, .int x7_54)]) hx hb dX10_great_62 hl (by decide) rfl (fun ls hl => ?_)
              obtain ⟨x4_183, x5_183, x6_183, hL, hf⟩ := bnd3_some hf
              have X_64 : ∀ (H : Heap) (locs : List Loc) (ls : Array Slot), HC D gcl (gty d) A (mw d ad w isKept people room work price askings asked hangs hung tenths sortWorth sortDays sorts text texted trace at_ fault readPeople readPerson readAskings readAsked readHangs readHung rest brings later) s H locs → lv_has ls 11 [(0, .ref (ad 0)), (2, .int x2), (3, .int x3), (4, .int x4_183), (5, .int x5_183), (6, .int x6_183), (7, .int x7_54)] → W p l e R s m args below meth c H locs cells slots Q (F0 m 183 ls []) := by
                intro H locs ls hC hl
                refine lv_iinc (v := x7_54 + 1) (lv' := [(7, .int (x7_54 + 1)), (0, .ref (ad 0)), (2, .int x2), (3, .int x3), (4, .int x4_183), (5, .int x5_183), (6, .int x6_183)]) hx hb dX10_great_183 hl (k := 6) rfl rfl (by decide) rfl (fun ls hl => ?_)
                refine lv_goto (tgt := 54) hx hb dX10_great_186 (by decide) ?_
                exact ih _ _ _ _ hf H locs ls hC (lv_sub hl [1, 2, 3, 4, 5, 6, 0] rfl)
              have L_64 : ∀ (n_64 : Nat) (x4_64 : Int32) (x5_64 : Int32) (x6_64 : Int32) (x8_64 : Int32), m_great_L64 x2 x7_54 w people room work price n_64 x4_64 x5_64 x6_64 x8_64 = some (x4_183, x5_183, x6_183) → ∀ (H : Heap) (locs : List Loc) (ls : Array Slot), HC D gcl (gty d) A (mw d ad w isKept people room work price askings asked hangs hung tenths sortWorth sortDays sorts text texted trace at_ fault readPeople readPerson readAskings readAsked readHangs readHung rest brings later) s H locs → lv_has ls 11 [(0, .ref (ad 0)), (2, .int x2), (3, .int x3), (4, .int x4_64), (5, .int x5_64), (6, .int x6_64), (7, .int x7_54), (8, .int x8_64)] → W p l e R s m args below meth c H locs cells slots Q (F0 m 64 ls []) := by
                intro n_64
                induction n_64 with
                | zero => intro _ _ _ _ hf; cases hf
                | succ n_64 ih =>
                  intro x4_64 x5_64 x6_64 x8_64 hf H locs ls hC hl
                  rw [m_great_L64_s] at hf
                  refine lv_iload hx hb dX10_great_64 (lv_at hl 7 rfl) ?_
                  refine lv_aload_n hx hb dX10_great_66 rfl (lv_at hl 0 rfl) ?_
                  refine va_get (ci := 10) (v := .int people) (C := RX10) (T := TX10) (N := 28) hx hb hts in_X10 hown hC.1 hC.2.1 0 rfl rfl 2 (by decide) (hts _ q808) (fun _ h9 => h9) rfl dX10_great_67 ?_
                  refine lv_icmp_ge (tgt := 183) hx hb dX10_great_70 (by decide) (fun c_70 => ?_) (fun c_70 => ?_)
                  · have hf := if_t hf c_70
                    obtain ⟨e_1, e_2, e_3⟩ := so_3 (Option.some.inj hf)
                    subst e_1
                    subst e_2
                    subst e_3
                    exact X_64 H locs ls hC (lv_sub hl [0, 1, 2, 3, 4, 5, 6] rfl)
                  · have hf := if_f hf c_70
                    refine lv_aload_n hx hb dX10_great_73 rfl (lv_at hl 0 rfl) ?_
                    refine va_get (ci := 10) (v := .ref (ad 4)) (C := RX10) (T := TX10) (N := 28) hx hb hts in_X10 hown hC.1 hC.2.1 0 rfl rfl 4 (by decide) (hts _ q810) (fun _ h9 => h9) rfl dX10_great_74 ?_
                    refine lv_iload hx hb dX10_great_77 (lv_at hl 7 rfl) ?_
                    obtain ⟨hi_79, hf⟩ := ck_some hf
                    refine va_iald hx hb hC.1 hC.2.1 4 0 rfl rfl hi_79 dX10_great_79 ?_
                    refine lv_iload_n hx hb dX10_great_80 rfl (lv_at hl 1 rfl) ?_
                    refine lv_aload_n hx hb dX10_great_81 rfl (lv_at hl 0 rfl) ?_
                    refine va_get (ci := 10) (v := .ref (ad 1)) (C := RX10) (T := TX10) (N := 28) hx hb hts in_X10 hown hC.1 hC.2.1 0 rfl rfl 0 (by decide) (hts _ q806) (fun _ h9 => h9) rfl dX10_great_82 ?_
                    refine lv_iconst (v := 0) hx hb dX10_great_85 (by decide) ?_
                    refine va_iald hx hb hC.1 hC.2.1 1 0 rfl rfl (vp_in_iff.mpr (by decide)) dX10_great_86 ?_
                    refine lv_isub hx hb dX10_great_87 ?_
                    refine lv_iconst (v := 1) hx hb dX10_great_88 (by decide) ?_
                    refine lv_iadd hx hb dX10_great_89 ?_
                    refine lv_imul hx hb dX10_great_90 ?_
                    refine lv_aload_n hx hb dX10_great_91 rfl (lv_at hl 0 rfl) ?_
                    refine lv_iload hx hb dX10_great_92 (lv_at hl 7 rfl) ?_
                    obtain ⟨r_94, hcall, hf⟩ := bnd_some hf
                    refine hc_i (va_runV (C := RX10) (As := [.int x8_64]) (rest := [.int ((work x8_64.toNatClampNeg) * ((x2 - (w (0 : Int32).toNatClampNeg)) + 1))]) ⟨hx, hb, hml, hown, hts⟩ (c_m_leftTo hcall) (cwV 1 hts (lw_V q1102 q1104 qs45 q59 q1105) rfl rfl rfl (by decide +kernel) ⟨(Nat.le_trans (Nat.le_of_ble_eq_true rfl) hRf), (Nat.le_trans (Nat.le_of_ble_eq_true rfl) hRl)⟩) (pre_V (q0 := 0) (ci := 10) (fun _ _ _ _ h => h) (fun _ _ _ => trivial) hC rfl rfl) rfl rfl hl.1 rfl (lv_room (Nat.le_of_ble_eq_true rfl)) dX10_great_94 ⟨hRc, hRs⟩) hA hC (fun H locs hC => ?_)
                    refine lv_isub hx hb dX10_great_97 ?_
                    refine lv_istore (lv' := [(9, .int (((work x8_64.toNatClampNeg) * ((x2 - (w (0 : Int32).toNatClampNeg)) + 1)) - r_94)), (0, .ref (ad 0)), (2, .int x2), (3, .int x3), (4, .int x4_64), (5, .int x5_64), (6, .int x6_64), (7, .int x7_54), (8, .int x8_64)]) hx hb dX10_great_98 hl (by decide) rfl (fun ls hl => ?_)
                    refine lv_aload_n hx hb dX10_great_100 rfl (lv_at hl 1 rfl) ?_
                    refine va_get (ci := 10) (v := .ref (ad 5)) (C := RX10) (T := TX10) (N := 28) hx hb hts in_X10 hown hC.1 hC.2.1 0 rfl rfl 5 (by decide) (hts _ q811) (fun _ h9 => h9) rfl dX10_great_101 ?_
                    refine lv_iload hx hb dX10_great_104 (lv_at hl 8 rfl) ?_
                    obtain ⟨hi_106, hf⟩ := ck_some hf
                    refine va_iald hx hb hC.1 hC.2.1 5 0 rfl rfl hi_106 dX10_great_106 ?_
                    refine lv_iload hx hb dX10_great_107 (lv_at hl 7 rfl) ?_
                    refine lv_icmp_ne (tgt := 177) hx hb dX10_great_109 (by decide) (fun c_109 => ?_) (fun c_109 => ?_)
                    · have hf := if_f hf c_109
                      refine lv_iinc (v := x8_64 + 1) (lv' := [(8, .int (x8_64 + 1)), (9, .int (((work x8_64.toNatClampNeg) * ((x2 - (w (0 : Int32).toNatClampNeg)) + 1)) - r_94)), (0, .ref (ad 0)), (2, .int x2), (3, .int x3), (4, .int x4_64), (5, .int x5_64), (6, .int x6_64), (7, .int x7_54)]) hx hb dX10_great_177 hl (k := 8) rfl rfl (by decide) rfl (fun ls hl => ?_)
                      refine lv_goto (tgt := 64) hx hb dX10_great_180 (by decide) ?_
                      exact ih _ _ _ _ hf H locs ls hC (lv_sub hl [2, 3, 4, 5, 6, 7, 8, 0] rfl)
                    · have hf := if_t hf c_109
                      refine lv_aload_n hx hb dX10_great_112 rfl (lv_at hl 1 rfl) ?_
                      refine va_get (ci := 10) (v := .ref (ad 1)) (C := RX10) (T := TX10) (N := 28) hx hb hts in_X10 hown hC.1 hC.2.1 0 rfl rfl 0 (by decide) (hts _ q806) (fun _ h9 => h9) rfl dX10_great_113 ?_
                      refine lv_bipush (v := 19) hx hb dX10_great_116 (by decide) ?_
                      refine lv_iload hx hb dX10_great_118 (lv_at hl 8 rfl) ?_
                      refine lv_iadd hx hb dX10_great_120 ?_
                      obtain ⟨hi_121, hf⟩ := ck_some hf
                      refine va_iald hx hb hC.1 hC.2.1 1 0 rfl rfl hi_121 dX10_great_121 ?_
                      refine lv_aload_n hx hb dX10_great_122 rfl (lv_at hl 1 rfl) ?_
                      refine va_get (ci := 10) (v := .ref (ad 3)) (C := RX10) (T := TX10) (N := 28) hx hb hts in_X10 hown hC.1 hC.2.1 0 rfl rfl 3 (by decide) (hts _ q809) (fun _ h9 => h9) rfl dX10_great_123 ?_
                      refine lv_iload hx hb dX10_great_126 (lv_at hl 8 rfl) ?_
                      obtain ⟨hi_128, hf⟩ := ck_some hf
                      refine va_iald hx hb hC.1 hC.2.1 3 0 rfl rfl hi_128 dX10_great_128 ?_
                      refine lv_icmp_ge (tgt := 177) hx hb dX10_great_129 (by decide) (fun c_129 => ?_) (fun c_129 => ?_)
                      · have hf := if_t hf c_129
                        refine lv_iinc (v := x8_64 + 1) (lv' := [(8, .int (x8_64 + 1)), (9, .int (((work x8_64.toNatClampNeg) * ((x2 - (w (0 : Int32).toNatClampNeg)) + 1)) - r_94)), (0, .ref (ad 0)), (2, .int x2), (3, .int x3), (4, .int x4_64), (5, .int x5_64), (6, .int x6_64), (7, .int x7_54)]) hx hb dX10_great_177 hl (k := 8) rfl rfl (by decide) rfl (fun ls hl => ?_)
                        refine lv_goto (tgt := 64) hx hb dX10_great_180 (by decide) ?_
                        exact ih _ _ _ _ hf H locs ls hC (lv_sub hl [2, 3, 4, 5, 6, 7, 8, 0] rfl)
                      · have hf := if_f hf c_129
                        refine lv_iload hx hb dX10_great_132 (lv_at hl 0 rfl) ?_
                        refine lv_if_le (tgt := 177) hx hb dX10_great_134 (by decide) (fun c_134 => ?_) (fun c_134 => ?_)
                        · have hf := if_t hf c_134
                          refine lv_iinc (v := x8_64 + 1) (lv' := [(8, .int (x8_64 + 1)), (9, .int (((work x8_64.toNatClampNeg) * ((x2 - (w (0 : Int32).toNatClampNeg)) + 1)) - r_94)), (0, .ref (ad 0)), (2, .int x2), (3, .int x3), (4, .int x4_64), (5, .int x5_64), (6, .int x6_64), (7, .int x7_54)]) hx hb dX10_great_177 hl (k := 8) rfl rfl (by decide) rfl (fun ls hl => ?_)
                          refine lv_goto (tgt := 64) hx hb dX10_great_180 (by decide) ?_
                          exact ih _ _ _ _ hf H locs ls hC (lv_sub hl [2, 3, 4, 5, 6, 7, 8, 0] rfl)
                        · have hf := if_f hf c_134
                          refine lv_iload hx hb dX10_great_137 (lv_at hl 4 rfl) ?_
                          refine lv_if_le (tgt := 177) hx hb dX10_great_139 (by decide) (fun c_139 => ?_) (fun c_139 => ?_)
                          · have hf := if_t hf c_139
                            refine lv_iinc (v := x8_64 + 1) (lv' := [(8, .int (x8_64 + 1)), (9, .int (((work x8_64.toNatClampNeg) * ((x2 - (w (0 : Int32).toNatClampNeg)) + 1)) - r_94)), (0, .ref (ad 0)), (2, .int x2), (3, .int x3), (4, .int x4_64), (5, .int x5_64), (6, .int x6_64), (7, .int x7_54)]) hx hb dX10_great_177 hl (k := 8) rfl rfl (by decide) rfl (fun ls hl => ?_)
                            refine lv_goto (tgt := 64) hx hb dX10_great_180 (by decide) ?_
                            exact ih _ _ _ _ hf H locs ls hC (lv_sub hl [2, 3, 4, 5, 6, 7, 8, 0] rfl)
                          · have hf := if_f hf c_139
                            refine lv_iload hx hb dX10_great_142 (lv_at hl 4 rfl) ?_
                            refine lv_iload hx hb dX10_great_144 (lv_at hl 0 rfl) ?_
                            obtain ⟨r_146, hcall, hf⟩ := bnd_some hf
                            refine hc_i (va_runS (As := [.int x4_64, .int (((work x8_64.toNatClampNeg) * ((x2 - (w (0 : Int32).toNatClampNeg)) + 1)) - r_94)]) (rest := []) ⟨hx, hb, hml, hown, hts⟩ (c_m_lesser hcall) (va_cwS 2 hts (lw_S q933 q934 q59 q935) rfl rfl rfl (by decide +kernel) ⟨(Nat.le_trans (Nat.le_of_ble_eq_true rfl) hRf), (Nat.le_trans (Nat.le_of_ble_eq_true rfl) hRl)⟩) (pre_S (fun _ _ _ _ h => h) (fun _ _ _ => trivial) hC) rfl rfl hl.1 rfl (lv_room (Nat.le_of_ble_eq_true rfl)) dX10_great_146 ⟨hRc, hRs⟩) hA hC (fun H locs hC => ?_)
                            refine lv_istore (lv' := [(10, .int r_146), (9, .int (((work x8_64.toNatClampNeg) * ((x2 - (w (0 : Int32).toNatClampNeg)) + 1)) - r_94)), (0, .ref (ad 0)), (2, .int x2), (3, .int x3), (4, .int x4_64), (5, .int x5_64), (6, .int x6_64), (7, .int x7_54), (8, .int x8_64)]) hx hb dX10_great_149 hl (by decide) rfl (fun ls hl => ?_)
                            refine lv_iload hx hb dX10_great_151 (lv_at hl 5 rfl) ?_
                            refine lv_iload hx hb dX10_great_153 (lv_at hl 0 rfl) ?_
                            refine lv_isub hx hb dX10_great_155 ?_
                            refine lv_istore (lv' := [(4, .int (x4_64 - r_146)), (10, .int r_146), (9, .int (((work x8_64.toNatClampNeg) * ((x2 - (w (0 : Int32).toNatClampNeg)) + 1)) - r_94)), (0, .ref (ad 0)), (2, .int x2), (3, .int x3), (5, .int x5_64), (6, .int x6_64), (7, .int x7_54), (8, .int x8_64)]) hx hb dX10_great_156 hl (by decide) rfl (fun ls hl => ?_)
                            refine lv_iload hx hb dX10_great_158 (lv_at hl 6 rfl) ?_
                            refine lv_iload hx hb dX10_great_160 (lv_at hl 1 rfl) ?_
                            refine lv_iload hx hb dX10_great_162 (lv_at hl 8 rfl) ?_
                            refine lv_imul hx hb dX10_great_164 ?_
                            refine lv_iadd hx hb dX10_great_165 ?_
                            refine lv_istore (lv' := [(5, .int (x5_64 + (r_146 * x7_54))), (4, .int (x4_64 - r_146)), (10, .int r_146), (9, .int (((work x8_64.toNatClampNeg) * ((x2 - (w (0 : Int32).toNatClampNeg)) + 1)) - r_94)), (0, .ref (ad 0)), (2, .int x2), (3, .int x3), (6, .int x6_64), (7, .int x7_54), (8, .int x8_64)]) hx hb dX10_great_166 hl (by decide) rfl (fun ls hl => ?_)
                            refine lv_iload hx hb dX10_great_168 (lv_at hl 7 rfl) ?_
                            refine lv_iconst (v := 1) hx hb dX10_great_170 (by decide) ?_
                            refine lv_iload hx hb dX10_great_171 (lv_at hl 9 rfl) ?_
                            refine lv_ishl hx hb dX10_great_173 ?_
                            refine lv_ior hx hb dX10_great_174 ?_
                            refine lv_istore (lv' := [(6, .int (x6_64 ||| (1 <<< (x8_64 &&& 31)))), (5, .int (x5_64 + (r_146 * x7_54))), (4, .int (x4_64 - r_146)), (10, .int r_146), (9, .int (((work x8_64.toNatClampNeg) * ((x2 - (w (0 : Int32).toNatClampNeg)) + 1)) - r_94)), (0, .ref (ad 0)), (2, .int x2), (3, .int x3), (7, .int x7_54), (8, .int x8_64)]) hx hb dX10_great_175 hl (by decide) rfl (fun ls hl => ?_)
                            refine lv_iinc (v := x8_64 + 1) (lv' := [(8, .int (x8_64 + 1)), (6, .int (x6_64 ||| (1 <<< (x8_64 &&& 31)))), (5, .int (x5_64 + (r_146 * x7_54))), (4, .int (x4_64 - r_146)), (10, .int r_146), (9, .int (((work x8_64.toNatClampNeg) * ((x2 - (w (0 : Int32).toNatClampNeg)) + 1)) - r_94)), (0, .ref (ad 0)), (2, .int x2), (3, .int x3), (7, .int x7_54)]) hx hb dX10_great_177 hl (k := 9) rfl rfl (by decide) rfl (fun ls hl => ?_)
                            refine lv_goto (tgt := 64) hx hb dX10_great_180 (by decide) ?_
                            exact ih _ _ _ _ hf H locs ls hC (lv_sub hl [6, 7, 8, 3, 2, 1, 9, 0] rfl)
              exact L_64 _ _ _ _ _ hL H locs ls hC (lv_sub hl [1, 2, 3, 4, 5, 6, 7, 0] rfl)
        exact L_54 _ _ _ _ _ hL H locs ls hC (lv_sub hl [4, 6, 7, 3, 2, 1, 0] rfl)
      · have hf := if_t hf c_37
        refine lv_iconst (v := (-1)) hx hb dX10_great_40 (by decide) ?_
        have e_1 := (Option.some.inj hf)
        subst e_1
        exact K H locs ls _ rfl hC dX10_great_41
set_option maxRecDepth 100000 in
theorem c_m_great {l : Launch} {sz : Nat} {D : va_G} {d : Nat → ClassId} {ad : Nat → Nat} {w : Nat → Int32} {isKept : Nat → Int32} {people : Int32} {room : Nat → Int32} {work : Nat → Int32} {price : Nat → Int32} {askings : Int32} {asked : Nat → Int32} {hangs : Int32} {hung : Nat → Int32} {tenths : Nat → Int32} {sortWorth : Nat → Int32} {sortDays : Nat → Int32} {sorts : Int32} {text : Nat → Int32} {texted : Int32} {trace : Int64} {at_ : Int32} {fault : Int32} {readPeople : Int32} {readPerson : Nat → Int32} {readAskings : Int32} {readAsked : Nat → Int32} {readHangs : Int32} {readHung : Nat → Int32} {rest : Nat → Int32} {brings : Nat → Int64} {later : Nat → Int64} {x1 : Int32} {x2 : Int32} {x3 : Int32} {r : Int32} (hf : m_great w people room work price x1 x2 x3 = some r) : MI l yX10_great (ws_ yX10_great cX10_great 11 (some .int)) { frames := 1, cells := 0, slots := 0, locals := 25 } D gcl (gty d) (fun _ => True) (mw d ad w isKept people room work price askings asked hangs hung tenths sortWorth sortDays sorts text texted trace at_ fault readPeople readPerson readAskings readAsked readHangs readHung rest brings later) (mw d ad w isKept people room work price askings asked hangs hung tenths sortWorth sortDays sorts text texted trace at_ fault readPeople readPerson readAskings readAsked readHangs readHung rest brings later) sz [.ref (ad 0), .int x1, .int x2, .int x3] r :=
  MI.of (by decide) [.ref (ad 0), .int x1, .int x2, .int x3] [(0, .ref (ad 0)), (1, .int x1), (2, .int x2), (3, .int x3)] (Nat.le_of_ble_eq_true rfl) rfl (fun p e s m below meth c ls Q hx hb hml hown hts hN hA hC hl K => w_m_great hx hb hml hown hts hA (Nat.le_refl _) (Nat.le_refl _) (Nat.le_refl _) (Nat.le_refl _) hf hC hl K)

def m_rate (w : Nat → Int32) (people : Int32) (room : Nat → Int32) (work : Nat → Int32) (trace : Int64) (x1 : Int32) (x2 : Int32) : Option (Int32 × Int64) :=
  bnd (m_in x1.toInt64 0 5) fun r_6 =>
  if r_6 = 0 then (some ((-1000000), trace)) else
  bnd (m_isOne people x2) fun r_14 =>
  if r_14 = 0 then (some ((-1000000), trace)) else
  ck x2 4 <| ck (19 + x2) 300 <| if x1 = 1 then (ck x2 4 <| some (((room x2.toNatClampNeg) - (w (19 + x2).toNatClampNeg)) + (work x2.toNatClampNeg), (trace + 1) + 10)) else
  if x1 = 2 then (bnd (m_leftTo w x2) fun r_120 =>
  some (((room x2.toNatClampNeg) - (w (19 + x2).toNatClampNeg)) - r_120, (trace + 1) + 100)) else
  if x1 = 3 then (ck x2 4 <| some (2 * (((room x2.toNatClampNeg) - (w (19 + x2).toNatClampNeg)) + (work x2.toNatClampNeg)), (trace + 1) + 1010)) else
  if x1 = 4 then (bnd (m_leftTo w x2) fun r_163 =>
  some ((((room x2.toNatClampNeg) - (w (19 + x2).toNatClampNeg)) - r_163) + x2, (trace + 1) + 10100)) else
  if x1 = 5 then (some (((room x2.toNatClampNeg) - (w (19 + x2).toNatClampNeg)) + (w (0 : Int32).toNatClampNeg), (trace + 1) + 100000)) else
  some ((room x2.toNatClampNeg) - (w (19 + x2).toNatClampNeg), trace + 1)
set_option maxHeartbeats 4000000 in
set_option maxRecDepth 100000 in
theorem w_m_rate {p : Program} {l : Launch} {e : Env} {R : Room} {s : State} {m : MethodId} {args : Array Value} {below : List Frame} {meth : Method} {c : Code} {H : Heap} {locs : List Loc} {cells slots : Nat} {Q : State → Prop} {A : Nat → Prop} {ls : Array Slot} {D : va_G} {d : Nat → ClassId} {ad : Nat → Nat} {w : Nat → Int32} {isKept : Nat → Int32} {people : Int32} {room : Nat → Int32} {work : Nat → Int32} {price : Nat → Int32} {askings : Int32} {asked : Nat → Int32} {hangs : Int32} {hung : Nat → Int32} {tenths : Nat → Int32} {sortWorth : Nat → Int32} {sortDays : Nat → Int32} {sorts : Int32} {text : Nat → Int32} {texted : Int32} {trace : Int64} {at_ : Int32} {fault : Int32} {readPeople : Int32} {readPerson : Nat → Int32} {readAskings : Int32} {readAsked : Nat → Int32} {readHangs : Int32} {readHung : Nat → Int32} {rest : Nat → Int32} {brings : Nat → Int64} {later : Nat → Int64} {x1 : Int32} {x2 : Int32} {r : Int32} {trace_r : Int64} (hx : p.tables.exec = Jvm.exec) (hb : c.code = cX10_rate) (hml : c.maxLocals = 4) (hown : s.vm.findClass RX10 = some m.cls) (hts : ∀ w ∈ lw_all, w.before args s = true) (hA : ∀ q, s.heap.size ≤ q → A q) (hRf : 2 ≤ R.frames) (hRl : 46 ≤ R.locals) (hRc : cells ≤ R.cells) (hRs : slots ≤ R.slots) (hf : m_rate w people room work trace x1 x2 = some (r, trace_r)) (hC : HC D gcl (gty d) A (mw d ad w isKept people room work price askings asked hangs hung tenths sortWorth sortDays sorts text texted trace at_ fault readPeople readPerson readAskings readAsked readHangs readHung rest brings later) s H locs) (hl : lv_has ls 4 [(0, .ref (ad 0)), (1, .int x1), (2, .int x2)]) (K : ∀ (H : Heap) (locs : List Loc) (ls : Array Slot) (pc : Nat), narrow .int (.int r) = .int r → HC D gcl (gty d) A (mw d ad w isKept people room work price askings asked hangs hung tenths sortWorth sortDays sorts text texted trace_r at_ fault readPeople readPerson readAskings readAsked readHangs readHung rest brings later) s H locs → decode cX10_rate pc = .ok (.ireturn, 1) → W p l e R s m args below meth c H locs cells slots Q (F0 m pc ls [.int r])) : W p l e R s m args below meth c H locs cells slots Q (F0 m 0 ls []) := by
  unfold m_rate at hf
  refine lv_iload_n hx hb dX10_rate_0 rfl (lv_at hl 1 rfl) ?_
  refine lv_i2l (v := x1.toInt64) hx hb dX10_rate_1 rfl ?_
  refine lv_lconst (v := 0) hx hb dX10_rate_2 (by decide) ?_
  refine lv_ldc2 (v := 5) hx hb hown (hts _ q1075) dX10_rate_3 ?_
  obtain ⟨r_6, hcall, hf⟩ := bnd_some hf
  refine hc_i (va_runS (As := [.long x1.toInt64, .long 0, .long 5]) (rest := []) ⟨hx, hb, hml, hown, hts⟩ (c_m_in hcall) (va_cwS 3 hts (lw_S q898 q899 q59 q900) rfl rfl rfl (by decide +kernel) ⟨(Nat.le_trans (Nat.le_of_ble_eq_true rfl) hRf), (Nat.le_trans (Nat.le_of_ble_eq_true rfl) hRl)⟩) (pre_S (fun _ _ _ _ h => h) (fun _ _ _ => trivial) hC) rfl rfl hl.1 rfl (lv_room (Nat.le_of_ble_eq_true rfl)) dX10_rate_6 ⟨hRc, hRs⟩) hA hC (fun H locs hC => ?_)
  refine lv_if_eq (tgt := 20) hx hb dX10_rate_9 (by decide) (fun c_9 => ?_) (fun c_9 => ?_)
  · have hf := if_t hf c_9
    refine lv_ldc (v := (-1000000)) hx hb hown (hts _ q1110) dX10_rate_20 ?_
    obtain ⟨e_1, e_2⟩ := so_2 (Option.some.inj hf)
    subst e_1
    subst e_2
    exact K H locs ls _ rfl hC dX10_rate_22
  · have hf := if_f hf c_9
    refine lv_aload_n hx hb dX10_rate_12 rfl (lv_at hl 0 rfl) ?_
    refine lv_iload_n hx hb dX10_rate_13 rfl (lv_at hl 2 rfl) ?_
    obtain ⟨r_14, hcall, hf⟩ := bnd_some hf
    refine hc_i (va_runV (C := RX10) (As := [.int x2]) (rest := []) ⟨hx, hb, hml, hown, hts⟩ (c_m_isOne hcall) (cwV 1 hts (lw_V q942 q944 qs27 q59 q945) rfl rfl rfl (by decide +kernel) ⟨(Nat.le_trans (Nat.le_of_ble_eq_true rfl) hRf), (Nat.le_trans (Nat.le_of_ble_eq_true rfl) hRl)⟩) (pre_V (q0 := 0) (ci := 10) (fun _ _ _ _ h => h) (fun _ _ _ => trivial) hC rfl rfl) rfl rfl hl.1 rfl (lv_room (Nat.le_of_ble_eq_true rfl)) dX10_rate_14 ⟨hRc, hRs⟩) hA hC (fun H locs hC => ?_)
    refine lv_if_ne (tgt := 23) hx hb dX10_rate_17 (by decide) (fun c_17 => ?_) (fun c_17 => ?_)
    · have hf := if_f hf c_17
      refine lv_aload_n hx hb dX10_rate_23 rfl (lv_at hl 0 rfl) ?_
      refine va_get (ci := 10) (v := .ref (ad 3)) (C := RX10) (T := TX10) (N := 28) hx hb hts in_X10 hown hC.1 hC.2.1 0 rfl rfl 3 (by decide) (hts _ q809) (fun _ h9 => h9) rfl dX10_rate_24 ?_
      refine lv_iload_n hx hb dX10_rate_27 rfl (lv_at hl 2 rfl) ?_
      obtain ⟨hi_28, hf⟩ := ck_some hf
      refine va_iald hx hb hC.1 hC.2.1 3 0 rfl rfl hi_28 dX10_rate_28 ?_
      refine lv_aload_n hx hb dX10_rate_29 rfl (lv_at hl 0 rfl) ?_
      refine va_get (ci := 10) (v := .ref (ad 1)) (C := RX10) (T := TX10) (N := 28) hx hb hts in_X10 hown hC.1 hC.2.1 0 rfl rfl 0 (by decide) (hts _ q806) (fun _ h9 => h9) rfl dX10_rate_30 ?_
      refine lv_bipush (v := 19) hx hb dX10_rate_33 (by decide) ?_
      refine lv_iload_n hx hb dX10_rate_35 rfl (lv_at hl 2 rfl) ?_
      refine lv_iadd hx hb dX10_rate_36 ?_
      obtain ⟨hi_37, hf⟩ := ck_some hf
      refine va_iald hx hb hC.1 hC.2.1 1 0 rfl rfl hi_37 dX10_rate_37 ?_
      refine lv_isub hx hb dX10_rate_38 ?_
      refine lv_istore_n (lv' := [(3, .int ((room x2.toNatClampNeg) - (w (19 + x2).toNatClampNeg))), (0, .ref (ad 0)), (1, .int x1), (2, .int x2)]) hx hb dX10_rate_39 rfl hl (by decide) rfl (fun ls hl => ?_)
      refine lv_aload_n hx hb dX10_rate_40 rfl (lv_at hl 1 rfl) ?_
      refine lv_dup hx hb dX10_rate_41 rfl ?_
      refine va_get (ci := 10) (v := .long trace) (C := RX10) (T := TX10) (N := 28) hx hb hts in_X10 hown hC.1 hC.2.1 0 rfl rfl 16 (by decide) (hts _ q822) (fun _ h9 => h9) rfl dX10_rate_42 ?_
      refine lv_lconst (v := 1) hx hb dX10_rate_45 (by decide) ?_
      refine lv_ladd hx hb dX10_rate_46 ?_
      refine va_put (ci := 10) (v := .long (trace + 1)) (ty := .long) (C := RX10) (T := TX10) (N := 28) hx hb hts in_X10 tyX10 tyX10_ok nmX10 hown hC.1 hC.2.1 hC.2.2.1 hC.2.2.2 0 rfl rfl 16 (by decide) (hts _ q822) (fun _ h9 => h9) rfl (tyX10_ok 16 (by decide)) rfl rfl (Nat.le_of_ble_eq_true rfl) dX10_rate_47 (fun H locs hP hD hS => ?_)
      have hC : HC D gcl (gty d) A (mw d ad w isKept people room work price askings asked hangs hung tenths sortWorth sortDays sorts text texted (trace + 1) at_ fault readPeople readPerson readAskings readAsked readHangs readHung rest brings later) s H locs := ⟨hC.1, hP, hD, hS⟩
      refine lv_iload_n hx hb dX10_rate_50 rfl (lv_at hl 2 rfl) ?_
      by_cases c_51_0 : x1 = 1
      · have hf := if_t hf c_51_0
        refine lv_tableIn (tgt := 84) hx hb dX10_rate_51 (by rw [c_51_0]; decide) (by rw [c_51_0]; decide) (by rw [c_51_0]; rfl) (by decide) ?_
        refine lv_aload_n hx hb dX10_rate_84 rfl (lv_at hl 1 rfl) ?_
        refine lv_dup hx hb dX10_rate_85 rfl ?_
        refine va_get (ci := 10) (v := .long (trace + 1)) (C := RX10) (T := TX10) (N := 28) hx hb hts in_X10 hown hC.1 hC.2.1 0 rfl rfl 16 (by decide) (hts _ q822) (fun _ h9 => h9) rfl dX10_rate_86 ?_
        refine lv_ldc2 (v := 10) hx hb hown (hts _ q1051) dX10_rate_89 ?_
        refine lv_ladd hx hb dX10_rate_92 ?_
        refine va_put (ci := 10) (v := .long ((trace + 1) + 10)) (ty := .long) (C := RX10) (T := TX10) (N := 28) hx hb hts in_X10 tyX10 tyX10_ok nmX10 hown hC.1 hC.2.1 hC.2.2.1 hC.2.2.2 0 rfl rfl 16 (by decide) (hts _ q822) (fun _ h9 => h9) rfl (tyX10_ok 16 (by decide)) rfl rfl (Nat.le_of_ble_eq_true rfl) dX10_rate_93 (fun H locs hP hD hS => ?_)
        have hC : HC D gcl (gty d) A (mw d ad w isKept people room work price askings asked hangs hung tenths sortWorth sortDays sorts text texted ((trace + 1) + 10) at_ fault readPeople readPerson readAskings readAsked readHangs readHung rest brings later) s H locs := ⟨hC.1, hP, hD, hS⟩
        refine lv_iload_n hx hb dX10_rate_96 rfl (lv_at hl 0 rfl) ?_
        refine lv_aload_n hx hb dX10_rate_97 rfl (lv_at hl 1 rfl) ?_
        refine va_get (ci := 10) (v := .ref (ad 4)) (C := RX10) (T := TX10) (N := 28) hx hb hts in_X10 hown hC.1 hC.2.1 0 rfl rfl 4 (by decide) (hts _ q810) (fun _ h9 => h9) rfl dX10_rate_98 ?_
        refine lv_iload_n hx hb dX10_rate_101 rfl (lv_at hl 3 rfl) ?_
        obtain ⟨hi_102, hf⟩ := ck_some hf
        refine va_iald hx hb hC.1 hC.2.1 4 0 rfl rfl hi_102 dX10_rate_102 ?_
        refine lv_iadd hx hb dX10_rate_103 ?_
        obtain ⟨e_1, e_2⟩ := so_2 (Option.some.inj hf)
        subst e_1
        subst e_2
        exact K H locs ls _ rfl hC dX10_rate_104
      · have hf := if_f hf c_51_0
        by_cases c_51_1 : x1 = 2
        · have hf := if_t hf c_51_1
          refine lv_tableIn (tgt := 105) hx hb dX10_rate_51 (by rw [c_51_1]; decide) (by rw [c_51_1]; decide) (by rw [c_51_1]; rfl) (by decide) ?_
          refine lv_aload_n hx hb dX10_rate_105 rfl (lv_at hl 1 rfl) ?_
          refine lv_dup hx hb dX10_rate_106 rfl ?_
          refine va_get (ci := 10) (v := .long (trace + 1)) (C := RX10) (T := TX10) (N := 28) hx hb hts in_X10 hown hC.1 hC.2.1 0 rfl rfl 16 (by decide) (hts _ q822) (fun _ h9 => h9) rfl dX10_rate_107 ?_
          refine lv_ldc2 (v := 100) hx hb hown (hts _ q1111) dX10_rate_110 ?_
          refine lv_ladd hx hb dX10_rate_113 ?_
          refine va_put (ci := 10) (v := .long ((trace + 1) + 100)) (ty := .long) (C := RX10) (T := TX10) (N := 28) hx hb hts in_X10 tyX10 tyX10_ok nmX10 hown hC.1 hC.2.1 hC.2.2.1 hC.2.2.2 0 rfl rfl 16 (by decide) (hts _ q822) (fun _ h9 => h9) rfl (tyX10_ok 16 (by decide)) rfl rfl (Nat.le_of_ble_eq_true rfl) dX10_rate_114 (fun H locs hP hD hS => ?_)
          have hC : HC D gcl (gty d) A (mw d ad w isKept people room work price askings asked hangs hung tenths sortWorth sortDays sorts text texted ((trace + 1) + 100) at_ fault readPeople readPerson readAskings readAsked readHangs readHung rest brings later) s H locs := ⟨hC.1, hP, hD, hS⟩
          refine lv_iload_n hx hb dX10_rate_117 rfl (lv_at hl 0 rfl) ?_
          refine lv_aload_n hx hb dX10_rate_118 rfl (lv_at hl 1 rfl) ?_
          refine lv_iload_n hx hb dX10_rate_119 rfl (lv_at hl 3 rfl) ?_
          obtain ⟨r_120, hcall, hf⟩ := bnd_some hf
          refine hc_i (va_runV (C := RX10) (As := [.int x2]) (rest := [.int ((room x2.toNatClampNeg) - (w (19 + x2).toNatClampNeg))]) ⟨hx, hb, hml, hown, hts⟩ (c_m_leftTo hcall) (cwV 1 hts (lw_V q1102 q1104 qs45 q59 q1105) rfl rfl rfl (by decide +kernel) ⟨(Nat.le_trans (Nat.le_of_ble_eq_true rfl) hRf), (Nat.le_trans (Nat.le_of_ble_eq_true rfl) hRl)⟩) (pre_V (q0 := 0) (ci := 10) (fun _ _ _ _ h => h) (fun _ _ _ => trivial) hC rfl rfl) rfl rfl hl.1 rfl (lv_room (Nat.le_of_ble_eq_true rfl)) dX10_rate_120 ⟨hRc, hRs⟩) hA hC (fun H locs hC => ?_)
          refine lv_isub hx hb dX10_rate_123 ?_
          obtain ⟨e_1, e_2⟩ := so_2 (Option.some.inj hf)
          subst e_1
          subst e_2
          exact K H locs ls _ rfl hC dX10_rate_124
        · have hf := if_f hf c_51_1
          by_cases c_51_2 : x1 = 3
          · have hf := if_t hf c_51_2
            refine lv_tableIn (tgt := 125) hx hb dX10_rate_51 (by rw [c_51_2]; decide) (by rw [c_51_2]; decide) (by rw [c_51_2]; rfl) (by decide) ?_
            refine lv_aload_n hx hb dX10_rate_125 rfl (lv_at hl 1 rfl) ?_
            refine lv_dup hx hb dX10_rate_126 rfl ?_
            refine va_get (ci := 10) (v := .long (trace + 1)) (C := RX10) (T := TX10) (N := 28) hx hb hts in_X10 hown hC.1 hC.2.1 0 rfl rfl 16 (by decide) (hts _ q822) (fun _ h9 => h9) rfl dX10_rate_127 ?_
            refine lv_ldc2 (v := 1010) hx hb hown (hts _ q1112) dX10_rate_130 ?_
            refine lv_ladd hx hb dX10_rate_133 ?_
            refine va_put (ci := 10) (v := .long ((trace + 1) + 1010)) (ty := .long) (C := RX10) (T := TX10) (N := 28) hx hb hts in_X10 tyX10 tyX10_ok nmX10 hown hC.1 hC.2.1 hC.2.2.1 hC.2.2.2 0 rfl rfl 16 (by decide) (hts _ q822) (fun _ h9 => h9) rfl (tyX10_ok 16 (by decide)) rfl rfl (Nat.le_of_ble_eq_true rfl) dX10_rate_134 (fun H locs hP hD hS => ?_)
            have hC : HC D gcl (gty d) A (mw d ad w isKept people room work price askings asked hangs hung tenths sortWorth sortDays sorts text texted ((trace + 1) + 1010) at_ fault readPeople readPerson readAskings readAsked readHangs readHung rest brings later) s H locs := ⟨hC.1, hP, hD, hS⟩
            refine lv_iconst (v := 2) hx hb dX10_rate_137 (by decide) ?_
            refine lv_iload_n hx hb dX10_rate_138 rfl (lv_at hl 0 rfl) ?_
            refine lv_aload_n hx hb dX10_rate_139 rfl (lv_at hl 1 rfl) ?_
            refine va_get (ci := 10) (v := .ref (ad 4)) (C := RX10) (T := TX10) (N := 28) hx hb hts in_X10 hown hC.1 hC.2.1 0 rfl rfl 4 (by decide) (hts _ q810) (fun _ h9 => h9) rfl dX10_rate_140 ?_
            refine lv_iload_n hx hb dX10_rate_143 rfl (lv_at hl 3 rfl) ?_
            obtain ⟨hi_144, hf⟩ := ck_some hf
            refine va_iald hx hb hC.1 hC.2.1 4 0 rfl rfl hi_144 dX10_rate_144 ?_
            refine lv_iadd hx hb dX10_rate_145 ?_
            refine lv_imul hx hb dX10_rate_146 ?_
            obtain ⟨e_1, e_2⟩ := so_2 (Option.some.inj hf)
            subst e_1
            subst e_2
            exact K H locs ls _ rfl hC dX10_rate_147
          · have hf := if_f hf c_51_2
            by_cases c_51_3 : x1 = 4
            · have hf := if_t hf c_51_3
              refine lv_tableIn (tgt := 148) hx hb dX10_rate_51 (by rw [c_51_3]; decide) (by rw [c_51_3]; decide) (by rw [c_51_3]; rfl) (by decide) ?_
              refine lv_aload_n hx hb dX10_rate_148 rfl (lv_at hl 1 rfl) ?_
              refine lv_dup hx hb dX10_rate_149 rfl ?_
              refine va_get (ci := 10) (v := .long (trace + 1)) (C := RX10) (T := TX10) (N := 28) hx hb hts in_X10 hown hC.1 hC.2.1 0 rfl rfl 16 (by decide) (hts _ q822) (fun _ h9 => h9) rfl dX10_rate_150 ?_
              refine lv_ldc2 (v := 10100) hx hb hown (hts _ q1113) dX10_rate_153 ?_
              refine lv_ladd hx hb dX10_rate_156 ?_
              refine va_put (ci := 10) (v := .long ((trace + 1) + 10100)) (ty := .long) (C := RX10) (T := TX10) (N := 28) hx hb hts in_X10 tyX10 tyX10_ok nmX10 hown hC.1 hC.2.1 hC.2.2.1 hC.2.2.2 0 rfl rfl 16 (by decide) (hts _ q822) (fun _ h9 => h9) rfl (tyX10_ok 16 (by decide)) rfl rfl (Nat.le_of_ble_eq_true rfl) dX10_rate_157 (fun H locs hP hD hS => ?_)
              have hC : HC D gcl (gty d) A (mw d ad w isKept people room work price askings asked hangs hung tenths sortWorth sortDays sorts text texted ((trace + 1) + 10100) at_ fault readPeople readPerson readAskings readAsked readHangs readHung rest brings later) s H locs := ⟨hC.1, hP, hD, hS⟩
              refine lv_iload_n hx hb dX10_rate_160 rfl (lv_at hl 0 rfl) ?_
              refine lv_aload_n hx hb dX10_rate_161 rfl (lv_at hl 1 rfl) ?_
              refine lv_iload_n hx hb dX10_rate_162 rfl (lv_at hl 3 rfl) ?_
              obtain ⟨r_163, hcall, hf⟩ := bnd_some hf
              refine hc_i (va_runV (C := RX10) (As := [.int x2]) (rest := [.int ((room x2.toNatClampNeg) - (w (19 + x2).toNatClampNeg))]) ⟨hx, hb, hml, hown, hts⟩ (c_m_leftTo hcall) (cwV 1 hts (lw_V q1102 q1104 qs45 q59 q1105) rfl rfl rfl (by decide +kernel) ⟨(Nat.le_trans (Nat.le_of_ble_eq_true rfl) hRf), (Nat.le_trans (Nat.le_of_ble_eq_true rfl) hRl)⟩) (pre_V (q0 := 0) (ci := 10) (fun _ _ _ _ h => h) (fun _ _ _ => trivial) hC rfl rfl) rfl rfl hl.1 rfl (lv_room (Nat.le_of_ble_eq_true rfl)) dX10_rate_163 ⟨hRc, hRs⟩) hA hC (fun H locs hC => ?_)
              refine lv_isub hx hb dX10_rate_166 ?_
              refine lv_iload_n hx hb dX10_rate_167 rfl (lv_at hl 3 rfl) ?_
              refine lv_iadd hx hb dX10_rate_168 ?_
              obtain ⟨e_1, e_2⟩ := so_2 (Option.some.inj hf)
              subst e_1
              subst e_2
              exact K H locs ls _ rfl hC dX10_rate_169
            · have hf := if_f hf c_51_3
              by_cases c_51_4 : x1 = 5
              · have hf := if_t hf c_51_4
                refine lv_tableIn (tgt := 170) hx hb dX10_rate_51 (by rw [c_51_4]; decide) (by rw [c_51_4]; decide) (by rw [c_51_4]; rfl) (by decide) ?_
                refine lv_aload_n hx hb dX10_rate_170 rfl (lv_at hl 1 rfl) ?_
                refine lv_dup hx hb dX10_rate_171 rfl ?_
                refine va_get (ci := 10) (v := .long (trace + 1)) (C := RX10) (T := TX10) (N := 28) hx hb hts in_X10 hown hC.1 hC.2.1 0 rfl rfl 16 (by decide) (hts _ q822) (fun _ h9 => h9) rfl dX10_rate_172 ?_
                refine lv_ldc2 (v := 100000) hx hb hown (hts _ q1114) dX10_rate_175 ?_
                refine lv_ladd hx hb dX10_rate_178 ?_
                refine va_put (ci := 10) (v := .long ((trace + 1) + 100000)) (ty := .long) (C := RX10) (T := TX10) (N := 28) hx hb hts in_X10 tyX10 tyX10_ok nmX10 hown hC.1 hC.2.1 hC.2.2.1 hC.2.2.2 0 rfl rfl 16 (by decide) (hts _ q822) (fun _ h9 => h9) rfl (tyX10_ok 16 (by decide)) rfl rfl (Nat.le_of_ble_eq_true rfl) dX10_rate_179 (fun H locs hP hD hS => ?_)
                have hC : HC D gcl (gty d) A (mw d ad w isKept people room work price askings asked hangs hung tenths sortWorth sortDays sorts text texted ((trace + 1) + 100000) at_ fault readPeople readPerson readAskings readAsked readHangs readHung rest brings later) s H locs := ⟨hC.1, hP, hD, hS⟩
                refine lv_iload_n hx hb dX10_rate_182 rfl (lv_at hl 0 rfl) ?_
                refine lv_aload_n hx hb dX10_rate_183 rfl (lv_at hl 1 rfl) ?_
                refine va_get (ci := 10) (v := .ref (ad 1)) (C := RX10) (T := TX10) (N := 28) hx hb hts in_X10 hown hC.1 hC.2.1 0 rfl rfl 0 (by decide) (hts _ q806) (fun _ h9 => h9) rfl dX10_rate_184 ?_
                refine lv_iconst (v := 0) hx hb dX10_rate_187 (by decide) ?_
                refine va_iald hx hb hC.1 hC.2.1 1 0 rfl rfl (vp_in_iff.mpr (by decide)) dX10_rate_188 ?_
                refine lv_iadd hx hb dX10_rate_189 ?_
                obtain ⟨e_1, e_2⟩ := so_2 (Option.some.inj hf)
                subst e_1
                subst e_2
                exact K H locs ls _ rfl hC dX10_rate_190
              · have hf := if_f hf c_51_4
                refine lv_tableOut (tgt := 191) hx hb dX10_rate_51 (by have n0 := lv_neT c_51_0 (show (1 : Int32).toInt = 1 by decide); have n1 := lv_neT c_51_1 (show (2 : Int32).toInt = 2 by decide); have n2 := lv_neT c_51_2 (show (3 : Int32).toInt = 3 by decide); have n3 := lv_neT c_51_3 (show (4 : Int32).toInt = 4 by decide); have n4 := lv_neT c_51_4 (show (5 : Int32).toInt = 5 by decide); first | omega | (rcases Int.lt_or_le (x1).toInt 1 with q | q <;> omega)) (by decide) ?_
                refine lv_iload_n hx hb dX10_rate_191 rfl (lv_at hl 0 rfl) ?_
                obtain ⟨e_1, e_2⟩ := so_2 (Option.some.inj hf)
                subst e_1
                subst e_2
                exact K H locs ls _ rfl hC dX10_rate_192
    · have hf := if_t hf c_17
      refine lv_ldc (v := (-1000000)) hx hb hown (hts _ q1110) dX10_rate_20 ?_
      obtain ⟨e_1, e_2⟩ := so_2 (Option.some.inj hf)
      subst e_1
      subst e_2
      exact K H locs ls _ rfl hC dX10_rate_22
set_option maxRecDepth 100000 in
theorem c_m_rate {l : Launch} {sz : Nat} {D : va_G} {d : Nat → ClassId} {ad : Nat → Nat} {w : Nat → Int32} {isKept : Nat → Int32} {people : Int32} {room : Nat → Int32} {work : Nat → Int32} {price : Nat → Int32} {askings : Int32} {asked : Nat → Int32} {hangs : Int32} {hung : Nat → Int32} {tenths : Nat → Int32} {sortWorth : Nat → Int32} {sortDays : Nat → Int32} {sorts : Int32} {text : Nat → Int32} {texted : Int32} {trace : Int64} {at_ : Int32} {fault : Int32} {readPeople : Int32} {readPerson : Nat → Int32} {readAskings : Int32} {readAsked : Nat → Int32} {readHangs : Int32} {readHung : Nat → Int32} {rest : Nat → Int32} {brings : Nat → Int64} {later : Nat → Int64} {x1 : Int32} {x2 : Int32} {r : Int32} {trace_r : Int64} (hf : m_rate w people room work trace x1 x2 = some (r, trace_r)) : MI l yX10_rate (ws_ yX10_rate cX10_rate 4 (some .int)) { frames := 2, cells := 0, slots := 0, locals := 46 } D gcl (gty d) (fun _ => True) (mw d ad w isKept people room work price askings asked hangs hung tenths sortWorth sortDays sorts text texted trace at_ fault readPeople readPerson readAskings readAsked readHangs readHung rest brings later) (mw d ad w isKept people room work price askings asked hangs hung tenths sortWorth sortDays sorts text texted trace_r at_ fault readPeople readPerson readAskings readAsked readHangs readHung rest brings later) sz [.ref (ad 0), .int x1, .int x2] r :=
  MI.of (by decide) [.ref (ad 0), .int x1, .int x2] [(0, .ref (ad 0)), (1, .int x1), (2, .int x2)] (Nat.le_of_ble_eq_true rfl) rfl (fun p e s m below meth c ls Q hx hb hml hown hts hN hA hC hl K => w_m_rate hx hb hml hown hts hA (Nat.le_refl _) (Nat.le_refl _) (Nat.le_refl _) (Nat.le_refl _) hf hC hl K)

def m_copy_L2 (x1 : Int32) (x2 : Int32) : Nat → Int32 → (Nat → Int32) → Option ((Nat → Int32))
  | 0, _, _ => none
  | n_2 + 1, x3_2, w_2 =>
  if 100 ≤ x3_2 then (some w_2) else
  ck (x1 + x3_2) 300 <| ck (x2 + x3_2) 300 <| m_copy_L2 x1 x2 n_2 (x3_2 + 1) (upd w_2 (x2 + x3_2).toNatClampNeg (w_2 (x1 + x3_2).toNatClampNeg))
theorem m_copy_L2_s (x1 : Int32) (x2 : Int32) (n_2 : Nat) (x3_2 : Int32) (w_2 : Nat → Int32) : m_copy_L2 x1 x2 (n_2 + 1) x3_2 w_2 = (
  if 100 ≤ x3_2 then (some w_2) else
  ck (x1 + x3_2) 300 <| ck (x2 + x3_2) 300 <| m_copy_L2 x1 x2 n_2 (x3_2 + 1) (upd w_2 (x2 + x3_2).toNatClampNeg (w_2 (x1 + x3_2).toNatClampNeg))) := rfl
def m_copy (w : Nat → Int32) (x1 : Int32) (x2 : Int32) : Option ((Nat → Int32)) :=
  bnd (m_copy_L2 x1 x2 g_fuel 0 w) (fun w_30 =>
  some w_30)
set_option maxHeartbeats 4000000 in
set_option maxRecDepth 100000 in
theorem w_m_copy {p : Program} {l : Launch} {e : Env} {R : Room} {s : State} {m : MethodId} {args : Array Value} {below : List Frame} {meth : Method} {c : Code} {H : Heap} {locs : List Loc} {cells slots : Nat} {Q : State → Prop} {A : Nat → Prop} {ls : Array Slot} {D : va_G} {d : Nat → ClassId} {ad : Nat → Nat} {w : Nat → Int32} {isKept : Nat → Int32} {people : Int32} {room : Nat → Int32} {work : Nat → Int32} {price : Nat → Int32} {askings : Int32} {asked : Nat → Int32} {hangs : Int32} {hung : Nat → Int32} {tenths : Nat → Int32} {sortWorth : Nat → Int32} {sortDays : Nat → Int32} {sorts : Int32} {text : Nat → Int32} {texted : Int32} {trace : Int64} {at_ : Int32} {fault : Int32} {readPeople : Int32} {readPerson : Nat → Int32} {readAskings : Int32} {readAsked : Nat → Int32} {readHangs : Int32} {readHung : Nat → Int32} {rest : Nat → Int32} {brings : Nat → Int64} {later : Nat → Int64} {x1 : Int32} {x2 : Int32} {w_r : Nat → Int32} (hx : p.tables.exec = Jvm.exec) (hb : c.code = cX10_copy) (hml : c.maxLocals = 4) (hown : s.vm.findClass RX10 = some m.cls) (hts : ∀ w ∈ lw_all, w.before args s = true) (hA : ∀ q, s.heap.size ≤ q → A q) (hRf : 0 ≤ R.frames) (hRl : 0 ≤ R.locals) (hRc : cells ≤ R.cells) (hRs : slots ≤ R.slots) (hf : m_copy w x1 x2 = some w_r) (hC : HC D gcl (gty d) A (mw d ad w isKept people room work price askings asked hangs hung tenths sortWorth sortDays sorts text texted trace at_ fault readPeople readPerson readAskings readAsked readHangs readHung rest brings later) s H locs) (hl : lv_has ls 4 [(0, .ref (ad 0)), (1, .int x1), (2, .int x2)]) (K : ∀ (H : Heap) (locs : List Loc) (ls : Array Slot) (pc : Nat), True → HC D gcl (gty d) A (mw d ad w_r isKept people room work price askings asked hangs hung tenths sortWorth sortDays sorts text texted trace at_ fault readPeople readPerson readAskings readAsked readHangs readHung rest brings later) s H locs → decode cX10_copy pc = .ok (.return_, 1) → W p l e R s m args below meth c H locs cells slots Q (F0 m pc ls [])) : W p l e R s m args below meth c H locs cells slots Q (F0 m 0 ls []) := by
  unfold m_copy at hf
  refine lv_iconst (v := 0) hx hb dX10_copy_0 (by decide) ?_
  refine lv_istore_n (lv' := [(3, .int 0), (0, .ref (ad 0)), (1, .int x1), (2, .int x2)]) hx hb dX10_copy_1 rfl hl (by decide) rfl (fun ls hl => ?_)
  obtain ⟨w_30, hL, hf⟩ := bnd_some hf
  have X_2 : ∀ (H : Heap) (locs : List Loc) (ls : Array Slot), HC D gcl (gty d) A (mw d ad w_30 isKept people room work price askings asked hangs hung tenths sortWorth sortDays sorts text texted trace at_ fault readPeople readPerson readAskings readAsked readHangs readHung rest brings later) s H locs → lv_has ls 4 [] → W p l e R s m args below meth c H locs cells slots Q (F0 m 30 ls []) := by
    intro H locs ls hC hl
    have e_1 := (Option.some.inj hf)
    subst e_1
    exact K H locs ls _ trivial hC dX10_copy_30
  have L_2 : ∀ (n_2 : Nat) (x3_2 : Int32) (w_2 : Nat → Int32), m_copy_L2 x1 x2 n_2 x3_2 w_2 = some w_30 → ∀ (H : Heap) (locs : List Loc) (ls : Array Slot), HC D gcl (gty d) A (mw d ad w_2 isKept people room work price askings asked hangs hung tenths sortWorth sortDays sorts text texted trace at_ fault readPeople readPerson readAskings readAsked readHangs readHung rest brings later) s H locs → lv_has ls 4 [(0, .ref (ad 0)), (1, .int x1), (2, .int x2), (3, .int x3_2)] → W p l e R s m args below meth c H locs cells slots Q (F0 m 2 ls []) := by
    intro n_2
    induction n_2 with
    | zero => intro _ _ hf; cases hf
    | succ n_2 ih =>
      intro x3_2 w_2 hf H locs ls hC hl
      rw [m_copy_L2_s] at hf
      refine lv_iload_n hx hb dX10_copy_2 rfl (lv_at hl 3 rfl) ?_
      refine lv_bipush (v := 100) hx hb dX10_copy_3 (by decide) ?_
      refine lv_icmp_ge (tgt := 30) hx hb dX10_copy_5 (by decide) (fun c_5 => ?_) (fun c_5 => ?_)
      · have hf := if_t hf c_5
        have e_1 := (Option.some.inj hf)
        subst e_1
        exact X_2 H locs ls hC (lv_sub hl [] rfl)
      · have hf := if_f hf c_5
        refine lv_aload_n hx hb dX10_copy_8 rfl (lv_at hl 0 rfl) ?_
        refine va_get (ci := 10) (v := .ref (ad 1)) (C := RX10) (T := TX10) (N := 28) hx hb hts in_X10 hown hC.1 hC.2.1 0 rfl rfl 0 (by decide) (hts _ q806) (fun _ h9 => h9) rfl dX10_copy_9 ?_
        refine lv_iload_n hx hb dX10_copy_12 rfl (lv_at hl 2 rfl) ?_
        refine lv_iload_n hx hb dX10_copy_13 rfl (lv_at hl 3 rfl) ?_
        refine lv_iadd hx hb dX10_copy_14 ?_
        refine lv_aload_n hx hb dX10_copy_15 rfl (lv_at hl 0 rfl) ?_
        refine va_get (ci := 10) (v := .ref (ad 1)) (C := RX10) (T := TX10) (N := 28) hx hb hts in_X10 hown hC.1 hC.2.1 0 rfl rfl 0 (by decide) (hts _ q806) (fun _ h9 => h9) rfl dX10_copy_16 ?_
        refine lv_iload_n hx hb dX10_copy_19 rfl (lv_at hl 1 rfl) ?_
        refine lv_iload_n hx hb dX10_copy_20 rfl (lv_at hl 3 rfl) ?_
        refine lv_iadd hx hb dX10_copy_21 ?_
        obtain ⟨hi_22, hf⟩ := ck_some hf
        refine va_iald hx hb hC.1 hC.2.1 1 0 rfl rfl hi_22 dX10_copy_22 ?_
        obtain ⟨hi_23, hf⟩ := ck_some hf
        refine va_iast hx hb hC.1 hC.2.1 hC.2.2.1 hC.2.2.2 1 0 rfl rfl hi_23 dX10_copy_23 (fun H locs hP hD hS => ?_)
        have hC : HC D gcl (gty d) A (mw d ad (upd w_2 (x2 + x3_2).toNatClampNeg (w_2 (x1 + x3_2).toNatClampNeg)) isKept people room work price askings asked hangs hung tenths sortWorth sortDays sorts text texted trace at_ fault readPeople readPerson readAskings readAsked readHangs readHung rest brings later) s H locs := ⟨hC.1, hP, hD, hS⟩
        refine lv_iinc (v := x3_2 + 1) (lv' := [(3, .int (x3_2 + 1)), (0, .ref (ad 0)), (1, .int x1), (2, .int x2)]) hx hb dX10_copy_24 hl (k := 3) rfl rfl (by decide) rfl (fun ls hl => ?_)
        refine lv_goto (tgt := 2) hx hb dX10_copy_27 (by decide) ?_
        exact ih _ _ hf H locs ls hC (lv_sub hl [1, 2, 3, 0] rfl)
  exact L_2 _ _ _ hL H locs ls hC (lv_sub hl [1, 2, 3, 0] rfl)
set_option maxRecDepth 100000 in
theorem c_m_copy {l : Launch} {sz : Nat} {D : va_G} {d : Nat → ClassId} {ad : Nat → Nat} {w : Nat → Int32} {isKept : Nat → Int32} {people : Int32} {room : Nat → Int32} {work : Nat → Int32} {price : Nat → Int32} {askings : Int32} {asked : Nat → Int32} {hangs : Int32} {hung : Nat → Int32} {tenths : Nat → Int32} {sortWorth : Nat → Int32} {sortDays : Nat → Int32} {sorts : Int32} {text : Nat → Int32} {texted : Int32} {trace : Int64} {at_ : Int32} {fault : Int32} {readPeople : Int32} {readPerson : Nat → Int32} {readAskings : Int32} {readAsked : Nat → Int32} {readHangs : Int32} {readHung : Nat → Int32} {rest : Nat → Int32} {brings : Nat → Int64} {later : Nat → Int64} {x1 : Int32} {x2 : Int32} {w_r : Nat → Int32} (hf : m_copy w x1 x2 = some w_r) : MV l yX10_copy (ws_ yX10_copy cX10_copy 4 none) { frames := 0, cells := 0, slots := 0, locals := 0 } D gcl (gty d) (fun _ => True) (mw d ad w isKept people room work price askings asked hangs hung tenths sortWorth sortDays sorts text texted trace at_ fault readPeople readPerson readAskings readAsked readHangs readHung rest brings later) (mw d ad w_r isKept people room work price askings asked hangs hung tenths sortWorth sortDays sorts text texted trace at_ fault readPeople readPerson readAskings readAsked readHangs readHung rest brings later) sz [.ref (ad 0), .int x1, .int x2] :=
  MV.of (by decide) [.ref (ad 0), .int x1, .int x2] [(0, .ref (ad 0)), (1, .int x1), (2, .int x2)] (Nat.le_of_ble_eq_true rfl) rfl (fun p e s m below meth c ls Q hx hb hml hown hts hN hA hC hl K => w_m_copy hx hb hml hown hts hA (Nat.le_refl _) (Nat.le_refl _) (Nat.le_refl _) (Nat.le_refl _) hf hC hl K)

def m_keep (w : Nat → Int32) (isKept : Nat → Int32) (x1 : Int32) : Option (Int32 × (Nat → Int32) × (Nat → Int32)) :=
  bnd (m_in x1.toInt64 0 1) fun r_4 =>
  if r_4 = 0 then (some ((-1), w, isKept)) else
  bnd (m_copy w 0 (100 * (1 + x1))) fun w_20 =>
  ck x1 2 <| some (w_20 (0 : Int32).toNatClampNeg, w_20, upd isKept x1.toNatClampNeg 1)
set_option maxHeartbeats 4000000 in
set_option maxRecDepth 100000 in
theorem w_m_keep {p : Program} {l : Launch} {e : Env} {R : Room} {s : State} {m : MethodId} {args : Array Value} {below : List Frame} {meth : Method} {c : Code} {H : Heap} {locs : List Loc} {cells slots : Nat} {Q : State → Prop} {A : Nat → Prop} {ls : Array Slot} {D : va_G} {d : Nat → ClassId} {ad : Nat → Nat} {w : Nat → Int32} {isKept : Nat → Int32} {people : Int32} {room : Nat → Int32} {work : Nat → Int32} {price : Nat → Int32} {askings : Int32} {asked : Nat → Int32} {hangs : Int32} {hung : Nat → Int32} {tenths : Nat → Int32} {sortWorth : Nat → Int32} {sortDays : Nat → Int32} {sorts : Int32} {text : Nat → Int32} {texted : Int32} {trace : Int64} {at_ : Int32} {fault : Int32} {readPeople : Int32} {readPerson : Nat → Int32} {readAskings : Int32} {readAsked : Nat → Int32} {readHangs : Int32} {readHung : Nat → Int32} {rest : Nat → Int32} {brings : Nat → Int64} {later : Nat → Int64} {x1 : Int32} {r : Int32} {w_r : Nat → Int32} {isKept_r : Nat → Int32} (hx : p.tables.exec = Jvm.exec) (hb : c.code = cX10_keep) (hml : c.maxLocals = 2) (hown : s.vm.findClass RX10 = some m.cls) (hts : ∀ w ∈ lw_all, w.before args s = true) (hA : ∀ q, s.heap.size ≤ q → A q) (hRf : 1 ≤ R.frames) (hRl : 25 ≤ R.locals) (hRc : cells ≤ R.cells) (hRs : slots ≤ R.slots) (hf : m_keep w isKept x1 = some (r, w_r, isKept_r)) (hC : HC D gcl (gty d) A (mw d ad w isKept people room work price askings asked hangs hung tenths sortWorth sortDays sorts text texted trace at_ fault readPeople readPerson readAskings readAsked readHangs readHung rest brings later) s H locs) (hl : lv_has ls 2 [(0, .ref (ad 0)), (1, .int x1)]) (K : ∀ (H : Heap) (locs : List Loc) (ls : Array Slot) (pc : Nat), narrow .int (.int r) = .int r → HC D gcl (gty d) A (mw d ad w_r isKept_r people room work price askings asked hangs hung tenths sortWorth sortDays sorts text texted trace at_ fault readPeople readPerson readAskings readAsked readHangs readHung rest brings later) s H locs → decode cX10_keep pc = .ok (.ireturn, 1) → W p l e R s m args below meth c H locs cells slots Q (F0 m pc ls [.int r])) : W p l e R s m args below meth c H locs cells slots Q (F0 m 0 ls []) := by
  unfold m_keep at hf
  refine lv_iload_n hx hb dX10_keep_0 rfl (lv_at hl 1 rfl) ?_
  refine lv_i2l (v := x1.toInt64) hx hb dX10_keep_1 rfl ?_
  refine lv_lconst (v := 0) hx hb dX10_keep_2 (by decide) ?_
  refine lv_lconst (v := 1) hx hb dX10_keep_3 (by decide) ?_
  obtain ⟨r_4, hcall, hf⟩ := bnd_some hf
  refine hc_i (va_runS (As := [.long x1.toInt64, .long 0, .long 1]) (rest := []) ⟨hx, hb, hml, hown, hts⟩ (c_m_in hcall) (va_cwS 3 hts (lw_S q898 q899 q59 q900) rfl rfl rfl (by decide +kernel) ⟨(Nat.le_trans (Nat.le_of_ble_eq_true rfl) hRf), (Nat.le_trans (Nat.le_of_ble_eq_true rfl) hRl)⟩) (pre_S (fun _ _ _ _ h => h) (fun _ _ _ => trivial) hC) rfl rfl hl.1 rfl (lv_room (Nat.le_of_ble_eq_true rfl)) dX10_keep_4 ⟨hRc, hRs⟩) hA hC (fun H locs hC => ?_)
  refine lv_if_ne (tgt := 12) hx hb dX10_keep_7 (by decide) (fun c_7 => ?_) (fun c_7 => ?_)
  · have hf := if_f hf c_7
    refine lv_aload_n hx hb dX10_keep_12 rfl (lv_at hl 0 rfl) ?_
    refine lv_iconst (v := 0) hx hb dX10_keep_13 (by decide) ?_
    refine lv_bipush (v := 100) hx hb dX10_keep_14 (by decide) ?_
    refine lv_iconst (v := 1) hx hb dX10_keep_16 (by decide) ?_
    refine lv_iload_n hx hb dX10_keep_17 rfl (lv_at hl 1 rfl) ?_
    refine lv_iadd hx hb dX10_keep_18 ?_
    refine lv_imul hx hb dX10_keep_19 ?_
    obtain ⟨w_20, hcall, hf⟩ := bnd_some hf
    refine hc_v (va_runV (C := RX10) (As := [.int 0, .int (100 * (1 + x1))]) (rest := []) ⟨hx, hb, hml, hown, hts⟩ (c_m_copy hcall) (cwV 2 hts (lw_V q1119 q1121 qs46 q59 q1122) rfl rfl rfl (by decide +kernel) ⟨(Nat.le_trans (Nat.le_of_ble_eq_true rfl) hRf), (Nat.le_trans (Nat.le_of_ble_eq_true rfl) hRl)⟩) (pre_V (q0 := 0) (ci := 10) (fun _ _ _ _ h => h) (fun _ _ _ => trivial) hC rfl rfl) rfl rfl hl.1 rfl (lv_room (Nat.le_of_ble_eq_true rfl)) dX10_keep_20 ⟨hRc, hRs⟩) hA hC (fun H locs hC => ?_)
    refine lv_aload_n hx hb dX10_keep_23 rfl (lv_at hl 0 rfl) ?_
    refine va_get (ci := 10) (v := .ref (ad 2)) (C := RX10) (T := TX10) (N := 28) hx hb hts in_X10 hown hC.1 hC.2.1 0 rfl rfl 1 (by decide) (hts _ q807) (fun _ h9 => h9) rfl dX10_keep_24 ?_
    refine lv_iload_n hx hb dX10_keep_27 rfl (lv_at hl 1 rfl) ?_
    refine lv_iconst (v := 1) hx hb dX10_keep_28 (by decide) ?_
    obtain ⟨hi_29, hf⟩ := ck_some hf
    refine va_zast hx hb hC.1 hC.2.1 hC.2.2.1 hC.2.2.2 2 2 rfl rfl hi_29 dX10_keep_29 (fun H locs hP hD hS => ?_)
    have hC : HC D gcl (gty d) A (mw d ad w_20 (upd isKept x1.toNatClampNeg 1) people room work price askings asked hangs hung tenths sortWorth sortDays sorts text texted trace at_ fault readPeople readPerson readAskings readAsked readHangs readHung rest brings later) s H locs := ⟨hC.1, hP, hD, hS⟩
    refine lv_aload_n hx hb dX10_keep_30 rfl (lv_at hl 0 rfl) ?_
    refine va_get (ci := 10) (v := .ref (ad 1)) (C := RX10) (T := TX10) (N := 28) hx hb hts in_X10 hown hC.1 hC.2.1 0 rfl rfl 0 (by decide) (hts _ q806) (fun _ h9 => h9) rfl dX10_keep_31 ?_
    refine lv_iconst (v := 0) hx hb dX10_keep_34 (by decide) ?_
    refine va_iald hx hb hC.1 hC.2.1 1 0 rfl rfl (vp_in_iff.mpr (by decide)) dX10_keep_35 ?_
    obtain ⟨e_1, e_2, e_3⟩ := so_3 (Option.some.inj hf)
    subst e_1
    subst e_2
    subst e_3
    exact K H locs ls _ rfl hC dX10_keep_36
  · have hf := if_t hf c_7
    refine lv_iconst (v := (-1)) hx hb dX10_keep_10 (by decide) ?_
    obtain ⟨e_1, e_2, e_3⟩ := so_3 (Option.some.inj hf)
    subst e_1
    subst e_2
    subst e_3
    exact K H locs ls _ rfl hC dX10_keep_11
set_option maxRecDepth 100000 in
theorem c_m_keep {l : Launch} {sz : Nat} {D : va_G} {d : Nat → ClassId} {ad : Nat → Nat} {w : Nat → Int32} {isKept : Nat → Int32} {people : Int32} {room : Nat → Int32} {work : Nat → Int32} {price : Nat → Int32} {askings : Int32} {asked : Nat → Int32} {hangs : Int32} {hung : Nat → Int32} {tenths : Nat → Int32} {sortWorth : Nat → Int32} {sortDays : Nat → Int32} {sorts : Int32} {text : Nat → Int32} {texted : Int32} {trace : Int64} {at_ : Int32} {fault : Int32} {readPeople : Int32} {readPerson : Nat → Int32} {readAskings : Int32} {readAsked : Nat → Int32} {readHangs : Int32} {readHung : Nat → Int32} {rest : Nat → Int32} {brings : Nat → Int64} {later : Nat → Int64} {x1 : Int32} {r : Int32} {w_r : Nat → Int32} {isKept_r : Nat → Int32} (hf : m_keep w isKept x1 = some (r, w_r, isKept_r)) : MI l yX10_keep (ws_ yX10_keep cX10_keep 2 (some .int)) { frames := 1, cells := 0, slots := 0, locals := 25 } D gcl (gty d) (fun _ => True) (mw d ad w isKept people room work price askings asked hangs hung tenths sortWorth sortDays sorts text texted trace at_ fault readPeople readPerson readAskings readAsked readHangs readHung rest brings later) (mw d ad w_r isKept_r people room work price askings asked hangs hung tenths sortWorth sortDays sorts text texted trace at_ fault readPeople readPerson readAskings readAsked readHangs readHung rest brings later) sz [.ref (ad 0), .int x1] r :=
  MI.of (by decide) [.ref (ad 0), .int x1] [(0, .ref (ad 0)), (1, .int x1)] (Nat.le_of_ble_eq_true rfl) rfl (fun p e s m below meth c ls Q hx hb hml hown hts hN hA hC hl K => w_m_keep hx hb hml hown hts hA (Nat.le_refl _) (Nat.le_refl _) (Nat.le_refl _) (Nat.le_refl _) hf hC hl K)

def m_back (w : Nat → Int32) (isKept : Nat → Int32) (x1 : Int32) : Option (Int32 × (Nat → Int32)) :=
  bnd (m_in x1.toInt64 0 1) fun r_4 =>
  if r_4 = 0 then (some ((-1), w)) else
  ck x1 2 <| if (isKept x1.toNatClampNeg) = 0 then (some ((-2), w)) else
  bnd (m_copy w (100 * (1 + x1)) 0) fun w_32 =>
  some (w_32 (0 : Int32).toNatClampNeg, w_32)
set_option maxHeartbeats 4000000 in
set_option maxRecDepth 100000 in
theorem w_m_back {p : Program} {l : Launch} {e : Env} {R : Room} {s : State} {m : MethodId} {args : Array Value} {below : List Frame} {meth : Method} {c : Code} {H : Heap} {locs : List Loc} {cells slots : Nat} {Q : State → Prop} {A : Nat → Prop} {ls : Array Slot} {D : va_G} {d : Nat → ClassId} {ad : Nat → Nat} {w : Nat → Int32} {isKept : Nat → Int32} {people : Int32} {room : Nat → Int32} {work : Nat → Int32} {price : Nat → Int32} {askings : Int32} {asked : Nat → Int32} {hangs : Int32} {hung : Nat → Int32} {tenths : Nat → Int32} {sortWorth : Nat → Int32} {sortDays : Nat → Int32} {sorts : Int32} {text : Nat → Int32} {texted : Int32} {trace : Int64} {at_ : Int32} {fault : Int32} {readPeople : Int32} {readPerson : Nat → Int32} {readAskings : Int32} {readAsked : Nat → Int32} {readHangs : Int32} {readHung : Nat → Int32} {rest : Nat → Int32} {brings : Nat → Int64} {later : Nat → Int64} {x1 : Int32} {r : Int32} {w_r : Nat → Int32} (hx : p.tables.exec = Jvm.exec) (hb : c.code = cX10_back) (hml : c.maxLocals = 2) (hown : s.vm.findClass RX10 = some m.cls) (hts : ∀ w ∈ lw_all, w.before args s = true) (hA : ∀ q, s.heap.size ≤ q → A q) (hRf : 1 ≤ R.frames) (hRl : 25 ≤ R.locals) (hRc : cells ≤ R.cells) (hRs : slots ≤ R.slots) (hf : m_back w isKept x1 = some (r, w_r)) (hC : HC D gcl (gty d) A (mw d ad w isKept people room work price askings asked hangs hung tenths sortWorth sortDays sorts text texted trace at_ fault readPeople readPerson readAskings readAsked readHangs readHung rest brings later) s H locs) (hl : lv_has ls 2 [(0, .ref (ad 0)), (1, .int x1)]) (K : ∀ (H : Heap) (locs : List Loc) (ls : Array Slot) (pc : Nat), narrow .int (.int r) = .int r → HC D gcl (gty d) A (mw d ad w_r isKept people room work price askings asked hangs hung tenths sortWorth sortDays sorts text texted trace at_ fault readPeople readPerson readAskings readAsked readHangs readHung rest brings later) s H locs → decode cX10_back pc = .ok (.ireturn, 1) → W p l e R s m args below meth c H locs cells slots Q (F0 m pc ls [.int r])) : W p l e R s m args below meth c H locs cells slots Q (F0 m 0 ls []) := by
  unfold m_back at hf
  refine lv_iload_n hx hb dX10_back_0 rfl (lv_at hl 1 rfl) ?_
  refine lv_i2l (v := x1.toInt64) hx hb dX10_back_1 rfl ?_
  refine lv_lconst (v := 0) hx hb dX10_back_2 (by decide) ?_
  refine lv_lconst (v := 1) hx hb dX10_back_3 (by decide) ?_
  obtain ⟨r_4, hcall, hf⟩ := bnd_some hf
  refine hc_i (va_runS (As := [.long x1.toInt64, .long 0, .long 1]) (rest := []) ⟨hx, hb, hml, hown, hts⟩ (c_m_in hcall) (va_cwS 3 hts (lw_S q898 q899 q59 q900) rfl rfl rfl (by decide +kernel) ⟨(Nat.le_trans (Nat.le_of_ble_eq_true rfl) hRf), (Nat.le_trans (Nat.le_of_ble_eq_true rfl) hRl)⟩) (pre_S (fun _ _ _ _ h => h) (fun _ _ _ => trivial) hC) rfl rfl hl.1 rfl (lv_room (Nat.le_of_ble_eq_true rfl)) dX10_back_4 ⟨hRc, hRs⟩) hA hC (fun H locs hC => ?_)
  refine lv_if_ne (tgt := 12) hx hb dX10_back_7 (by decide) (fun c_7 => ?_) (fun c_7 => ?_)
  · have hf := if_f hf c_7
    refine lv_aload_n hx hb dX10_back_12 rfl (lv_at hl 0 rfl) ?_
    refine va_get (ci := 10) (v := .ref (ad 2)) (C := RX10) (T := TX10) (N := 28) hx hb hts in_X10 hown hC.1 hC.2.1 0 rfl rfl 1 (by decide) (hts _ q807) (fun _ h9 => h9) rfl dX10_back_13 ?_
    refine lv_iload_n hx hb dX10_back_16 rfl (lv_at hl 1 rfl) ?_
    obtain ⟨hi_17, hf⟩ := ck_some hf
    refine va_zald hx hb hC.1 hC.2.1 2 2 rfl rfl hi_17 dX10_back_17 ?_
    refine lv_if_ne (tgt := 24) hx hb dX10_back_18 (by decide) (fun c_18 => ?_) (fun c_18 => ?_)
    · have hf := if_f hf c_18
      refine lv_aload_n hx hb dX10_back_24 rfl (lv_at hl 0 rfl) ?_
      refine lv_bipush (v := 100) hx hb dX10_back_25 (by decide) ?_
      refine lv_iconst (v := 1) hx hb dX10_back_27 (by decide) ?_
      refine lv_iload_n hx hb dX10_back_28 rfl (lv_at hl 1 rfl) ?_
      refine lv_iadd hx hb dX10_back_29 ?_
      refine lv_imul hx hb dX10_back_30 ?_
      refine lv_iconst (v := 0) hx hb dX10_back_31 (by decide) ?_
      obtain ⟨w_32, hcall, hf⟩ := bnd_some hf
      refine hc_v (va_runV (C := RX10) (As := [.int (100 * (1 + x1)), .int 0]) (rest := []) ⟨hx, hb, hml, hown, hts⟩ (c_m_copy hcall) (cwV 2 hts (lw_V q1119 q1121 qs46 q59 q1122) rfl rfl rfl (by decide +kernel) ⟨(Nat.le_trans (Nat.le_of_ble_eq_true rfl) hRf), (Nat.le_trans (Nat.le_of_ble_eq_true rfl) hRl)⟩) (pre_V (q0 := 0) (ci := 10) (fun _ _ _ _ h => h) (fun _ _ _ => trivial) hC rfl rfl) rfl rfl hl.1 rfl (lv_room (Nat.le_of_ble_eq_true rfl)) dX10_back_32 ⟨hRc, hRs⟩) hA hC (fun H locs hC => ?_)
      refine lv_aload_n hx hb dX10_back_35 rfl (lv_at hl 0 rfl) ?_
      refine va_get (ci := 10) (v := .ref (ad 1)) (C := RX10) (T := TX10) (N := 28) hx hb hts in_X10 hown hC.1 hC.2.1 0 rfl rfl 0 (by decide) (hts _ q806) (fun _ h9 => h9) rfl dX10_back_36 ?_
      refine lv_iconst (v := 0) hx hb dX10_back_39 (by decide) ?_
      refine va_iald hx hb hC.1 hC.2.1 1 0 rfl rfl (vp_in_iff.mpr (by decide)) dX10_back_40 ?_
      obtain ⟨e_1, e_2⟩ := so_2 (Option.some.inj hf)
      subst e_1
      subst e_2
      exact K H locs ls _ rfl hC dX10_back_41
    · have hf := if_t hf c_18
      refine lv_bipush (v := (-2)) hx hb dX10_back_21 (by decide) ?_
      obtain ⟨e_1, e_2⟩ := so_2 (Option.some.inj hf)
      subst e_1
      subst e_2
      exact K H locs ls _ rfl hC dX10_back_23
  · have hf := if_t hf c_7
    refine lv_iconst (v := (-1)) hx hb dX10_back_10 (by decide) ?_
    obtain ⟨e_1, e_2⟩ := so_2 (Option.some.inj hf)
    subst e_1
    subst e_2
    exact K H locs ls _ rfl hC dX10_back_11
set_option maxRecDepth 100000 in
theorem c_m_back {l : Launch} {sz : Nat} {D : va_G} {d : Nat → ClassId} {ad : Nat → Nat} {w : Nat → Int32} {isKept : Nat → Int32} {people : Int32} {room : Nat → Int32} {work : Nat → Int32} {price : Nat → Int32} {askings : Int32} {asked : Nat → Int32} {hangs : Int32} {hung : Nat → Int32} {tenths : Nat → Int32} {sortWorth : Nat → Int32} {sortDays : Nat → Int32} {sorts : Int32} {text : Nat → Int32} {texted : Int32} {trace : Int64} {at_ : Int32} {fault : Int32} {readPeople : Int32} {readPerson : Nat → Int32} {readAskings : Int32} {readAsked : Nat → Int32} {readHangs : Int32} {readHung : Nat → Int32} {rest : Nat → Int32} {brings : Nat → Int64} {later : Nat → Int64} {x1 : Int32} {r : Int32} {w_r : Nat → Int32} (hf : m_back w isKept x1 = some (r, w_r)) : MI l yX10_back (ws_ yX10_back cX10_back 2 (some .int)) { frames := 1, cells := 0, slots := 0, locals := 25 } D gcl (gty d) (fun _ => True) (mw d ad w isKept people room work price askings asked hangs hung tenths sortWorth sortDays sorts text texted trace at_ fault readPeople readPerson readAskings readAsked readHangs readHung rest brings later) (mw d ad w_r isKept people room work price askings asked hangs hung tenths sortWorth sortDays sorts text texted trace at_ fault readPeople readPerson readAskings readAsked readHangs readHung rest brings later) sz [.ref (ad 0), .int x1] r :=
  MI.of (by decide) [.ref (ad 0), .int x1] [(0, .ref (ad 0)), (1, .int x1)] (Nat.le_of_ble_eq_true rfl) rfl (fun p e s m below meth c ls Q hx hb hml hown hts hN hA hC hl K => w_m_back hx hb hml hown hts hA (Nat.le_refl _) (Nat.le_refl _) (Nat.le_refl _) (Nat.le_refl _) hf hC hl K)

def m_count (people : Int32) (askings : Int32) (hangs : Int32) (tenths : Nat → Int32) (texted : Int32) (x1 : Int32) : Option (Int32) :=
  if x1 = 0 then (some people) else
  if x1 = 1 then (some askings) else
  if x1 = 2 then (some hangs) else
  if x1 = 3 then (bnd (m_allTenths tenths) fun r_52 =>
  some r_52) else
  if x1 = 4 then (some texted) else
  some (-1)
set_option maxHeartbeats 4000000 in
set_option maxRecDepth 100000 in
theorem w_m_count {p : Program} {l : Launch} {e : Env} {R : Room} {s : State} {m : MethodId} {args : Array Value} {below : List Frame} {meth : Method} {c : Code} {H : Heap} {locs : List Loc} {cells slots : Nat} {Q : State → Prop} {A : Nat → Prop} {ls : Array Slot} {D : va_G} {d : Nat → ClassId} {ad : Nat → Nat} {w : Nat → Int32} {isKept : Nat → Int32} {people : Int32} {room : Nat → Int32} {work : Nat → Int32} {price : Nat → Int32} {askings : Int32} {asked : Nat → Int32} {hangs : Int32} {hung : Nat → Int32} {tenths : Nat → Int32} {sortWorth : Nat → Int32} {sortDays : Nat → Int32} {sorts : Int32} {text : Nat → Int32} {texted : Int32} {trace : Int64} {at_ : Int32} {fault : Int32} {readPeople : Int32} {readPerson : Nat → Int32} {readAskings : Int32} {readAsked : Nat → Int32} {readHangs : Int32} {readHung : Nat → Int32} {rest : Nat → Int32} {brings : Nat → Int64} {later : Nat → Int64} {x1 : Int32} {r : Int32} (hx : p.tables.exec = Jvm.exec) (hb : c.code = cX10_count) (hml : c.maxLocals = 2) (hown : s.vm.findClass RX10 = some m.cls) (hts : ∀ w ∈ lw_all, w.before args s = true) (hA : ∀ q, s.heap.size ≤ q → A q) (hRf : 1 ≤ R.frames) (hRl : 20 ≤ R.locals) (hRc : cells ≤ R.cells) (hRs : slots ≤ R.slots) (hf : m_count people askings hangs tenths texted x1 = some r) (hC : HC D gcl (gty d) A (mw d ad w isKept people room work price askings asked hangs hung tenths sortWorth sortDays sorts text texted trace at_ fault readPeople readPerson readAskings readAsked readHangs readHung rest brings later) s H locs) (hl : lv_has ls 2 [(0, .ref (ad 0)), (1, .int x1)]) (K : ∀ (H : Heap) (locs : List Loc) (ls : Array Slot) (pc : Nat), narrow .int (.int r) = .int r → HC D gcl (gty d) A (mw d ad w isKept people room work price askings asked hangs hung tenths sortWorth sortDays sorts text texted trace at_ fault readPeople readPerson readAskings readAsked readHangs readHung rest brings later) s H locs → decode cX10_count pc = .ok (.ireturn, 1) → W p l e R s m args below meth c H locs cells slots Q (F0 m pc ls [.int r])) : W p l e R s m args below meth c H locs cells slots Q (F0 m 0 ls []) := by
  unfold m_count at hf
  refine lv_iload_n hx hb dX10_count_0 rfl (lv_at hl 1 rfl) ?_
  by_cases c_1_0 : x1 = 0
  · have hf := if_t hf c_1_0
    refine lv_tableIn (tgt := 36) hx hb dX10_count_1 (by rw [c_1_0]; decide) (by rw [c_1_0]; decide) (by rw [c_1_0]; rfl) (by decide) ?_
    refine lv_aload_n hx hb dX10_count_36 rfl (lv_at hl 0 rfl) ?_
    refine va_get (ci := 10) (v := .int people) (C := RX10) (T := TX10) (N := 28) hx hb hts in_X10 hown hC.1 hC.2.1 0 rfl rfl 2 (by decide) (hts _ q808) (fun _ h9 => h9) rfl dX10_count_37 ?_
    have e_1 := (Option.some.inj hf)
    subst e_1
    exact K H locs ls _ rfl hC dX10_count_40
  · have hf := if_f hf c_1_0
    by_cases c_1_1 : x1 = 1
    · have hf := if_t hf c_1_1
      refine lv_tableIn (tgt := 41) hx hb dX10_count_1 (by rw [c_1_1]; decide) (by rw [c_1_1]; decide) (by rw [c_1_1]; rfl) (by decide) ?_
      refine lv_aload_n hx hb dX10_count_41 rfl (lv_at hl 0 rfl) ?_
      refine va_get (ci := 10) (v := .int askings) (C := RX10) (T := TX10) (N := 28) hx hb hts in_X10 hown hC.1 hC.2.1 0 rfl rfl 6 (by decide) (hts _ q812) (fun _ h9 => h9) rfl dX10_count_42 ?_
      have e_1 := (Option.some.inj hf)
      subst e_1
      exact K H locs ls _ rfl hC dX10_count_45
    · have hf := if_f hf c_1_1
      by_cases c_1_2 : x1 = 2
      · have hf := if_t hf c_1_2
        refine lv_tableIn (tgt := 46) hx hb dX10_count_1 (by rw [c_1_2]; decide) (by rw [c_1_2]; decide) (by rw [c_1_2]; rfl) (by decide) ?_
        refine lv_aload_n hx hb dX10_count_46 rfl (lv_at hl 0 rfl) ?_
        refine va_get (ci := 10) (v := .int hangs) (C := RX10) (T := TX10) (N := 28) hx hb hts in_X10 hown hC.1 hC.2.1 0 rfl rfl 8 (by decide) (hts _ q814) (fun _ h9 => h9) rfl dX10_count_47 ?_
        have e_1 := (Option.some.inj hf)
        subst e_1
        exact K H locs ls _ rfl hC dX10_count_50
      · have hf := if_f hf c_1_2
        by_cases c_1_3 : x1 = 3
        · have hf := if_t hf c_1_3
          refine lv_tableIn (tgt := 51) hx hb dX10_count_1 (by rw [c_1_3]; decide) (by rw [c_1_3]; decide) (by rw [c_1_3]; rfl) (by decide) ?_
          refine lv_aload_n hx hb dX10_count_51 rfl (lv_at hl 0 rfl) ?_
          obtain ⟨r_52, hcall, hf⟩ := bnd_some hf
          refine hc_i (va_runV (C := RX10) (As := []) (rest := []) ⟨hx, hb, hml, hown, hts⟩ (c_m_allTenths hcall) (cwV 0 hts (lw_V q1053 q1055 qs40 q59 q1056) rfl rfl rfl (by decide +kernel) ⟨(Nat.le_trans (Nat.le_of_ble_eq_true rfl) hRf), (Nat.le_trans (Nat.le_of_ble_eq_true rfl) hRl)⟩) (pre_V (q0 := 0) (ci := 10) (fun _ _ _ _ h => h) (fun _ _ _ => trivial) hC rfl rfl) rfl rfl hl.1 rfl (lv_room (Nat.le_of_ble_eq_true rfl)) dX10_count_52 ⟨hRc, hRs⟩) hA hC (fun H locs hC => ?_)
          have e_1 := (Option.some.inj hf)
          subst e_1
          exact K H locs ls _ rfl hC dX10_count_55
        · have hf := if_f hf c_1_3
          by_cases c_1_4 : x1 = 4
          · have hf := if_t hf c_1_4
            refine lv_tableIn (tgt := 56) hx hb dX10_count_1 (by rw [c_1_4]; decide) (by rw [c_1_4]; decide) (by rw [c_1_4]; rfl) (by decide) ?_
            refine lv_aload_n hx hb dX10_count_56 rfl (lv_at hl 0 rfl) ?_
            refine va_get (ci := 10) (v := .int texted) (C := RX10) (T := TX10) (N := 28) hx hb hts in_X10 hown hC.1 hC.2.1 0 rfl rfl 15 (by decide) (hts _ q821) (fun _ h9 => h9) rfl dX10_count_57 ?_
            have e_1 := (Option.some.inj hf)
            subst e_1
            exact K H locs ls _ rfl hC dX10_count_60
          · have hf := if_f hf c_1_4
            refine lv_tableOut (tgt := 61) hx hb dX10_count_1 (by have n0 := lv_neT c_1_0 (show (0 : Int32).toInt = 0 by decide); have n1 := lv_neT c_1_1 (show (1 : Int32).toInt = 1 by decide); have n2 := lv_neT c_1_2 (show (2 : Int32).toInt = 2 by decide); have n3 := lv_neT c_1_3 (show (3 : Int32).toInt = 3 by decide); have n4 := lv_neT c_1_4 (show (4 : Int32).toInt = 4 by decide); first | omega | (rcases Int.lt_or_le (x1).toInt 0 with q | q <;> omega)) (by decide) ?_
            refine lv_iconst (v := (-1)) hx hb dX10_count_61 (by decide) ?_
            have e_1 := (Option.some.inj hf)
            subst e_1
            exact K H locs ls _ rfl hC dX10_count_62
set_option maxRecDepth 100000 in
theorem c_m_count {l : Launch} {sz : Nat} {D : va_G} {d : Nat → ClassId} {ad : Nat → Nat} {w : Nat → Int32} {isKept : Nat → Int32} {people : Int32} {room : Nat → Int32} {work : Nat → Int32} {price : Nat → Int32} {askings : Int32} {asked : Nat → Int32} {hangs : Int32} {hung : Nat → Int32} {tenths : Nat → Int32} {sortWorth : Nat → Int32} {sortDays : Nat → Int32} {sorts : Int32} {text : Nat → Int32} {texted : Int32} {trace : Int64} {at_ : Int32} {fault : Int32} {readPeople : Int32} {readPerson : Nat → Int32} {readAskings : Int32} {readAsked : Nat → Int32} {readHangs : Int32} {readHung : Nat → Int32} {rest : Nat → Int32} {brings : Nat → Int64} {later : Nat → Int64} {x1 : Int32} {r : Int32} (hf : m_count people askings hangs tenths texted x1 = some r) : MI l yX10_count (ws_ yX10_count cX10_count 2 (some .int)) { frames := 1, cells := 0, slots := 0, locals := 20 } D gcl (gty d) (fun _ => True) (mw d ad w isKept people room work price askings asked hangs hung tenths sortWorth sortDays sorts text texted trace at_ fault readPeople readPerson readAskings readAsked readHangs readHung rest brings later) (mw d ad w isKept people room work price askings asked hangs hung tenths sortWorth sortDays sorts text texted trace at_ fault readPeople readPerson readAskings readAsked readHangs readHung rest brings later) sz [.ref (ad 0), .int x1] r :=
  MI.of (by decide) [.ref (ad 0), .int x1] [(0, .ref (ad 0)), (1, .int x1)] (Nat.le_of_ble_eq_true rfl) rfl (fun p e s m below meth c ls Q hx hb hml hown hts hN hA hC hl K => w_m_count hx hb hml hown hts hA (Nat.le_refl _) (Nat.le_refl _) (Nat.le_refl _) (Nat.le_refl _) hf hC hl K)

def m_trace (trace : Int64) : Option (Int64) :=
  some trace
set_option maxHeartbeats 4000000 in
set_option maxRecDepth 100000 in
theorem w_m_trace {p : Program} {l : Launch} {e : Env} {R : Room} {s : State} {m : MethodId} {args : Array Value} {below : List Frame} {meth : Method} {c : Code} {H : Heap} {locs : List Loc} {cells slots : Nat} {Q : State → Prop} {A : Nat → Prop} {ls : Array Slot} {D : va_G} {d : Nat → ClassId} {ad : Nat → Nat} {w : Nat → Int32} {isKept : Nat → Int32} {people : Int32} {room : Nat → Int32} {work : Nat → Int32} {price : Nat → Int32} {askings : Int32} {asked : Nat → Int32} {hangs : Int32} {hung : Nat → Int32} {tenths : Nat → Int32} {sortWorth : Nat → Int32} {sortDays : Nat → Int32} {sorts : Int32} {text : Nat → Int32} {texted : Int32} {trace : Int64} {at_ : Int32} {fault : Int32} {readPeople : Int32} {readPerson : Nat → Int32} {readAskings : Int32} {readAsked : Nat → Int32} {readHangs : Int32} {readHung : Nat → Int32} {rest : Nat → Int32} {brings : Nat → Int64} {later : Nat → Int64} {r : Int64} (hx : p.tables.exec = Jvm.exec) (hb : c.code = cX10_trace) (hml : c.maxLocals = 1) (hown : s.vm.findClass RX10 = some m.cls) (hts : ∀ w ∈ lw_all, w.before args s = true) (hA : ∀ q, s.heap.size ≤ q → A q) (hRf : 0 ≤ R.frames) (hRl : 0 ≤ R.locals) (hRc : cells ≤ R.cells) (hRs : slots ≤ R.slots) (hf : m_trace trace = some r) (hC : HC D gcl (gty d) A (mw d ad w isKept people room work price askings asked hangs hung tenths sortWorth sortDays sorts text texted trace at_ fault readPeople readPerson readAskings readAsked readHangs readHung rest brings later) s H locs) (hl : lv_has ls 1 [(0, .ref (ad 0))]) (K : ∀ (H : Heap) (locs : List Loc) (ls : Array Slot) (pc : Nat), True → HC D gcl (gty d) A (mw d ad w isKept people room work price askings asked hangs hung tenths sortWorth sortDays sorts text texted trace at_ fault readPeople readPerson readAskings readAsked readHangs readHung rest brings later) s H locs → decode cX10_trace pc = .ok (.lreturn, 1) → W p l e R s m args below meth c H locs cells slots Q (F0 m pc ls [.long r])) : W p l e R s m args below meth c H locs cells slots Q (F0 m 0 ls []) := by
  unfold m_trace at hf
  refine lv_aload_n hx hb dX10_trace_0 rfl (lv_at hl 0 rfl) ?_
  refine va_get (ci := 10) (v := .long trace) (C := RX10) (T := TX10) (N := 28) hx hb hts in_X10 hown hC.1 hC.2.1 0 rfl rfl 16 (by decide) (hts _ q822) (fun _ h9 => h9) rfl dX10_trace_1 ?_
  have e_1 := (Option.some.inj hf)
  subst e_1
  exact K H locs ls _ trivial hC dX10_trace_4
set_option maxRecDepth 100000 in
theorem c_m_trace {l : Launch} {sz : Nat} {D : va_G} {d : Nat → ClassId} {ad : Nat → Nat} {w : Nat → Int32} {isKept : Nat → Int32} {people : Int32} {room : Nat → Int32} {work : Nat → Int32} {price : Nat → Int32} {askings : Int32} {asked : Nat → Int32} {hangs : Int32} {hung : Nat → Int32} {tenths : Nat → Int32} {sortWorth : Nat → Int32} {sortDays : Nat → Int32} {sorts : Int32} {text : Nat → Int32} {texted : Int32} {trace : Int64} {at_ : Int32} {fault : Int32} {readPeople : Int32} {readPerson : Nat → Int32} {readAskings : Int32} {readAsked : Nat → Int32} {readHangs : Int32} {readHung : Nat → Int32} {rest : Nat → Int32} {brings : Nat → Int64} {later : Nat → Int64} {r : Int64} (hf : m_trace trace = some r) : ML l yX10_trace (ws_ yX10_trace cX10_trace 1 (some .long)) { frames := 0, cells := 0, slots := 0, locals := 0 } D gcl (gty d) (fun _ => True) (mw d ad w isKept people room work price askings asked hangs hung tenths sortWorth sortDays sorts text texted trace at_ fault readPeople readPerson readAskings readAsked readHangs readHung rest brings later) (mw d ad w isKept people room work price askings asked hangs hung tenths sortWorth sortDays sorts text texted trace at_ fault readPeople readPerson readAskings readAsked readHangs readHung rest brings later) sz [.ref (ad 0)] r :=
  ML.of (by decide) [.ref (ad 0)] [(0, .ref (ad 0))] (Nat.le_of_ble_eq_true rfl) rfl (fun p e s m below meth c ls Q hx hb hml hown hts hN hA hC hl K => w_m_trace hx hb hml hown hts hA (Nat.le_refl _) (Nat.le_refl _) (Nat.le_refl _) (Nat.le_refl _) hf hC hl K)
