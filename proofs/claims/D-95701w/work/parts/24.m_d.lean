set_option maxRecDepth 100000

def m_canKeep_L21 (x1 : Int32) (x5_11 : Int32) (askings : Int32) (asked : Nat → Int32) : Nat → Int32 → Int32 → (Nat → Int32) → Option (Int32 × (Nat → Int32))
  | 0, _, _, _ => none
  | n_21 + 1, x4_21, x6_21, rest_21 =>
  if askings ≤ x6_21 then (some (x4_21, rest_21)) else
  bnd (m_has x1 x6_21) fun r_33 =>
  if r_33 = 0 then (m_canKeep_L21 x1 x5_11 askings asked n_21 x4_21 (x6_21 + 1) rest_21) else
  ck ((5 * x6_21) + 1) 40 <| if (asked ((5 * x6_21) + 1).toNatClampNeg) = x5_11 then (ck ((5 * x6_21) + 2) 40 <| ck x6_21 8 <| m_canKeep_L21 x1 x5_11 askings asked n_21 (x4_21 ||| (1 <<< (x6_21 &&& 31))) (x6_21 + 1) (upd rest_21 x6_21.toNatClampNeg (asked ((5 * x6_21) + 2).toNatClampNeg))) else
  m_canKeep_L21 x1 x5_11 askings asked n_21 x4_21 (x6_21 + 1) rest_21
theorem m_canKeep_L21_s (x1 : Int32) (x5_11 : Int32) (askings : Int32) (asked : Nat → Int32) (n_21 : Nat) (x4_21 : Int32) (x6_21 : Int32) (rest_21 : Nat → Int32) : m_canKeep_L21 x1 x5_11 askings asked (n_21 + 1) x4_21 x6_21 rest_21 = (
  if askings ≤ x6_21 then (some (x4_21, rest_21)) else
  bnd (m_has x1 x6_21) fun r_33 =>
  if r_33 = 0 then (m_canKeep_L21 x1 x5_11 askings asked n_21 x4_21 (x6_21 + 1) rest_21) else
  ck ((5 * x6_21) + 1) 40 <| if (asked ((5 * x6_21) + 1).toNatClampNeg) = x5_11 then (ck ((5 * x6_21) + 2) 40 <| ck x6_21 8 <| m_canKeep_L21 x1 x5_11 askings asked n_21 (x4_21 ||| (1 <<< (x6_21 &&& 31))) (x6_21 + 1) (upd rest_21 x6_21.toNatClampNeg (asked ((5 * x6_21) + 2).toNatClampNeg))) else
  m_canKeep_L21 x1 x5_11 askings asked n_21 x4_21 (x6_21 + 1) rest_21) := rfl
def m_canKeep_L116 (x7_106 : Int32) (askings : Int32) (asked : Nat → Int32) : Nat → Int32 → Int32 → Int32 → (Nat → Int32) → Option (Int32 × Int32 × (Nat → Int32))
  | 0, _, _, _, _ => none
  | n_116 + 1, x4_116, x6_116, x8_116, rest_116 =>
  if askings ≤ x8_116 then (some (x4_116, x6_116, rest_116)) else
  bnd (m_has x4_116 x8_116) fun r_129 =>
  if r_129 = 0 then (m_canKeep_L116 x7_106 askings asked n_116 x4_116 x6_116 (x8_116 + 1) rest_116) else
  ck ((5 * x8_116) + 4) 40 <| if (asked ((5 * x8_116) + 4).toNatClampNeg) = x7_106 then (ck x8_116 8 <| bnd (m_lesser x6_116 (rest_116 x8_116.toNatClampNeg)) fun r_160 =>
  ck x8_116 8 <| ck x8_116 8 <| ck x8_116 8 <| if ((upd rest_116 x8_116.toNatClampNeg ((rest_116 x8_116.toNatClampNeg) - r_160)) x8_116.toNatClampNeg) = 0 then (m_canKeep_L116 x7_106 askings asked n_116 (x4_116 &&& ((1 <<< (x8_116 &&& 31)) ^^^ (-1))) (x6_116 - r_160) (x8_116 + 1) (upd rest_116 x8_116.toNatClampNeg ((rest_116 x8_116.toNatClampNeg) - r_160))) else
  m_canKeep_L116 x7_106 askings asked n_116 (x4_116 &&& (-1)) (x6_116 - r_160) (x8_116 + 1) (upd rest_116 x8_116.toNatClampNeg ((rest_116 x8_116.toNatClampNeg) - r_160))) else
  m_canKeep_L116 x7_106 askings asked n_116 x4_116 x6_116 (x8_116 + 1) rest_116
theorem m_canKeep_L116_s (x7_106 : Int32) (askings : Int32) (asked : Nat → Int32) (n_116 : Nat) (x4_116 : Int32) (x6_116 : Int32) (x8_116 : Int32) (rest_116 : Nat → Int32) : m_canKeep_L116 x7_106 askings asked (n_116 + 1) x4_116 x6_116 x8_116 rest_116 = (
  if askings ≤ x8_116 then (some (x4_116, x6_116, rest_116)) else
  bnd (m_has x4_116 x8_116) fun r_129 =>
  if r_129 = 0 then (m_canKeep_L116 x7_106 askings asked n_116 x4_116 x6_116 (x8_116 + 1) rest_116) else
  ck ((5 * x8_116) + 4) 40 <| if (asked ((5 * x8_116) + 4).toNatClampNeg) = x7_106 then (ck x8_116 8 <| bnd (m_lesser x6_116 (rest_116 x8_116.toNatClampNeg)) fun r_160 =>
  ck x8_116 8 <| ck x8_116 8 <| ck x8_116 8 <| if ((upd rest_116 x8_116.toNatClampNeg ((rest_116 x8_116.toNatClampNeg) - r_160)) x8_116.toNatClampNeg) = 0 then (m_canKeep_L116 x7_106 askings asked n_116 (x4_116 &&& ((1 <<< (x8_116 &&& 31)) ^^^ (-1))) (x6_116 - r_160) (x8_116 + 1) (upd rest_116 x8_116.toNatClampNeg ((rest_116 x8_116.toNatClampNeg) - r_160))) else
  m_canKeep_L116 x7_106 askings asked n_116 (x4_116 &&& (-1)) (x6_116 - r_160) (x8_116 + 1) (upd rest_116 x8_116.toNatClampNeg ((rest_116 x8_116.toNatClampNeg) - r_160))) else
  m_canKeep_L116 x7_106 askings asked n_116 x4_116 x6_116 (x8_116 + 1) rest_116) := rfl
def m_canKeep_L106 (askings : Int32) (asked : Nat → Int32) : Nat → Int32 → Int32 → Int32 → (Nat → Int32) → Option (Int32 × (Nat → Int32))
  | 0, _, _, _, _ => none
  | n_106 + 1, x4_106, x6_106, x7_106, rest_106 =>
  if 10 ≤ x7_106 then (some (x4_106, rest_106)) else
  bnd3 (m_canKeep_L116 x7_106 askings asked g_fuel x4_106 x6_106 0 rest_106) (fun x4_215 x6_215 rest_215 =>
  m_canKeep_L106 askings asked n_106 x4_215 x6_215 (x7_106 + 1) rest_215)
theorem m_canKeep_L106_s (askings : Int32) (asked : Nat → Int32) (n_106 : Nat) (x4_106 : Int32) (x6_106 : Int32) (x7_106 : Int32) (rest_106 : Nat → Int32) : m_canKeep_L106 askings asked (n_106 + 1) x4_106 x6_106 x7_106 rest_106 = (
  if 10 ≤ x7_106 then (some (x4_106, rest_106)) else
  bnd3 (m_canKeep_L116 x7_106 askings asked g_fuel x4_106 x6_106 0 rest_106) (fun x4_215 x6_215 rest_215 =>
  m_canKeep_L106 askings asked n_106 x4_215 x6_215 (x7_106 + 1) rest_215)) := rfl
def m_canKeep_L224 (x4_221 : Int32) (x5_11 : Int32) (askings : Int32) (asked : Nat → Int32) (rest_221 : Nat → Int32) : Nat → Int32 → Option ((Int32 × (Nat → Int32)) ⊕ (Unit))
  | 0, _ => none
  | n_224 + 1, x7_224 =>
  if askings ≤ x7_224 then (some (.inr ())) else
  bnd (m_has x4_221 x7_224) fun r_237 =>
  if r_237 = 0 then (m_canKeep_L224 x4_221 x5_11 askings asked rest_221 n_224 (x7_224 + 1) ) else
  ck ((5 * x7_224) + 4) 40 <| if (asked ((5 * x7_224) + 4).toNatClampNeg) = x5_11 then (some (.inl (0, rest_221))) else
  m_canKeep_L224 x4_221 x5_11 askings asked rest_221 n_224 (x7_224 + 1) 
theorem m_canKeep_L224_s (x4_221 : Int32) (x5_11 : Int32) (askings : Int32) (asked : Nat → Int32) (rest_221 : Nat → Int32) (n_224 : Nat) (x7_224 : Int32) : m_canKeep_L224 x4_221 x5_11 askings asked rest_221 (n_224 + 1) x7_224 = (
  if askings ≤ x7_224 then (some (.inr ())) else
  bnd (m_has x4_221 x7_224) fun r_237 =>
  if r_237 = 0 then (m_canKeep_L224 x4_221 x5_11 askings asked rest_221 n_224 (x7_224 + 1) ) else
  ck ((5 * x7_224) + 4) 40 <| if (asked ((5 * x7_224) + 4).toNatClampNeg) = x5_11 then (some (.inl (0, rest_221))) else
  m_canKeep_L224 x4_221 x5_11 askings asked rest_221 n_224 (x7_224 + 1) ) := rfl
def m_canKeep_L11 (x1 : Int32) (x2 : Int32) (x3 : Int32) (askings : Int32) (asked : Nat → Int32) : Nat → Int32 → Int32 → (Nat → Int32) → Option ((Int32 × (Nat → Int32)) ⊕ ((Nat → Int32)))
  | 0, _, _, _ => none
  | n_11 + 1, x4_11, x5_11, rest_11 =>
  if 10 ≤ x5_11 then (some (.inr rest_11)) else
  bnd2 (m_canKeep_L21 x1 x5_11 askings asked g_fuel x4_11 0 rest_11) (fun x4_88 rest_88 =>
  bnd (m_ones x4_88) fun r_90 =>
  if r_90 ≤ x2 then (bnd2 (m_canKeep_L106 askings asked g_fuel x4_88 x3 x5_11 rest_88) (fun x4_221 rest_221 =>
  bndR (m_canKeep_L224 x4_221 x5_11 askings asked rest_221 g_fuel 0 ) (fun _ =>
  m_canKeep_L11 x1 x2 x3 askings asked n_11 x4_221 (x5_11 + 1) rest_221))) else
  some (.inl (0, rest_88)))
theorem m_canKeep_L11_s (x1 : Int32) (x2 : Int32) (x3 : Int32) (askings : Int32) (asked : Nat → Int32) (n_11 : Nat) (x4_11 : Int32) (x5_11 : Int32) (rest_11 : Nat → Int32) : m_canKeep_L11 x1 x2 x3 askings asked (n_11 + 1) x4_11 x5_11 rest_11 = (
  if 10 ≤ x5_11 then (some (.inr rest_11)) else
  bnd2 (m_canKeep_L21 x1 x5_11 askings asked g_fuel x4_11 0 rest_11) (fun x4_88 rest_88 =>
  bnd (m_ones x4_88) fun r_90 =>
  if r_90 ≤ x2 then (bnd2 (m_canKeep_L106 askings asked g_fuel x4_88 x3 x5_11 rest_88) (fun x4_221 rest_221 =>
  bndR (m_canKeep_L224 x4_221 x5_11 askings asked rest_221 g_fuel 0 ) (fun _ =>
  m_canKeep_L11 x1 x2 x3 askings asked n_11 x4_221 (x5_11 + 1) rest_221))) else
  some (.inl (0, rest_88)))) := rfl
def m_canKeep (w : Nat → Int32) (askings : Int32) (asked : Nat → Int32) (rest : Nat → Int32) (x1 : Int32) (x2 : Int32) (x3 : Int32) : Option (Int32 × (Nat → Int32)) :=
  bndS (m_canKeep_L11 x1 x2 x3 askings asked g_fuel 0 (w (0 : Int32).toNatClampNeg) rest) (fun rest_273 =>
  some (1, rest_273))
set_option maxHeartbeats 4000000 in
set_option maxRecDepth 100000 in
theorem w_m_canKeep {p : Program} {l : Launch} {e : Env} {R : Room} {s : State} {m : MethodId} {args : Array Value} {below : List Frame} {meth : Method} {c : Code} {H : Heap} {locs : List Loc} {cells slots : Nat} {Q : State → Prop} {A : Nat → Prop} {ls : Array Slot} {D : va_G} {d : Nat → ClassId} {ad : Nat → Nat} {w : Nat → Int32} {isKept : Nat → Int32} {people : Int32} {room : Nat → Int32} {work : Nat → Int32} {price : Nat → Int32} {askings : Int32} {asked : Nat → Int32} {hangs : Int32} {hung : Nat → Int32} {tenths : Nat → Int32} {sortWorth : Nat → Int32} {sortDays : Nat → Int32} {sorts : Int32} {text : Nat → Int32} {texted : Int32} {trace : Int64} {at_ : Int32} {fault : Int32} {readPeople : Int32} {readPerson : Nat → Int32} {readAskings : Int32} {readAsked : Nat → Int32} {readHangs : Int32} {readHung : Nat → Int32} {rest : Nat → Int32} {brings : Nat → Int64} {later : Nat → Int64} {x1 : Int32} {x2 : Int32} {x3 : Int32} {r : Int32} {rest_r : Nat → Int32} (hx : p.tables.exec = Jvm.exec) (hb : c.code = cX10_canKeep) (hml : c.maxLocals = 10) (hown : s.vm.findClass RX10 = some m.cls) (hts : ∀ w ∈ lw_all, w.before args s = true) (hA : ∀ q, s.heap.size ≤ q → A q) (hRf : 1 ≤ R.frames) (hRl : 22 ≤ R.locals) (hRc : cells ≤ R.cells) (hRs : slots ≤ R.slots) (hf : m_canKeep w askings asked rest x1 x2 x3 = some (r, rest_r)) (hC : HC D gcl (gty d) A (mw d ad w isKept people room work price askings asked hangs hung tenths sortWorth sortDays sorts text texted trace at_ fault readPeople readPerson readAskings readAsked readHangs readHung rest brings later) s H locs) (hl : lv_has ls 10 [(0, .ref (ad 0)), (1, .int x1), (2, .int x2), (3, .int x3)]) (K : ∀ (H : Heap) (locs : List Loc) (ls : Array Slot) (pc : Nat), narrow .boolean (.int r) = .int r → HC D gcl (gty d) A (mw d ad w isKept people room work price askings asked hangs hung tenths sortWorth sortDays sorts text texted trace at_ fault readPeople readPerson readAskings readAsked readHangs readHung rest_r brings later) s H locs → decode cX10_canKeep pc = .ok (.ireturn, 1) → W p l e R s m args below meth c H locs cells slots Q (F0 m pc ls [.int r])) : W p l e R s m args below meth c H locs cells slots Q (F0 m 0 ls []) := by
  unfold m_canKeep at hf
  refine lv_iconst (v := 0) hx hb dX10_canKeep_0 (by decide) ?_
  refine lv_istore (lv' := [(4, .int 0), (0, .ref (ad 0)), (1, .int x1), (2, .int x2), (3, .int x3)]) hx hb dX10_canKeep_1 hl (by decide) rfl (fun ls hl => ?_)
  refine lv_aload_n hx hb dX10_canKeep_3 rfl (lv_at hl 1 rfl) ?_
  refine va_get (ci := 10) (v := .ref (ad 1)) (C := RX10) (T := TX10) (N := 28) hx hb hts in_X10 hown hC.1 hC.2.1 0 rfl rfl 0 (by decide) (hts _ q806) (fun _ h9 => h9) rfl dX10_canKeep_4 ?_
  refine lv_iconst (v := 0) hx hb dX10_canKeep_7 (by decide) ?_
  refine va_iald hx hb hC.1 hC.2.1 1 0 rfl rfl (vp_in_iff.mpr (by decide)) dX10_canKeep_8 ?_
  refine lv_istore (lv' := [(5, .int (w (0 : Int32).toNatClampNeg)), (4, .int 0), (0, .ref (ad 0)), (1, .int x1), (2, .int x2), (3, .int x3)]) hx hb dX10_canKeep_9 hl (by decide) rfl (fun ls hl => ?_)
  obtain ⟨rho_11, hL, hR_11, hO⟩ := bndS_some hf
  have X_11 : ∀ rest_273, rho_11 = .inr rest_273 → ∀ (H : Heap) (locs : List Loc) (ls : Array Slot), HC D gcl (gty d) A (mw d ad w isKept people room work price askings asked hangs hung tenths sortWorth sortDays sorts text texted trace at_ fault readPeople readPerson readAskings readAsked readHangs readHung rest_273 brings later) s H locs → lv_has ls 10 [] → W p l e R s m args below meth c H locs cells slots Q (F0 m 273 ls []) := by
    intro rest_273 er H locs ls hC hl
    have hf := hO _ er
    refine lv_iconst (v := 1) hx hb dX10_canKeep_273 (by decide) ?_
    obtain ⟨e_1, e_2⟩ := so_2 (Option.some.inj hf)
    subst e_1
    subst e_2
    exact K H locs ls _ rfl hC dX10_canKeep_274
  have XR_11 := hR_11
  have L_11 : ∀ (n_11 : Nat) (x4_11 : Int32) (x5_11 : Int32) (rest_11 : Nat → Int32), m_canKeep_L11 x1 x2 x3 askings asked n_11 x4_11 x5_11 rest_11 = some rho_11 → ∀ (H : Heap) (locs : List Loc) (ls : Array Slot), HC D gcl (gty d) A (mw d ad w isKept people room work price askings asked hangs hung tenths sortWorth sortDays sorts text texted trace at_ fault readPeople readPerson readAskings readAsked readHangs readHung rest_11 brings later) s H locs → lv_has ls 10 [(0, .ref (ad 0)), (1, .int x1), (2, .int x2), (3, .int x3), (4, .int x4_11), (5, .int x5_11)] → W p l e R s m args below meth c H locs cells slots Q (F0 m 11 ls []) := by
    intro n_11
    induction n_11 with
    | zero => intro _ _ _ hf; cases hf
    | succ n_11 ih =>
      intro x4_11 x5_11 rest_11 hf H locs ls hC hl
      rw [m_canKeep_L11_s] at hf
      refine lv_iload hx hb dX10_canKeep_11 (lv_at hl 5 rfl) ?_
      refine lv_bipush (v := 10) hx hb dX10_canKeep_13 (by decide) ?_
      refine lv_icmp_ge (tgt := 273) hx hb dX10_canKeep_15 (by decide) (fun c_15 => ?_) (fun c_15 => ?_)
      · have hf := if_t hf c_15
        exact X_11 _ (Option.some.inj hf).symm H locs ls hC (lv_sub hl [] rfl)
      · have hf := if_f hf c_15
        refine lv_iconst (v := 0) hx hb dX10_canKeep_18 (by decide) ?_
        refine lv_istore (lv' := [(6, .int 0), (0, .ref (ad 0)), (1, .int x1), (2, .int x2), (3, .int x3), (4, .int x4_11), (5, .int x5_11)]) hx hb dX10_canKeep_19 hl (by decide) rfl (fun ls hl => ?_)
        obtain ⟨x4_88, rest_88, hL, hf⟩ := bnd2_some hf
        have X_21 : ∀ (H : Heap) (locs : List Loc) (ls : Array Slot), HC D gcl (gty d) A (mw d ad w isKept people room work price askings asked hangs hung tenths sortWorth sortDays sorts text texted trace at_ fault readPeople readPerson readAskings readAsked readHangs readHung rest_88 brings later) s H locs → lv_has ls 10 [(0, .ref (ad 0)), (1, .int x1), (2, .int x2), (3, .int x3), (4, .int x4_88), (5, .int x5_11)] → W p l e R s m args below meth c H locs cells slots Q (F0 m 88 ls []) := by
          intro H locs ls hC hl
          refine lv_iload hx hb dX10_canKeep_88 (lv_at hl 4 rfl) ?_
          obtain ⟨r_90, hcall, hf⟩ := bnd_some hf
          refine hc_i (va_runS (As := [.int x4_88]) (rest := []) ⟨hx, hb, hml, hown, hts⟩ (c_m_ones hcall) (va_cwS 1 hts (lw_S q1039 q1040 q59 q1041) rfl rfl rfl (by decide +kernel) ⟨(Nat.le_trans (Nat.le_of_ble_eq_true rfl) hRf), (Nat.le_trans (Nat.le_of_ble_eq_true rfl) hRl)⟩) (pre_S (fun _ _ _ _ h => h) (fun _ _ _ => trivial) hC) rfl rfl hl.1 rfl (lv_room (Nat.le_of_ble_eq_true rfl)) dX10_canKeep_90 ⟨hRc, hRs⟩) hA hC (fun H locs hC => ?_)
          refine lv_iload_n hx hb dX10_canKeep_93 rfl (lv_at hl 2 rfl) ?_
          refine lv_icmp_le (tgt := 99) hx hb dX10_canKeep_94 (by decide) (fun c_94 => ?_) (fun c_94 => ?_)
          · have hf := if_t hf c_94
            refine lv_iload_n hx hb dX10_canKeep_99 rfl (lv_at hl 3 rfl) ?_
            refine lv_istore (lv' := [(6, .int x3), (0, .ref (ad 0)), (1, .int x1), (2, .int x2), (3, .int x3), (4, .int x4_88), (5, .int x5_11)]) hx hb dX10_canKeep_100 hl (by decide) rfl (fun ls hl => ?_)
            refine lv_iload hx hb dX10_canKeep_102 (lv_at hl 6 rfl) ?_
            refine lv_istore (lv' := [(7, .int x5_11), (6, .int x3), (0, .ref (ad 0)), (1, .int x1), (2, .int x2), (3, .int x3), (4, .int x4_88), (5, .int x5_11)]) hx hb dX10_canKeep_104 hl (by decide) rfl (fun ls hl => ?_)
            obtain ⟨x4_221, rest_221, hL, hf⟩ := bnd2_some hf
            have X_106 : ∀ (H : Heap) (locs : List Loc) (ls : Array Slot), HC D gcl (gty d) A (mw d ad w isKept people room work price askings asked hangs hung tenths sortWorth sortDays sorts text texted trace at_ fault readPeople readPerson readAskings readAsked readHangs readHung rest_221 brings later) s H locs → lv_has ls 10 [(0, .ref (ad 0)), (1, .int x1), (2, .int x2), (3, .int x3), (4, .int x4_221), (5, .int x5_11)] → W p l e R s m args below meth c H locs cells slots Q (F0 m 221 ls []) := by
              intro H locs ls hC hl
              refine lv_iconst (v := 0) hx hb dX10_canKeep_221 (by decide) ?_
              refine lv_istore (lv' := [(7, .int 0), (0, .ref (ad 0)), (1, .int x1), (2, .int x2), (3, .int x3), (4, .int x4_221), (5, .int x5_11)]) hx hb dX10_canKeep_222 hl (by decide) rfl (fun ls hl => ?_)
              obtain ⟨rho_224, hL, hR_224, hO⟩ := bndR_some hf
              have X_224 : ∀ u_224, rho_224 = .inr u_224 → ∀ (H : Heap) (locs : List Loc) (ls : Array Slot), HC D gcl (gty d) A (mw d ad w isKept people room work price askings asked hangs hung tenths sortWorth sortDays sorts text texted trace at_ fault readPeople readPerson readAskings readAsked readHangs readHung rest_221 brings later) s H locs → lv_has ls 10 [(0, .ref (ad 0)), (1, .int x1), (2, .int x2), (3, .int x3), (4, .int x4_221), (5, .int x5_11)] → W p l e R s m args below meth c H locs cells slots Q (F0 m 267 ls []) := by
                intro u_224 er H locs ls hC hl
                have hf := hO _ er
                refine lv_iinc (v := x5_11 + 1) (lv' := [(5, .int (x5_11 + 1)), (0, .ref (ad 0)), (1, .int x1), (2, .int x2), (3, .int x3), (4, .int x4_221)]) hx hb dX10_canKeep_267 hl (k := 5) rfl rfl (by decide) rfl (fun ls hl => ?_)
                refine lv_goto (tgt := 11) hx hb dX10_canKeep_270 (by decide) ?_
                exact ih _ _ _ hf H locs ls hC (lv_sub hl [1, 2, 3, 4, 5, 0] rfl)
              have XR_224 := fun r9 er => XR_11 r9 (hR_224 r9 er)
              have L_224 : ∀ (n_224 : Nat) (x7_224 : Int32), m_canKeep_L224 x4_221 x5_11 askings asked rest_221 n_224 x7_224 = some rho_224 → ∀ (H : Heap) (locs : List Loc) (ls : Array Slot), HC D gcl (gty d) A (mw d ad w isKept people room work price askings asked hangs hung tenths sortWorth sortDays sorts text texted trace at_ fault readPeople readPerson readAskings readAsked readHangs readHung rest_221 brings later) s H locs → lv_has ls 10 [(0, .ref (ad 0)), (1, .int x1), (2, .int x2), (3, .int x3), (4, .int x4_221), (5, .int x5_11), (7, .int x7_224)] → W p l e R s m args below meth c H locs cells slots Q (F0 m 224 ls []) := by
                intro n_224
                induction n_224 with
                | zero => intro _ hf; cases hf
                | succ n_224 ih =>
                  intro x7_224 hf H locs ls hC hl
                  rw [m_canKeep_L224_s] at hf
                  refine lv_iload hx hb dX10_canKeep_224 (lv_at hl 6 rfl) ?_
                  refine lv_aload_n hx hb dX10_canKeep_226 rfl (lv_at hl 0 rfl) ?_
                  refine va_get (ci := 10) (v := .int askings) (C := RX10) (T := TX10) (N := 28) hx hb hts in_X10 hown hC.1 hC.2.1 0 rfl rfl 6 (by decide) (hts _ q812) (fun _ h9 => h9) rfl dX10_canKeep_227 ?_
                  refine lv_icmp_ge (tgt := 267) hx hb dX10_canKeep_230 (by decide) (fun c_230 => ?_) (fun c_230 => ?_)
                  · have hf := if_t hf c_230
                    exact X_224 _ (Option.some.inj hf).symm H locs ls hC (lv_sub hl [0, 1, 2, 3, 4, 5] rfl)
                  · have hf := if_f hf c_230
                    refine lv_iload hx hb dX10_canKeep_233 (lv_at hl 4 rfl) ?_
                    refine lv_iload hx hb dX10_canKeep_235 (lv_at hl 6 rfl) ?_
                    obtain ⟨r_237, hcall, hf⟩ := bnd_some hf
                    refine hc_i (va_runS (As := [.int x4_221, .int x7_224]) (rest := []) ⟨hx, hb, hml, hown, hts⟩ (c_m_has hcall) (va_cwS 2 hts (lw_S q1032 q1033 q59 q1034) rfl rfl rfl (by decide +kernel) ⟨(Nat.le_trans (Nat.le_of_ble_eq_true rfl) hRf), (Nat.le_trans (Nat.le_of_ble_eq_true rfl) hRl)⟩) (pre_S (fun _ _ _ _ h => h) (fun _ _ _ => trivial) hC) rfl rfl hl.1 rfl (lv_room (Nat.le_of_ble_eq_true rfl)) dX10_canKeep_237 ⟨hRc, hRs⟩) hA hC (fun H locs hC => ?_)
                    refine lv_if_eq (tgt := 261) hx hb dX10_canKeep_240 (by decide) (fun c_240 => ?_) (fun c_240 => ?_)
                    · have hf := if_t hf c_240
                      refine lv_iinc (v := x7_224 + 1) (lv' := [(7, .int (x7_224 + 1)), (0, .ref (ad 0)), (1, .int x1), (2, .int x2), (3, .int x3), (4, .int x4_221), (5, .int x5_11)]) hx hb dX10_canKeep_261 hl (k := 6) rfl rfl (by decide) rfl (fun ls hl => ?_)
                      refine lv_goto (tgt := 224) hx hb dX10_canKeep_264 (by decide) ?_
                      exact ih _ hf H locs ls hC (lv_sub hl [1, 2, 3, 4, 5, 6, 0] rfl)
                    · have hf := if_f hf c_240
                      refine lv_aload_n hx hb dX10_canKeep_243 rfl (lv_at hl 0 rfl) ?_
                      refine va_get (ci := 10) (v := .ref (ad 6)) (C := RX10) (T := TX10) (N := 28) hx hb hts in_X10 hown hC.1 hC.2.1 0 rfl rfl 7 (by decide) (hts _ q813) (fun _ h9 => h9) rfl dX10_canKeep_244 ?_
                      refine lv_iconst (v := 5) hx hb dX10_canKeep_247 (by decide) ?_
                      refine lv_iload hx hb dX10_canKeep_248 (lv_at hl 6 rfl) ?_
                      refine lv_imul hx hb dX10_canKeep_250 ?_
                      refine lv_iconst (v := 4) hx hb dX10_canKeep_251 (by decide) ?_
                      refine lv_iadd hx hb dX10_canKeep_252 ?_
                      obtain ⟨hi_253, hf⟩ := ck_some hf
                      refine va_iald hx hb hC.1 hC.2.1 6 0 rfl rfl hi_253 dX10_canKeep_253 ?_
                      refine lv_iload hx hb dX10_canKeep_254 (lv_at hl 5 rfl) ?_
                      refine lv_icmp_ne (tgt := 261) hx hb dX10_canKeep_256 (by decide) (fun c_256 => ?_) (fun c_256 => ?_)
                      · have hf := if_f hf c_256
                        refine lv_iinc (v := x7_224 + 1) (lv' := [(7, .int (x7_224 + 1)), (0, .ref (ad 0)), (1, .int x1), (2, .int x2), (3, .int x3), (4, .int x4_221), (5, .int x5_11)]) hx hb dX10_canKeep_261 hl (k := 6) rfl rfl (by decide) rfl (fun ls hl => ?_)
                        refine lv_goto (tgt := 224) hx hb dX10_canKeep_264 (by decide) ?_
                        exact ih _ hf H locs ls hC (lv_sub hl [1, 2, 3, 4, 5, 6, 0] rfl)
                      · have hf := if_t hf c_256
                        refine lv_iconst (v := 0) hx hb dX10_canKeep_259 (by decide) ?_
                        have hf := XR_224 _ (Option.some.inj hf).symm
                        obtain ⟨e_1, e_2⟩ := so_2 hf
                        subst e_1
                        subst e_2
                        exact K H locs ls _ rfl hC dX10_canKeep_260
              exact L_224 _ _ hL H locs ls hC (lv_sub hl [1, 2, 3, 4, 5, 6, 0] rfl)
            have L_106 : ∀ (n_106 : Nat) (x4_106 : Int32) (x6_106 : Int32) (x7_106 : Int32) (rest_106 : Nat → Int32), m_canKeep_L106 askings asked n_106 x4_106 x6_106 x7_106 rest_106 = some (x4_221, rest_221) → ∀ (H : Heap) (locs : List Loc) (ls : Array Slot), HC D gcl (gty d) A (mw d ad w isKept people room work price askings asked hangs hung tenths sortWorth sortDays sorts text texted trace at_ fault readPeople readPerson readAskings readAsked readHangs readHung rest_106 brings later) s H locs → lv_has ls 10 [(0, .ref (ad 0)), (1, .int x1), (2, .int x2), (3, .int x3), (4, .int x4_106), (5, .int x5_11), (6, .int x6_106), (7, .int x7_106)] → W p l e R s m args below meth c H locs cells slots Q (F0 m 106 ls []) := by
              intro n_106
              induction n_106 with
              | zero => intro _ _ _ _ hf; cases hf
              | succ n_106 ih =>
                intro x4_106 x6_106 x7_106 rest_106 hf H locs ls hC hl
                rw [m_canKeep_L106_s] at hf
                refine lv_iload hx hb dX10_canKeep_106 (lv_at hl 7 rfl) ?_
                refine lv_bipush (v := 10) hx hb dX10_canKeep_108 (by decide) ?_
                refine lv_icmp_ge (tgt := 221) hx hb dX10_canKeep_110 (by decide) (fun c_110 => ?_) (fun c_110 => ?_)
                · have hf := if_t hf c_110
                  obtain ⟨e_1, e_2⟩ := so_2 (Option.some.inj hf)
                  subst e_1
                  subst e_2
                  exact X_106 H locs ls hC (lv_sub hl [0, 1, 2, 3, 4, 5] rfl)
                · have hf := if_f hf c_110
                  refine lv_iconst (v := 0) hx hb dX10_canKeep_113 (by decide) ?_
                  refine lv_istore (lv' := [(8, .int 0), (0, .ref (ad 0)), (1, .int x1), (2, .int x2), (3, .int x3), (4, .int x4_106), (5, .int x5_11), (6, .int x6_106), (7, .int x7_106)]) hx hb dX10_canKeep_114 hl (by decide) rfl (fun ls hl => ?_)
                  obtain ⟨x4_215, x6_215, rest_215, hL, hf⟩ := bnd3_some hf
                  have X_116 : ∀ (H : Heap) (locs : List Loc) (ls : Array Slot), HC D gcl (gty d) A (mw d ad w isKept people room work price askings asked hangs hung tenths sortWorth sortDays sorts text texted trace at_ fault readPeople readPerson readAskings readAsked readHangs readHung rest_215 brings later) s H locs → lv_has ls 10 [(0, .ref (ad 0)), (1, .int x1), (2, .int x2), (3, .int x3), (4, .int x4_215), (5, .int x5_11), (6, .int x6_215), (7, .int x7_106)] → W p l e R s m args below meth c H locs cells slots Q (F0 m 215 ls []) := by
                    intro H locs ls hC hl
                    refine lv_iinc (v := x7_106 + 1) (lv' := [(7, .int (x7_106 + 1)), (0, .ref (ad 0)), (1, .int x1), (2, .int x2), (3, .int x3), (4, .int x4_215), (5, .int x5_11), (6, .int x6_215)]) hx hb dX10_canKeep_215 hl (k := 7) rfl rfl (by decide) rfl (fun ls hl => ?_)
                    refine lv_goto (tgt := 106) hx hb dX10_canKeep_218 (by decide) ?_
                    exact ih _ _ _ _ hf H locs ls hC (lv_sub hl [1, 2, 3, 4, 5, 6, 7, 0] rfl)
                  have L_116 : ∀ (n_116 : Nat) (x4_116 : Int32) (x6_116 : Int32) (x8_116 : Int32) (rest_116 : Nat → Int32), m_canKeep_L116 x7_106 askings asked n_116 x4_116 x6_116 x8_116 rest_116 = some (x4_215, x6_215, rest_215) → ∀ (H : Heap) (locs : List Loc) (ls : Array Slot), HC D gcl (gty d) A (mw d ad w isKept people room work price askings asked hangs hung tenths sortWorth sortDays sorts text texted trace at_ fault readPeople readPerson readAskings readAsked readHangs readHung rest_116 brings later) s H locs → lv_has ls 10 [(0, .ref (ad 0)), (1, .int x1), (2, .int x2), (3, .int x3), (4, .int x4_116), (5, .int x5_11), (6, .int x6_116), (7, .int x7_106), (8, .int x8_116)] → W p l e R s m args below meth c H locs cells slots Q (F0 m 116 ls []) := by
                    intro n_116
                    induction n_116 with
                    | zero => intro _ _ _ _ hf; cases hf
                    | succ n_116 ih =>
                      intro x4_116 x6_116 x8_116 rest_116 hf H locs ls hC hl
                      rw [m_canKeep_L116_s] at hf
                      refine lv_iload hx hb dX10_canKeep_116 (lv_at hl 8 rfl) ?_
                      refine lv_aload_n hx hb dX10_canKeep_118 rfl (lv_at hl 0 rfl) ?_
                      refine va_get (ci := 10) (v := .int askings) (C := RX10) (T := TX10) (N := 28) hx hb hts in_X10 hown hC.1 hC.2.1 0 rfl rfl 6 (by decide) (hts _ q812) (fun _ h9 => h9) rfl dX10_canKeep_119 ?_
                      refine lv_icmp_ge (tgt := 215) hx hb dX10_canKeep_122 (by decide) (fun c_122 => ?_) (fun c_122 => ?_)
                      · have hf := if_t hf c_122
                        obtain ⟨e_1, e_2, e_3⟩ := so_3 (Option.some.inj hf)
                        subst e_1
                        subst e_2
                        subst e_3
                        exact X_116 H locs ls hC (lv_sub hl [0, 1, 2, 3, 4, 5, 6, 7] rfl)
                      · have hf := if_f hf c_122
                        refine lv_iload hx hb dX10_canKeep_125 (lv_at hl 4 rfl) ?_
                        refine lv_iload hx hb dX10_canKeep_127 (lv_at hl 8 rfl) ?_
                        obtain ⟨r_129, hcall, hf⟩ := bnd_some hf
                        refine hc_i (va_runS (As := [.int x4_116, .int x8_116]) (rest := []) ⟨hx, hb, hml, hown, hts⟩ (c_m_has hcall) (va_cwS 2 hts (lw_S q1032 q1033 q59 q1034) rfl rfl rfl (by decide +kernel) ⟨(Nat.le_trans (Nat.le_of_ble_eq_true rfl) hRf), (Nat.le_trans (Nat.le_of_ble_eq_true rfl) hRl)⟩) (pre_S (fun _ _ _ _ h => h) (fun _ _ _ => trivial) hC) rfl rfl hl.1 rfl (lv_room (Nat.le_of_ble_eq_true rfl)) dX10_canKeep_129 ⟨hRc, hRs⟩) hA hC (fun H locs hC => ?_)
                        refine lv_if_eq (tgt := 209) hx hb dX10_canKeep_132 (by decide) (fun c_132 => ?_) (fun c_132 => ?_)
                        · have hf := if_t hf c_132
                          refine lv_iinc (v := x8_116 + 1) (lv' := [(8, .int (x8_116 + 1)), (0, .ref (ad 0)), (1, .int x1), (2, .int x2), (3, .int x3), (4, .int x4_116), (5, .int x5_11), (6, .int x6_116), (7, .int x7_106)]) hx hb dX10_canKeep_209 hl (k := 8) rfl rfl (by decide) rfl (fun ls hl => ?_)
                          refine lv_goto (tgt := 116) hx hb dX10_canKeep_212 (by decide) ?_
                          exact ih _ _ _ _ hf H locs ls hC (lv_sub hl [1, 2, 3, 4, 5, 6, 7, 8, 0] rfl)
                        · have hf := if_f hf c_132
                          refine lv_aload_n hx hb dX10_canKeep_135 rfl (lv_at hl 0 rfl) ?_
                          refine va_get (ci := 10) (v := .ref (ad 6)) (C := RX10) (T := TX10) (N := 28) hx hb hts in_X10 hown hC.1 hC.2.1 0 rfl rfl 7 (by decide) (hts _ q813) (fun _ h9 => h9) rfl dX10_canKeep_136 ?_
                          refine lv_iconst (v := 5) hx hb dX10_canKeep_139 (by decide) ?_
                          refine lv_iload hx hb dX10_canKeep_140 (lv_at hl 8 rfl) ?_
                          refine lv_imul hx hb dX10_canKeep_142 ?_
                          refine lv_iconst (v := 4) hx hb dX10_canKeep_143 (by decide) ?_
                          refine lv_iadd hx hb dX10_canKeep_144 ?_
                          obtain ⟨hi_145, hf⟩ := ck_some hf
                          refine va_iald hx hb hC.1 hC.2.1 6 0 rfl rfl hi_145 dX10_canKeep_145 ?_
                          refine lv_iload hx hb dX10_canKeep_146 (lv_at hl 7 rfl) ?_
                          refine lv_icmp_ne (tgt := 209) hx hb dX10_canKeep_148 (by decide) (fun c_148 => ?_) (fun c_148 => ?_)
                          · have hf := if_f hf c_148
                            refine lv_iinc (v := x8_116 + 1) (lv' := [(8, .int (x8_116 + 1)), (0, .ref (ad 0)), (1, .int x1), (2, .int x2), (3, .int x3), (4, .int x4_116), (5, .int x5_11), (6, .int x6_116), (7, .int x7_106)]) hx hb dX10_canKeep_209 hl (k := 8) rfl rfl (by decide) rfl (fun ls hl => ?_)
                            refine lv_goto (tgt := 116) hx hb dX10_canKeep_212 (by decide) ?_
                            exact ih _ _ _ _ hf H locs ls hC (lv_sub hl [1, 2, 3, 4, 5, 6, 7, 8, 0] rfl)
                          · have hf := if_t hf c_148
                            refine lv_iload hx hb dX10_canKeep_151 (lv_at hl 6 rfl) ?_
                            refine lv_aload_n hx hb dX10_canKeep_153 rfl (lv_at hl 0 rfl) ?_
                            refine va_get (ci := 10) (v := .ref (ad 15)) (C := RX10) (T := TX10) (N := 28) hx hb hts in_X10 hown hC.1 hC.2.1 0 rfl rfl 25 (by decide) (hts _ q831) (fun _ h9 => h9) rfl dX10_canKeep_154 ?_
                            refine lv_iload hx hb dX10_canKeep_157 (lv_at hl 8 rfl) ?_
                            obtain ⟨hi_159, hf⟩ := ck_some hf
                            refine va_iald hx hb hC.1 hC.2.1 15 0 rfl rfl hi_159 dX10_canKeep_159 ?_
                            obtain ⟨r_160, hcall, hf⟩ := bnd_some hf
                            refine hc_i (va_runS (As := [.int x6_116, .int (rest_116 x8_116.toNatClampNeg)]) (rest := []) ⟨hx, hb, hml, hown, hts⟩ (c_m_lesser hcall) (va_cwS 2 hts (lw_S q933 q934 q59 q935) rfl rfl rfl (by decide +kernel) ⟨(Nat.le_trans (Nat.le_of_ble_eq_true rfl) hRf), (Nat.le_trans (Nat.le_of_ble_eq_true rfl) hRl)⟩) (pre_S (fun _ _ _ _ h => h) (fun _ _ _ => trivial) hC) rfl rfl hl.1 rfl (lv_room (Nat.le_of_ble_eq_true rfl)) dX10_canKeep_160 ⟨hRc, hRs⟩) hA hC (fun H locs hC => ?_)
                            refine lv_istore (lv' := [(9, .int r_160), (0, .ref (ad 0)), (1, .int x1), (2, .int x2), (3, .int x3), (4, .int x4_116), (5, .int x5_11), (6, .int x6_116), (7, .int x7_106), (8, .int x8_116)]) hx hb dX10_canKeep_163 hl (by decide) rfl (fun ls hl => ?_)
                            refine lv_aload_n hx hb dX10_canKeep_165 rfl (lv_at hl 1 rfl) ?_
                            refine va_get (ci := 10) (v := .ref (ad 15)) (C := RX10) (T := TX10) (N := 28) hx hb hts in_X10 hown hC.1 hC.2.1 0 rfl rfl 25 (by decide) (hts _ q831) (fun _ h9 => h9) rfl dX10_canKeep_166 ?_
                            refine lv_iload hx hb dX10_canKeep_169 (lv_at hl 9 rfl) ?_
                            refine lv_dup2_11 hx hb dX10_canKeep_171 rfl rfl ?_
                            obtain ⟨hi_172, hf⟩ := ck_some hf
                            refine va_iald hx hb hC.1 hC.2.1 15 0 rfl rfl hi_172 dX10_canKeep_172 ?_
                            refine lv_iload hx hb dX10_canKeep_173 (lv_at hl 0 rfl) ?_
                            refine lv_isub hx hb dX10_canKeep_175 ?_
                            obtain ⟨hi_176, hf⟩ := ck_some hf
                            refine va_iast hx hb hC.1 hC.2.1 hC.2.2.1 hC.2.2.2 15 0 rfl rfl hi_176 dX10_canKeep_176 (fun H locs hP hD hS => ?_)
                            have hC : HC D gcl (gty d) A (mw d ad w isKept people room work price askings asked hangs hung tenths sortWorth sortDays sorts text texted trace at_ fault readPeople readPerson readAskings readAsked readHangs readHung (upd rest_116 x8_116.toNatClampNeg ((rest_116 x8_116.toNatClampNeg) - r_160)) brings later) s H locs := ⟨hC.1, hP, hD, hS⟩
                            refine lv_iload hx hb dX10_canKeep_177 (lv_at hl 7 rfl) ?_
                            refine lv_iload hx hb dX10_canKeep_179 (lv_at hl 0 rfl) ?_
                            refine lv_isub hx hb dX10_canKeep_181 ?_
                            refine lv_istore (lv' := [(6, .int (x6_116 - r_160)), (9, .int r_160), (0, .ref (ad 0)), (1, .int x1), (2, .int x2), (3, .int x3), (4, .int x4_116), (5, .int x5_11), (7, .int x7_106), (8, .int x8_116)]) hx hb dX10_canKeep_182 hl (by decide) rfl (fun ls hl => ?_)
                            refine lv_iload hx hb dX10_canKeep_184 (lv_at hl 6 rfl) ?_
                            refine lv_aload_n hx hb dX10_canKeep_186 rfl (lv_at hl 2 rfl) ?_
                            refine va_get (ci := 10) (v := .ref (ad 15)) (C := RX10) (T := TX10) (N := 28) hx hb hts in_X10 hown hC.1 hC.2.1 0 rfl rfl 25 (by decide) (hts _ q831) (fun _ h9 => h9) rfl dX10_canKeep_187 ?_
                            refine lv_iload hx hb dX10_canKeep_190 (lv_at hl 9 rfl) ?_
                            obtain ⟨hi_192, hf⟩ := ck_some hf
                            refine va_iald hx hb hC.1 hC.2.1 15 0 rfl rfl hi_192 dX10_canKeep_192 ?_
                            refine lv_if_ne (tgt := 205) hx hb dX10_canKeep_193 (by decide) (fun c_193 => ?_) (fun c_193 => ?_)
                            · have hf := if_f hf c_193
                              refine lv_iconst (v := (-1)) hx hb dX10_canKeep_205 (by decide) ?_
                              refine lv_iand hx hb dX10_canKeep_206 ?_
                              refine lv_istore (lv' := [(4, .int (x4_116 &&& (-1))), (6, .int (x6_116 - r_160)), (9, .int r_160), (0, .ref (ad 0)), (1, .int x1), (2, .int x2), (3, .int x3), (5, .int x5_11), (7, .int x7_106), (8, .int x8_116)]) hx hb dX10_canKeep_207 hl (by decide) rfl (fun ls hl => ?_)
                              refine lv_iinc (v := x8_116 + 1) (lv' := [(8, .int (x8_116 + 1)), (4, .int (x4_116 &&& (-1))), (6, .int (x6_116 - r_160)), (9, .int r_160), (0, .ref (ad 0)), (1, .int x1), (2, .int x2), (3, .int x3), (5, .int x5_11), (7, .int x7_106)]) hx hb dX10_canKeep_209 hl (k := 9) rfl rfl (by decide) rfl (fun ls hl => ?_)
                              refine lv_goto (tgt := 116) hx hb dX10_canKeep_212 (by decide) ?_
                              exact ih _ _ _ _ hf H locs ls hC (lv_sub hl [4, 5, 6, 7, 1, 8, 2, 9, 0] rfl)
                            · have hf := if_t hf c_193
                              refine lv_iconst (v := 1) hx hb dX10_canKeep_196 (by decide) ?_
                              refine lv_iload hx hb dX10_canKeep_197 (lv_at hl 9 rfl) ?_
                              refine lv_ishl hx hb dX10_canKeep_199 ?_
                              refine lv_iconst (v := (-1)) hx hb dX10_canKeep_200 (by decide) ?_
                              refine lv_ixor hx hb dX10_canKeep_201 ?_
                              refine lv_goto (tgt := 206) hx hb dX10_canKeep_202 (by decide) ?_
                              refine lv_iand hx hb dX10_canKeep_206 ?_
                              refine lv_istore (lv' := [(4, .int (x4_116 &&& ((1 <<< (x8_116 &&& 31)) ^^^ (-1)))), (6, .int (x6_116 - r_160)), (9, .int r_160), (0, .ref (ad 0)), (1, .int x1), (2, .int x2), (3, .int x3), (5, .int x5_11), (7, .int x7_106), (8, .int x8_116)]) hx hb dX10_canKeep_207 hl (by decide) rfl (fun ls hl => ?_)
                              refine lv_iinc (v := x8_116 + 1) (lv' := [(8, .int (x8_116 + 1)), (4, .int (x4_116 &&& ((1 <<< (x8_116 &&& 31)) ^^^ (-1)))), (6, .int (x6_116 - r_160)), (9, .int r_160), (0, .ref (ad 0)), (1, .int x1), (2, .int x2), (3, .int x3), (5, .int x5_11), (7, .int x7_106)]) hx hb dX10_canKeep_209 hl (k := 9) rfl rfl (by decide) rfl (fun ls hl => ?_)
                              refine lv_goto (tgt := 116) hx hb dX10_canKeep_212 (by decide) ?_
                              exact ih _ _ _ _ hf H locs ls hC (lv_sub hl [4, 5, 6, 7, 1, 8, 2, 9, 0] rfl)
                  exact L_116 _ _ _ _ _ hL H locs ls hC (lv_sub hl [1, 2, 3, 4, 5, 6, 7, 8, 0] rfl)
            exact L_106 _ _ _ _ _ hL H locs ls hC (lv_sub hl [2, 3, 4, 5, 6, 7, 1, 0] rfl)
          · have hf := if_f hf c_94
            refine lv_iconst (v := 0) hx hb dX10_canKeep_97 (by decide) ?_
            have hf := XR_11 _ (Option.some.inj hf).symm
            obtain ⟨e_1, e_2⟩ := so_2 hf
            subst e_1
            subst e_2
            exact K H locs ls _ rfl hC dX10_canKeep_98
        have L_21 : ∀ (n_21 : Nat) (x4_21 : Int32) (x6_21 : Int32) (rest_21 : Nat → Int32), m_canKeep_L21 x1 x5_11 askings asked n_21 x4_21 x6_21 rest_21 = some (x4_88, rest_88) → ∀ (H : Heap) (locs : List Loc) (ls : Array Slot), HC D gcl (gty d) A (mw d ad w isKept people room work price askings asked hangs hung tenths sortWorth sortDays sorts text texted trace at_ fault readPeople readPerson readAskings readAsked readHangs readHung rest_21 brings later) s H locs → lv_has ls 10 [(0, .ref (ad 0)), (1, .int x1), (2, .int x2), (3, .int x3), (4, .int x4_21), (5, .int x5_11), (6, .int x6_21)] → W p l e R s m args below meth c H locs cells slots Q (F0 m 21 ls []) := by
          intro n_21
          induction n_21 with
          | zero => intro _ _ _ hf; cases hf
          | succ n_21 ih =>
            intro x4_21 x6_21 rest_21 hf H locs ls hC hl
            rw [m_canKeep_L21_s] at hf
            refine lv_iload hx hb dX10_canKeep_21 (lv_at hl 6 rfl) ?_
            refine lv_aload_n hx hb dX10_canKeep_23 rfl (lv_at hl 0 rfl) ?_
            refine va_get (ci := 10) (v := .int askings) (C := RX10) (T := TX10) (N := 28) hx hb hts in_X10 hown hC.1 hC.2.1 0 rfl rfl 6 (by decide) (hts _ q812) (fun _ h9 => h9) rfl dX10_canKeep_24 ?_
            refine lv_icmp_ge (tgt := 88) hx hb dX10_canKeep_27 (by decide) (fun c_27 => ?_) (fun c_27 => ?_)
            · have hf := if_t hf c_27
              obtain ⟨e_1, e_2⟩ := so_2 (Option.some.inj hf)
              subst e_1
              subst e_2
              exact X_21 H locs ls hC (lv_sub hl [0, 1, 2, 3, 4, 5] rfl)
            · have hf := if_f hf c_27
              refine lv_iload_n hx hb dX10_canKeep_30 rfl (lv_at hl 1 rfl) ?_
              refine lv_iload hx hb dX10_canKeep_31 (lv_at hl 6 rfl) ?_
              obtain ⟨r_33, hcall, hf⟩ := bnd_some hf
              refine hc_i (va_runS (As := [.int x1, .int x6_21]) (rest := []) ⟨hx, hb, hml, hown, hts⟩ (c_m_has hcall) (va_cwS 2 hts (lw_S q1032 q1033 q59 q1034) rfl rfl rfl (by decide +kernel) ⟨(Nat.le_trans (Nat.le_of_ble_eq_true rfl) hRf), (Nat.le_trans (Nat.le_of_ble_eq_true rfl) hRl)⟩) (pre_S (fun _ _ _ _ h => h) (fun _ _ _ => trivial) hC) rfl rfl hl.1 rfl (lv_room (Nat.le_of_ble_eq_true rfl)) dX10_canKeep_33 ⟨hRc, hRs⟩) hA hC (fun H locs hC => ?_)
              refine lv_if_eq (tgt := 82) hx hb dX10_canKeep_36 (by decide) (fun c_36 => ?_) (fun c_36 => ?_)
              · have hf := if_t hf c_36
                refine lv_iinc (v := x6_21 + 1) (lv' := [(6, .int (x6_21 + 1)), (0, .ref (ad 0)), (1, .int x1), (2, .int x2), (3, .int x3), (4, .int x4_21), (5, .int x5_11)]) hx hb dX10_canKeep_82 hl (k := 6) rfl rfl (by decide) rfl (fun ls hl => ?_)
                refine lv_goto (tgt := 21) hx hb dX10_canKeep_85 (by decide) ?_
                exact ih _ _ _ hf H locs ls hC (lv_sub hl [1, 2, 3, 4, 5, 6, 0] rfl)
              · have hf := if_f hf c_36
                refine lv_aload_n hx hb dX10_canKeep_39 rfl (lv_at hl 0 rfl) ?_
                refine va_get (ci := 10) (v := .ref (ad 6)) (C := RX10) (T := TX10) (N := 28) hx hb hts in_X10 hown hC.1 hC.2.1 0 rfl rfl 7 (by decide) (hts _ q813) (fun _ h9 => h9) rfl dX10_canKeep_40 ?_
                refine lv_iconst (v := 5) hx hb dX10_canKeep_43 (by decide) ?_
                refine lv_iload hx hb dX10_canKeep_44 (lv_at hl 6 rfl) ?_
                refine lv_imul hx hb dX10_canKeep_46 ?_
                refine lv_iconst (v := 1) hx hb dX10_canKeep_47 (by decide) ?_
                refine lv_iadd hx hb dX10_canKeep_48 ?_
                obtain ⟨hi_49, hf⟩ := ck_some hf
                refine va_iald hx hb hC.1 hC.2.1 6 0 rfl rfl hi_49 dX10_canKeep_49 ?_
                refine lv_iload hx hb dX10_canKeep_50 (lv_at hl 5 rfl) ?_
                refine lv_icmp_ne (tgt := 82) hx hb dX10_canKeep_52 (by decide) (fun c_52 => ?_) (fun c_52 => ?_)
                · have hf := if_f hf c_52
                  refine lv_iinc (v := x6_21 + 1) (lv' := [(6, .int (x6_21 + 1)), (0, .ref (ad 0)), (1, .int x1), (2, .int x2), (3, .int x3), (4, .int x4_21), (5, .int x5_11)]) hx hb dX10_canKeep_82 hl (k := 6) rfl rfl (by decide) rfl (fun ls hl => ?_)
                  refine lv_goto (tgt := 21) hx hb dX10_canKeep_85 (by decide) ?_
                  exact ih _ _ _ hf H locs ls hC (lv_sub hl [1, 2, 3, 4, 5, 6, 0] rfl)
                · have hf := if_t hf c_52
                  refine lv_aload_n hx hb dX10_canKeep_55 rfl (lv_at hl 0 rfl) ?_
                  refine va_get (ci := 10) (v := .ref (ad 15)) (C := RX10) (T := TX10) (N := 28) hx hb hts in_X10 hown hC.1 hC.2.1 0 rfl rfl 25 (by decide) (hts _ q831) (fun _ h9 => h9) rfl dX10_canKeep_56 ?_
                  refine lv_iload hx hb dX10_canKeep_59 (lv_at hl 6 rfl) ?_
                  refine lv_aload_n hx hb dX10_canKeep_61 rfl (lv_at hl 0 rfl) ?_
                  refine va_get (ci := 10) (v := .ref (ad 6)) (C := RX10) (T := TX10) (N := 28) hx hb hts in_X10 hown hC.1 hC.2.1 0 rfl rfl 7 (by decide) (hts _ q813) (fun _ h9 => h9) rfl dX10_canKeep_62 ?_
                  refine lv_iconst (v := 5) hx hb dX10_canKeep_65 (by decide) ?_
                  refine lv_iload hx hb dX10_canKeep_66 (lv_at hl 6 rfl) ?_
                  refine lv_imul hx hb dX10_canKeep_68 ?_
                  refine lv_iconst (v := 2) hx hb dX10_canKeep_69 (by decide) ?_
                  refine lv_iadd hx hb dX10_canKeep_70 ?_
                  obtain ⟨hi_71, hf⟩ := ck_some hf
                  refine va_iald hx hb hC.1 hC.2.1 6 0 rfl rfl hi_71 dX10_canKeep_71 ?_
                  obtain ⟨hi_72, hf⟩ := ck_some hf
                  refine va_iast hx hb hC.1 hC.2.1 hC.2.2.1 hC.2.2.2 15 0 rfl rfl hi_72 dX10_canKeep_72 (fun H locs hP hD hS => ?_)
                  have hC : HC D gcl (gty d) A (mw d ad w isKept people room work price askings asked hangs hung tenths sortWorth sortDays sorts text texted trace at_ fault readPeople readPerson readAskings readAsked readHangs readHung (upd rest_21 x6_21.toNatClampNeg (asked ((5 * x6_21) + 2).toNatClampNeg)) brings later) s H locs := ⟨hC.1, hP, hD, hS⟩
                  refine lv_iload hx hb dX10_canKeep_73 (lv_at hl 4 rfl) ?_
                  refine lv_iconst (v := 1) hx hb dX10_canKeep_75 (by decide) ?_
                  refine lv_iload hx hb dX10_canKeep_76 (lv_at hl 6 rfl) ?_
                  refine lv_ishl hx hb dX10_canKeep_78 ?_
                  refine lv_ior hx hb dX10_canKeep_79 ?_
                  refine lv_istore (lv' := [(4, .int (x4_21 ||| (1 <<< (x6_21 &&& 31)))), (0, .ref (ad 0)), (1, .int x1), (2, .int x2), (3, .int x3), (5, .int x5_11), (6, .int x6_21)]) hx hb dX10_canKeep_80 hl (by decide) rfl (fun ls hl => ?_)
                  refine lv_iinc (v := x6_21 + 1) (lv' := [(6, .int (x6_21 + 1)), (4, .int (x4_21 ||| (1 <<< (x6_21 &&& 31)))), (0, .ref (ad 0)), (1, .int x1), (2, .int x2), (3, .int x3), (5, .int x5_11)]) hx hb dX10_canKeep_82 hl (k := 6) rfl rfl (by decide) rfl (fun ls hl => ?_)
                  refine lv_goto (tgt := 21) hx hb dX10_canKeep_85 (by decide) ?_
                  exact ih _ _ _ hf H locs ls hC (lv_sub hl [2, 3, 4, 5, 1, 6, 0] rfl)
        exact L_21 _ _ _ _ hL H locs ls hC (lv_sub hl [1, 2, 3, 4, 5, 6, 0] rfl)
  exact L_11 _ _ _ _ hL H locs ls hC (lv_sub hl [2, 3, 4, 5, 1, 0] rfl)
set_option maxRecDepth 100000 in
theorem c_m_canKeep {l : Launch} {sz : Nat} {D : va_G} {d : Nat → ClassId} {ad : Nat → Nat} {w : Nat → Int32} {isKept : Nat → Int32} {people : Int32} {room : Nat → Int32} {work : Nat → Int32} {price : Nat → Int32} {askings : Int32} {asked : Nat → Int32} {hangs : Int32} {hung : Nat → Int32} {tenths : Nat → Int32} {sortWorth : Nat → Int32} {sortDays : Nat → Int32} {sorts : Int32} {text : Nat → Int32} {texted : Int32} {trace : Int64} {at_ : Int32} {fault : Int32} {readPeople : Int32} {readPerson : Nat → Int32} {readAskings : Int32} {readAsked : Nat → Int32} {readHangs : Int32} {readHung : Nat → Int32} {rest : Nat → Int32} {brings : Nat → Int64} {later : Nat → Int64} {x1 : Int32} {x2 : Int32} {x3 : Int32} {r : Int32} {rest_r : Nat → Int32} (hf : m_canKeep w askings asked rest x1 x2 x3 = some (r, rest_r)) : MI l yX10_canKeep (ws_ yX10_canKeep cX10_canKeep 10 (some .boolean)) { frames := 1, cells := 0, slots := 0, locals := 22 } D gcl (gty d) (fun _ => True) (mw d ad w isKept people room work price askings asked hangs hung tenths sortWorth sortDays sorts text texted trace at_ fault readPeople readPerson readAskings readAsked readHangs readHung rest brings later) (mw d ad w isKept people room work price askings asked hangs hung tenths sortWorth sortDays sorts text texted trace at_ fault readPeople readPerson readAskings readAsked readHangs readHung rest_r brings later) sz [.ref (ad 0), .int x1, .int x2, .int x3] r :=
  MI.of (by decide) [.ref (ad 0), .int x1, .int x2, .int x3] [(0, .ref (ad 0)), (1, .int x1), (2, .int x2), (3, .int x3)] (Nat.le_of_ble_eq_true rfl) rfl (fun p e s m below meth c ls Q hx hb hml hown hts hN hA hC hl K => w_m_canKeep hx hb hml hown hts hA (Nat.le_refl _) (Nat.le_refl _) (Nat.le_refl _) (Nat.le_refl _) hf hC hl K)

def m_worthOf_L4 (x1 : Int32) (askings : Int32) (asked : Nat → Int32) : Nat → Int32 → Int32 → Option (Int32)
  | 0, _, _ => none
  | n_4 + 1, x2_4, x3_4 =>
  if askings ≤ x3_4 then (some x2_4) else
  bnd (m_has x1 x3_4) fun r_15 =>
  if r_15 = 0 then (m_worthOf_L4 x1 askings asked n_4 (x2_4 + 0) (x3_4 + 1) ) else
  ck ((5 * x3_4) + 3) 40 <| m_worthOf_L4 x1 askings asked n_4 (x2_4 + (asked ((5 * x3_4) + 3).toNatClampNeg)) (x3_4 + 1) 
theorem m_worthOf_L4_s (x1 : Int32) (askings : Int32) (asked : Nat → Int32) (n_4 : Nat) (x2_4 : Int32) (x3_4 : Int32) : m_worthOf_L4 x1 askings asked (n_4 + 1) x2_4 x3_4 = (
  if askings ≤ x3_4 then (some x2_4) else
  bnd (m_has x1 x3_4) fun r_15 =>
  if r_15 = 0 then (m_worthOf_L4 x1 askings asked n_4 (x2_4 + 0) (x3_4 + 1) ) else
  ck ((5 * x3_4) + 3) 40 <| m_worthOf_L4 x1 askings asked n_4 (x2_4 + (asked ((5 * x3_4) + 3).toNatClampNeg)) (x3_4 + 1) ) := rfl
def m_worthOf (askings : Int32) (asked : Nat → Int32) (x1 : Int32) : Option (Int32) :=
  bnd (m_worthOf_L4 x1 askings asked g_fuel 0 0 ) (fun x2_43 =>
  some x2_43)
set_option maxHeartbeats 4000000 in
set_option maxRecDepth 100000 in
theorem w_m_worthOf {p : Program} {l : Launch} {e : Env} {R : Room} {s : State} {m : MethodId} {args : Array Value} {below : List Frame} {meth : Method} {c : Code} {H : Heap} {locs : List Loc} {cells slots : Nat} {Q : State → Prop} {A : Nat → Prop} {ls : Array Slot} {D : va_G} {d : Nat → ClassId} {ad : Nat → Nat} {w : Nat → Int32} {isKept : Nat → Int32} {people : Int32} {room : Nat → Int32} {work : Nat → Int32} {price : Nat → Int32} {askings : Int32} {asked : Nat → Int32} {hangs : Int32} {hung : Nat → Int32} {tenths : Nat → Int32} {sortWorth : Nat → Int32} {sortDays : Nat → Int32} {sorts : Int32} {text : Nat → Int32} {texted : Int32} {trace : Int64} {at_ : Int32} {fault : Int32} {readPeople : Int32} {readPerson : Nat → Int32} {readAskings : Int32} {readAsked : Nat → Int32} {readHangs : Int32} {readHung : Nat → Int32} {rest : Nat → Int32} {brings : Nat → Int64} {later : Nat → Int64} {x1 : Int32} {r : Int32} (hx : p.tables.exec = Jvm.exec) (hb : c.code = cX10_worthOf) (hml : c.maxLocals = 4) (hown : s.vm.findClass RX10 = some m.cls) (hts : ∀ w ∈ lw_all, w.before args s = true) (hA : ∀ q, s.heap.size ≤ q → A q) (hRf : 1 ≤ R.frames) (hRl : 21 ≤ R.locals) (hRc : cells ≤ R.cells) (hRs : slots ≤ R.slots) (hf : m_worthOf askings asked x1 = some r) (hC : HC D gcl (gty d) A (mw d ad w isKept people room work price askings asked hangs hung tenths sortWorth sortDays sorts text texted trace at_ fault readPeople readPerson readAskings readAsked readHangs readHung rest brings later) s H locs) (hl : lv_has ls 4 [(0, .ref (ad 0)), (1, .int x1)]) (K : ∀ (H : Heap) (locs : List Loc) (ls : Array Slot) (pc : Nat), narrow .int (.int r) = .int r → HC D gcl (gty d) A (mw d ad w isKept people room work price askings asked hangs hung tenths sortWorth sortDays sorts text texted trace at_ fault readPeople readPerson readAskings readAsked readHangs readHung rest brings later) s H locs → decode cX10_worthOf pc = .ok (.ireturn, 1) → W p l e R s m args below meth c H locs cells slots Q (F0 m pc ls [.int r])) : W p l e R s m args below meth c H locs cells slots Q (F0 m 0 ls []) := by
  unfold m_worthOf at hf
  refine lv_iconst (v := 0) hx hb dX10_worthOf_0 (by decide) ?_
  refine lv_istore_n (lv' := [(2, .int 0), (0, .ref (ad 0)), (1, .int x1)]) hx hb dX10_worthOf_1 rfl hl (by decide) rfl (fun ls hl => ?_)
  refine lv_iconst (v := 0) hx hb dX10_worthOf_2 (by decide) ?_
  refine lv_istore_n (lv' := [(3, .int 0), (2, .int 0), (0, .ref (ad 0)), (1, .int x1)]) hx hb dX10_worthOf_3 rfl hl (by decide) rfl (fun ls hl => ?_)
  obtain ⟨x2_43, hL, hf⟩ := bnd_some hf
  have X_4 : ∀ (H : Heap) (locs : List Loc) (ls : Array Slot), HC D gcl (gty d) A (mw d ad w isKept people room work price askings asked hangs hung tenths sortWorth sortDays sorts text texted trace at_ fault readPeople readPerson readAskings readAsked readHangs readHung rest brings later) s H locs → lv_has ls 4 [(2, .int x2_43)] → W p l e R s m args below meth c H locs cells slots Q (F0 m 43 ls []) := by
    intro H locs ls hC hl
    refine lv_iload_n hx hb dX10_worthOf_43 rfl (lv_at hl 0 rfl) ?_
    have e_1 := (Option.some.inj hf)
    subst e_1
    exact K H locs ls _ rfl hC dX10_worthOf_44
  have L_4 : ∀ (n_4 : Nat) (x2_4 : Int32) (x3_4 : Int32), m_worthOf_L4 x1 askings asked n_4 x2_4 x3_4 = some x2_43 → ∀ (H : Heap) (locs : List Loc) (ls : Array Slot), HC D gcl (gty d) A (mw d ad w isKept people room work price askings asked hangs hung tenths sortWorth sortDays sorts text texted trace at_ fault readPeople readPerson readAskings readAsked readHangs readHung rest brings later) s H locs → lv_has ls 4 [(0, .ref (ad 0)), (1, .int x1), (2, .int x2_4), (3, .int x3_4)] → W p l e R s m args below meth c H locs cells slots Q (F0 m 4 ls []) := by
    intro n_4
    induction n_4 with
    | zero => intro _ _ hf; cases hf
    | succ n_4 ih =>
      intro x2_4 x3_4 hf H locs ls hC hl
      rw [m_worthOf_L4_s] at hf
      refine lv_iload_n hx hb dX10_worthOf_4 rfl (lv_at hl 3 rfl) ?_
      refine lv_aload_n hx hb dX10_worthOf_5 rfl (lv_at hl 0 rfl) ?_
      refine va_get (ci := 10) (v := .int askings) (C := RX10) (T := TX10) (N := 28) hx hb hts in_X10 hown hC.1 hC.2.1 0 rfl rfl 6 (by decide) (hts _ q812) (fun _ h9 => h9) rfl dX10_worthOf_6 ?_
      refine lv_icmp_ge (tgt := 43) hx hb dX10_worthOf_9 (by decide) (fun c_9 => ?_) (fun c_9 => ?_)
      · have hf := if_t hf c_9
        have e_1 := (Option.some.inj hf)
        subst e_1
        exact X_4 H locs ls hC (lv_sub hl [2] rfl)
      · have hf := if_f hf c_9
        refine lv_iload_n hx hb dX10_worthOf_12 rfl (lv_at hl 2 rfl) ?_
        refine lv_iload_n hx hb dX10_worthOf_13 rfl (lv_at hl 1 rfl) ?_
        refine lv_iload_n hx hb dX10_worthOf_14 rfl (lv_at hl 3 rfl) ?_
        obtain ⟨r_15, hcall, hf⟩ := bnd_some hf
        refine hc_i (va_runS (As := [.int x1, .int x3_4]) (rest := [.int x2_4]) ⟨hx, hb, hml, hown, hts⟩ (c_m_has hcall) (va_cwS 2 hts (lw_S q1032 q1033 q59 q1034) rfl rfl rfl (by decide +kernel) ⟨(Nat.le_trans (Nat.le_of_ble_eq_true rfl) hRf), (Nat.le_trans (Nat.le_of_ble_eq_true rfl) hRl)⟩) (pre_S (fun _ _ _ _ h => h) (fun _ _ _ => trivial) hC) rfl rfl hl.1 rfl (lv_room (Nat.le_of_ble_eq_true rfl)) dX10_worthOf_15 ⟨hRc, hRs⟩) hA hC (fun H locs hC => ?_)
        refine lv_if_eq (tgt := 34) hx hb dX10_worthOf_18 (by decide) (fun c_18 => ?_) (fun c_18 => ?_)
        · have hf := if_t hf c_18
          refine lv_iconst (v := 0) hx hb dX10_worthOf_34 (by decide) ?_
          refine lv_iadd hx hb dX10_worthOf_35 ?_
          refine lv_istore_n (lv' := [(2, .int (x2_4 + 0)), (0, .ref (ad 0)), (1, .int x1), (3, .int x3_4)]) hx hb dX10_worthOf_36 rfl hl (by decide) rfl (fun ls hl => ?_)
          refine lv_iinc (v := x3_4 + 1) (lv' := [(3, .int (x3_4 + 1)), (2, .int (x2_4 + 0)), (0, .ref (ad 0)), (1, .int x1)]) hx hb dX10_worthOf_37 hl (k := 3) rfl rfl (by decide) rfl (fun ls hl => ?_)
          refine lv_goto (tgt := 4) hx hb dX10_worthOf_40 (by decide) ?_
          exact ih _ _ hf H locs ls hC (lv_sub hl [2, 3, 1, 0] rfl)
        · have hf := if_f hf c_18
          refine lv_aload_n hx hb dX10_worthOf_21 rfl (lv_at hl 0 rfl) ?_
          refine va_get (ci := 10) (v := .ref (ad 6)) (C := RX10) (T := TX10) (N := 28) hx hb hts in_X10 hown hC.1 hC.2.1 0 rfl rfl 7 (by decide) (hts _ q813) (fun _ h9 => h9) rfl dX10_worthOf_22 ?_
          refine lv_iconst (v := 5) hx hb dX10_worthOf_25 (by decide) ?_
          refine lv_iload_n hx hb dX10_worthOf_26 rfl (lv_at hl 3 rfl) ?_
          refine lv_imul hx hb dX10_worthOf_27 ?_
          refine lv_iconst (v := 3) hx hb dX10_worthOf_28 (by decide) ?_
          refine lv_iadd hx hb dX10_worthOf_29 ?_
          obtain ⟨hi_30, hf⟩ := ck_some hf
          refine va_iald hx hb hC.1 hC.2.1 6 0 rfl rfl hi_30 dX10_worthOf_30 ?_
          refine lv_goto (tgt := 35) hx hb dX10_worthOf_31 (by decide) ?_
          refine lv_iadd hx hb dX10_worthOf_35 ?_
          refine lv_istore_n (lv' := [(2, .int (x2_4 + (asked ((5 * x3_4) + 3).toNatClampNeg))), (0, .ref (ad 0)), (1, .int x1), (3, .int x3_4)]) hx hb dX10_worthOf_36 rfl hl (by decide) rfl (fun ls hl => ?_)
          refine lv_iinc (v := x3_4 + 1) (lv' := [(3, .int (x3_4 + 1)), (2, .int (x2_4 + (asked ((5 * x3_4) + 3).toNatClampNeg))), (0, .ref (ad 0)), (1, .int x1)]) hx hb dX10_worthOf_37 hl (k := 3) rfl rfl (by decide) rfl (fun ls hl => ?_)
          refine lv_goto (tgt := 4) hx hb dX10_worthOf_40 (by decide) ?_
          exact ih _ _ hf H locs ls hC (lv_sub hl [2, 3, 1, 0] rfl)
  exact L_4 _ _ _ hL H locs ls hC (lv_sub hl [2, 3, 1, 0] rfl)
set_option maxRecDepth 100000 in
theorem c_m_worthOf {l : Launch} {sz : Nat} {D : va_G} {d : Nat → ClassId} {ad : Nat → Nat} {w : Nat → Int32} {isKept : Nat → Int32} {people : Int32} {room : Nat → Int32} {work : Nat → Int32} {price : Nat → Int32} {askings : Int32} {asked : Nat → Int32} {hangs : Int32} {hung : Nat → Int32} {tenths : Nat → Int32} {sortWorth : Nat → Int32} {sortDays : Nat → Int32} {sorts : Int32} {text : Nat → Int32} {texted : Int32} {trace : Int64} {at_ : Int32} {fault : Int32} {readPeople : Int32} {readPerson : Nat → Int32} {readAskings : Int32} {readAsked : Nat → Int32} {readHangs : Int32} {readHung : Nat → Int32} {rest : Nat → Int32} {brings : Nat → Int64} {later : Nat → Int64} {x1 : Int32} {r : Int32} (hf : m_worthOf askings asked x1 = some r) : MI l yX10_worthOf (ws_ yX10_worthOf cX10_worthOf 4 (some .int)) { frames := 1, cells := 0, slots := 0, locals := 21 } D gcl (gty d) (fun _ => True) (mw d ad w isKept people room work price askings asked hangs hung tenths sortWorth sortDays sorts text texted trace at_ fault readPeople readPerson readAskings readAsked readHangs readHung rest brings later) (mw d ad w isKept people room work price askings asked hangs hung tenths sortWorth sortDays sorts text texted trace at_ fault readPeople readPerson readAskings readAsked readHangs readHung rest brings later) sz [.ref (ad 0), .int x1] r :=
  MI.of (by decide) [.ref (ad 0), .int x1] [(0, .ref (ad 0)), (1, .int x1)] (Nat.le_of_ble_eq_true rfl) rfl (fun p e s m below meth c ls Q hx hb hml hown hts hN hA hC hl K => w_m_worthOf hx hb hml hown hts hA (Nat.le_refl _) (Nat.le_refl _) (Nat.le_refl _) (Nat.le_refl _) hf hC hl K)

def m_bestOf_L6 (x1 : Int32) (w : Nat → Int32) (askings : Int32) (asked : Nat → Int32) : Nat → Int32 → Int32 → Option (Int32)
  | 0, _, _ => none
  | n_6 + 1, x4_6, x5_6 =>
  if askings ≤ x5_6 then (some x4_6) else
  ck (5 * x5_6) 40 <| if (asked (5 * x5_6).toNatClampNeg) = x1 then (ck ((5 * x5_6) + 1) 40 <| if (asked ((5 * x5_6) + 1).toNatClampNeg) < (w (0 : Int32).toNatClampNeg) then (m_bestOf_L6 x1 w askings asked n_6 (x4_6 ||| 0) (x5_6 + 1) ) else
  m_bestOf_L6 x1 w askings asked n_6 (x4_6 ||| (1 <<< (x5_6 &&& 31))) (x5_6 + 1) ) else
  m_bestOf_L6 x1 w askings asked n_6 (x4_6 ||| 0) (x5_6 + 1) 
theorem m_bestOf_L6_s (x1 : Int32) (w : Nat → Int32) (askings : Int32) (asked : Nat → Int32) (n_6 : Nat) (x4_6 : Int32) (x5_6 : Int32) : m_bestOf_L6 x1 w askings asked (n_6 + 1) x4_6 x5_6 = (
  if askings ≤ x5_6 then (some x4_6) else
  ck (5 * x5_6) 40 <| if (asked (5 * x5_6).toNatClampNeg) = x1 then (ck ((5 * x5_6) + 1) 40 <| if (asked ((5 * x5_6) + 1).toNatClampNeg) < (w (0 : Int32).toNatClampNeg) then (m_bestOf_L6 x1 w askings asked n_6 (x4_6 ||| 0) (x5_6 + 1) ) else
  m_bestOf_L6 x1 w askings asked n_6 (x4_6 ||| (1 <<< (x5_6 &&& 31))) (x5_6 + 1) ) else
  m_bestOf_L6 x1 w askings asked n_6 (x4_6 ||| 0) (x5_6 + 1) ) := rfl
def m_bestOf_L73 (x2 : Int32) (x3 : Int32) (x4_67 : Int32) (w : Nat → Int32) (askings : Int32) (asked : Nat → Int32) : Nat → Int32 → Int32 → (Nat → Int32) → Option (Int32 × (Nat → Int32))
  | 0, _, _, _ => none
  | n_73 + 1, x5_73, x6_73, rest_73 =>
  if x4_67 < x6_73 then (some (x5_73, rest_73)) else
  if (x6_73 &&& (x4_67 ^^^ (-1))) = 0 then (bnd (m_worthOf askings asked x6_73) fun r_93 =>
  bnd (m_worthOf askings asked x5_73) fun r_99 =>
  if r_93 ≤ r_99 then (m_bestOf_L73 x2 x3 x4_67 w askings asked n_73 x5_73 (x6_73 + 1) rest_73) else
  bnd2 (m_canKeep w askings asked rest_73 x6_73 x2 x3) fun r_110 rest_110 =>
  if r_110 = 0 then (m_bestOf_L73 x2 x3 x4_67 w askings asked n_73 x5_73 (x6_73 + 1) rest_110) else
  m_bestOf_L73 x2 x3 x4_67 w askings asked n_73 x6_73 (x6_73 + 1) rest_110) else
  m_bestOf_L73 x2 x3 x4_67 w askings asked n_73 x5_73 (x6_73 + 1) rest_73
theorem m_bestOf_L73_s (x2 : Int32) (x3 : Int32) (x4_67 : Int32) (w : Nat → Int32) (askings : Int32) (asked : Nat → Int32) (n_73 : Nat) (x5_73 : Int32) (x6_73 : Int32) (rest_73 : Nat → Int32) : m_bestOf_L73 x2 x3 x4_67 w askings asked (n_73 + 1) x5_73 x6_73 rest_73 = (
  if x4_67 < x6_73 then (some (x5_73, rest_73)) else
  if (x6_73 &&& (x4_67 ^^^ (-1))) = 0 then (bnd (m_worthOf askings asked x6_73) fun r_93 =>
  bnd (m_worthOf askings asked x5_73) fun r_99 =>
  if r_93 ≤ r_99 then (m_bestOf_L73 x2 x3 x4_67 w askings asked n_73 x5_73 (x6_73 + 1) rest_73) else
  bnd2 (m_canKeep w askings asked rest_73 x6_73 x2 x3) fun r_110 rest_110 =>
  if r_110 = 0 then (m_bestOf_L73 x2 x3 x4_67 w askings asked n_73 x5_73 (x6_73 + 1) rest_110) else
  m_bestOf_L73 x2 x3 x4_67 w askings asked n_73 x6_73 (x6_73 + 1) rest_110) else
  m_bestOf_L73 x2 x3 x4_67 w askings asked n_73 x5_73 (x6_73 + 1) rest_73) := rfl
def m_bestOf (w : Nat → Int32) (askings : Int32) (asked : Nat → Int32) (rest : Nat → Int32) (x1 : Int32) (x2 : Int32) (x3 : Int32) : Option (Int32 × (Nat → Int32)) :=
  bnd (m_bestOf_L6 x1 w askings asked g_fuel 0 0 ) (fun x4_67 =>
  bnd2 (m_bestOf_L73 x2 x3 x4_67 w askings asked g_fuel 0 1 rest) (fun x5_126 rest_126 =>
  some (x5_126, rest_126)))
set_option maxHeartbeats 4000000 in
set_option maxRecDepth 100000 in
theorem w_m_bestOf {p : Program} {l : Launch} {e : Env} {R : Room} {s : State} {m : MethodId} {args : Array Value} {below : List Frame} {meth : Method} {c : Code} {H : Heap} {locs : List Loc} {cells slots : Nat} {Q : State → Prop} {A : Nat → Prop} {ls : Array Slot} {D : va_G} {d : Nat → ClassId} {ad : Nat → Nat} {w : Nat → Int32} {isKept : Nat → Int32} {people : Int32} {room : Nat → Int32} {work : Nat → Int32} {price : Nat → Int32} {askings : Int32} {asked : Nat → Int32} {hangs : Int32} {hung : Nat → Int32} {tenths : Nat → Int32} {sortWorth : Nat → Int32} {sortDays : Nat → Int32} {sorts : Int32} {text : Nat → Int32} {texted : Int32} {trace : Int64} {at_ : Int32} {fault : Int32} {readPeople : Int32} {readPerson : Nat → Int32} {readAskings : Int32} {readAsked : Nat → Int32} {readHangs : Int32} {readHung : Nat → Int32} {rest : Nat → Int32} {brings : Nat → Int64} {later : Nat → Int64} {x1 : Int32} {x2 : Int32} {x3 : Int32} {r : Int32} {rest_r : Nat → Int32} (hx : p.tables.exec = Jvm.exec) (hb : c.code = cX10_bestOf) (hml : c.maxLocals = 7) (hown : s.vm.findClass RX10 = some m.cls) (hts : ∀ w ∈ lw_all, w.before args s = true) (hA : ∀ q, s.heap.size ≤ q → A q) (hRf : 2 ≤ R.frames) (hRl : 51 ≤ R.locals) (hRc : cells ≤ R.cells) (hRs : slots ≤ R.slots) (hf : m_bestOf w askings asked rest x1 x2 x3 = some (r, rest_r)) (hC : HC D gcl (gty d) A (mw d ad w isKept people room work price askings asked hangs hung tenths sortWorth sortDays sorts text texted trace at_ fault readPeople readPerson readAskings readAsked readHangs readHung rest brings later) s H locs) (hl : lv_has ls 7 [(0, .ref (ad 0)), (1, .int x1), (2, .int x2), (3, .int x3)]) (K : ∀ (H : Heap) (locs : List Loc) (ls : Array Slot) (pc : Nat), narrow .int (.int r) = .int r → HC D gcl (gty d) A (mw d ad w isKept people room work price askings asked hangs hung tenths sortWorth sortDays sorts text texted trace at_ fault readPeople readPerson readAskings readAsked readHangs readHung rest_r brings later) s H locs → decode cX10_bestOf pc = .ok (.ireturn, 1) → W p l e R s m args below meth c H locs cells slots Q (F0 m pc ls [.int r])) : W p l e R s m args below meth c H locs cells slots Q (F0 m 0 ls []) := by
  unfold m_bestOf at hf
  refine lv_iconst (v := 0) hx hb dX10_bestOf_0 (by decide) ?_
  refine lv_istore (lv' := [(4, .int 0), (0, .ref (ad 0)), (1, .int x1), (2, .int x2), (3, .int x3)]) hx hb dX10_bestOf_1 hl (by decide) rfl (fun ls hl => ?_)
  refine lv_iconst (v := 0) hx hb dX10_bestOf_3 (by decide) ?_
  refine lv_istore (lv' := [(5, .int 0), (4, .int 0), (0, .ref (ad 0)), (1, .int x1), (2, .int x2), (3, .int x3)]) hx hb dX10_bestOf_4 hl (by decide) rfl (fun ls hl => ?_)
  obtain ⟨x4_67, hL, hf⟩ := bnd_some hf
  have X_6 : ∀ (H : Heap) (locs : List Loc) (ls : Array Slot), HC D gcl (gty d) A (mw d ad w isKept people room work price askings asked hangs hung tenths sortWorth sortDays sorts text texted trace at_ fault readPeople readPerson readAskings readAsked readHangs readHung rest brings later) s H locs → lv_has ls 7 [(0, .ref (ad 0)), (2, .int x2), (3, .int x3), (4, .int x4_67)] → W p l e R s m args below meth c H locs cells slots Q (F0 m 67 ls []) := by
    intro H locs ls hC hl
    refine lv_iconst (v := 0) hx hb dX10_bestOf_67 (by decide) ?_
    refine lv_istore (lv' := [(5, .int 0), (0, .ref (ad 0)), (2, .int x2), (3, .int x3), (4, .int x4_67)]) hx hb dX10_bestOf_68 hl (by decide) rfl (fun ls hl => ?_)
    refine lv_iconst (v := 1) hx hb dX10_bestOf_70 (by decide) ?_
    refine lv_istore (lv' := [(6, .int 1), (5, .int 0), (0, .ref (ad 0)), (2, .int x2), (3, .int x3), (4, .int x4_67)]) hx hb dX10_bestOf_71 hl (by decide) rfl (fun ls hl => ?_)
    obtain ⟨x5_126, rest_126, hL, hf⟩ := bnd2_some hf
    have X_73 : ∀ (H : Heap) (locs : List Loc) (ls : Array Slot), HC D gcl (gty d) A (mw d ad w isKept people room work price askings asked hangs hung tenths sortWorth sortDays sorts text texted trace at_ fault readPeople readPerson readAskings readAsked readHangs readHung rest_126 brings later) s H locs → lv_has ls 7 [(5, .int x5_126)] → W p l e R s m args below meth c H locs cells slots Q (F0 m 126 ls []) := by
      intro H locs ls hC hl
      refine lv_iload hx hb dX10_bestOf_126 (lv_at hl 0 rfl) ?_
      obtain ⟨e_1, e_2⟩ := so_2 (Option.some.inj hf)
      subst e_1
      subst e_2
      exact K H locs ls _ rfl hC dX10_bestOf_128
    have L_73 : ∀ (n_73 : Nat) (x5_73 : Int32) (x6_73 : Int32) (rest_73 : Nat → Int32), m_bestOf_L73 x2 x3 x4_67 w askings asked n_73 x5_73 x6_73 rest_73 = some (x5_126, rest_126) → ∀ (H : Heap) (locs : List Loc) (ls : Array Slot), HC D gcl (gty d) A (mw d ad w isKept people room work price askings asked hangs hung tenths sortWorth sortDays sorts text texted trace at_ fault readPeople readPerson readAskings readAsked readHangs readHung rest_73 brings later) s H locs → lv_has ls 7 [(0, .ref (ad 0)), (2, .int x2), (3, .int x3), (4, .int x4_67), (5, .int x5_73), (6, .int x6_73)] → W p l e R s m args below meth c H locs cells slots Q (F0 m 73 ls []) := by
      intro n_73
      induction n_73 with
      | zero => intro _ _ _ hf; cases hf
      | succ n_73 ih =>
        intro x5_73 x6_73 rest_73 hf H locs ls hC hl
        rw [m_bestOf_L73_s] at hf
        refine lv_iload hx hb dX10_bestOf_73 (lv_at hl 5 rfl) ?_
        refine lv_iload hx hb dX10_bestOf_75 (lv_at hl 3 rfl) ?_
        refine lv_icmp_gt (tgt := 126) hx hb dX10_bestOf_77 (by decide) (fun c_77 => ?_) (fun c_77 => ?_)
        · have hf := if_t hf c_77
          obtain ⟨e_1, e_2⟩ := so_2 (Option.some.inj hf)
          subst e_1
          subst e_2
          exact X_73 H locs ls hC (lv_sub hl [4] rfl)
        · have hf := if_f hf c_77
          refine lv_iload hx hb dX10_bestOf_80 (lv_at hl 5 rfl) ?_
          refine lv_iload hx hb dX10_bestOf_82 (lv_at hl 3 rfl) ?_
          refine lv_iconst (v := (-1)) hx hb dX10_bestOf_84 (by decide) ?_
          refine lv_ixor hx hb dX10_bestOf_85 ?_
          refine lv_iand hx hb dX10_bestOf_86 ?_
          refine lv_if_ne (tgt := 120) hx hb dX10_bestOf_87 (by decide) (fun c_87 => ?_) (fun c_87 => ?_)
          · have hf := if_f hf c_87
            refine lv_iinc (v := x6_73 + 1) (lv' := [(6, .int (x6_73 + 1)), (0, .ref (ad 0)), (2, .int x2), (3, .int x3), (4, .int x4_67), (5, .int x5_73)]) hx hb dX10_bestOf_120 hl (k := 5) rfl rfl (by decide) rfl (fun ls hl => ?_)
            refine lv_goto (tgt := 73) hx hb dX10_bestOf_123 (by decide) ?_
            exact ih _ _ _ hf H locs ls hC (lv_sub hl [1, 2, 3, 4, 5, 0] rfl)
          · have hf := if_t hf c_87
            refine lv_aload_n hx hb dX10_bestOf_90 rfl (lv_at hl 0 rfl) ?_
            refine lv_iload hx hb dX10_bestOf_91 (lv_at hl 5 rfl) ?_
            obtain ⟨r_93, hcall, hf⟩ := bnd_some hf
            refine hc_i (va_runV (C := RX10) (As := [.int x6_73]) (rest := []) ⟨hx, hb, hml, hown, hts⟩ (c_m_worthOf hcall) (cwV 1 hts (lw_V q1028 q1030 qs38 q59 q1031) rfl rfl rfl (by decide +kernel) ⟨(Nat.le_trans (Nat.le_of_ble_eq_true rfl) hRf), (Nat.le_trans (Nat.le_of_ble_eq_true rfl) hRl)⟩) (pre_V (q0 := 0) (ci := 10) (fun _ _ _ _ h => h) (fun _ _ _ => trivial) hC rfl rfl) rfl rfl hl.1 rfl (lv_room (Nat.le_of_ble_eq_true rfl)) dX10_bestOf_93 ⟨hRc, hRs⟩) hA hC (fun H locs hC => ?_)
            refine lv_aload_n hx hb dX10_bestOf_96 rfl (lv_at hl 0 rfl) ?_
            refine lv_iload hx hb dX10_bestOf_97 (lv_at hl 4 rfl) ?_
            obtain ⟨r_99, hcall, hf⟩ := bnd_some hf
            refine hc_i (va_runV (C := RX10) (As := [.int x5_73]) (rest := [.int r_93]) ⟨hx, hb, hml, hown, hts⟩ (c_m_worthOf hcall) (cwV 1 hts (lw_V q1028 q1030 qs38 q59 q1031) rfl rfl rfl (by decide +kernel) ⟨(Nat.le_trans (Nat.le_of_ble_eq_true rfl) hRf), (Nat.le_trans (Nat.le_of_ble_eq_true rfl) hRl)⟩) (pre_V (q0 := 0) (ci := 10) (fun _ _ _ _ h => h) (fun _ _ _ => trivial) hC rfl rfl) rfl rfl hl.1 rfl (lv_room (Nat.le_of_ble_eq_true rfl)) dX10_bestOf_99 ⟨hRc, hRs⟩) hA hC (fun H locs hC => ?_)
            refine lv_icmp_le (tgt := 120) hx hb dX10_bestOf_102 (by decide) (fun c_102 => ?_) (fun c_102 => ?_)
            · have hf := if_t hf c_102
              refine lv_iinc (v := x6_73 + 1) (lv' := [(6, .int (x6_73 + 1)), (0, .ref (ad 0)), (2, .int x2), (3, .int x3), (4, .int x4_67), (5, .int x5_73)]) hx hb dX10_bestOf_120 hl (k := 5) rfl rfl (by decide) rfl (fun ls hl => ?_)
              refine lv_goto (tgt := 73) hx hb dX10_bestOf_123 (by decide) ?_
              exact ih _ _ _ hf H locs ls hC (lv_sub hl [1, 2, 3, 4, 5, 0] rfl)
            · have hf := if_f hf c_102
              refine lv_aload_n hx hb dX10_bestOf_105 rfl (lv_at hl 0 rfl) ?_
              refine lv_iload hx hb dX10_bestOf_106 (lv_at hl 5 rfl) ?_
              refine lv_iload_n hx hb dX10_bestOf_108 rfl (lv_at hl 1 rfl) ?_
              refine lv_iload_n hx hb dX10_bestOf_109 rfl (lv_at hl 2 rfl) ?_
              obtain ⟨r_110, rest_110, hcall, hf⟩ := bnd2_some hf
              refine hc_i (va_runV (C := RX10) (As := [.int x6_73, .int x2, .int x3]) (rest := []) ⟨hx, hb, hml, hown, hts⟩ (c_m_canKeep hcall) (cwV 3 hts (lw_V q1035 q1037 qs39 q59 q1038) rfl rfl rfl (by decide +kernel) ⟨(Nat.le_trans (Nat.le_of_ble_eq_true rfl) hRf), (Nat.le_trans (Nat.le_of_ble_eq_true rfl) hRl)⟩) (pre_V (q0 := 0) (ci := 10) (fun _ _ _ _ h => h) (fun _ _ _ => trivial) hC rfl rfl) rfl rfl hl.1 rfl (lv_room (Nat.le_of_ble_eq_true rfl)) dX10_bestOf_110 ⟨hRc, hRs⟩) hA hC (fun H locs hC => ?_)
              refine lv_if_eq (tgt := 120) hx hb dX10_bestOf_113 (by decide) (fun c_113 => ?_) (fun c_113 => ?_)
              · have hf := if_t hf c_113
                refine lv_iinc (v := x6_73 + 1) (lv' := [(6, .int (x6_73 + 1)), (0, .ref (ad 0)), (2, .int x2), (3, .int x3), (4, .int x4_67), (5, .int x5_73)]) hx hb dX10_bestOf_120 hl (k := 5) rfl rfl (by decide) rfl (fun ls hl => ?_)
                refine lv_goto (tgt := 73) hx hb dX10_bestOf_123 (by decide) ?_
                exact ih _ _ _ hf H locs ls hC (lv_sub hl [1, 2, 3, 4, 5, 0] rfl)
              · have hf := if_f hf c_113
                refine lv_iload hx hb dX10_bestOf_116 (lv_at hl 5 rfl) ?_
                refine lv_istore (lv' := [(5, .int x6_73), (0, .ref (ad 0)), (2, .int x2), (3, .int x3), (4, .int x4_67), (6, .int x6_73)]) hx hb dX10_bestOf_118 hl (by decide) rfl (fun ls hl => ?_)
                refine lv_iinc (v := x6_73 + 1) (lv' := [(6, .int (x6_73 + 1)), (5, .int x6_73), (0, .ref (ad 0)), (2, .int x2), (3, .int x3), (4, .int x4_67)]) hx hb dX10_bestOf_120 hl (k := 5) rfl rfl (by decide) rfl (fun ls hl => ?_)
                refine lv_goto (tgt := 73) hx hb dX10_bestOf_123 (by decide) ?_
                exact ih _ _ _ hf H locs ls hC (lv_sub hl [2, 3, 4, 5, 1, 0] rfl)
    exact L_73 _ _ _ _ hL H locs ls hC (lv_sub hl [2, 3, 4, 5, 1, 0] rfl)
  have L_6 : ∀ (n_6 : Nat) (x4_6 : Int32) (x5_6 : Int32), m_bestOf_L6 x1 w askings asked n_6 x4_6 x5_6 = some x4_67 → ∀ (H : Heap) (locs : List Loc) (ls : Array Slot), HC D gcl (gty d) A (mw d ad w isKept people room work price askings asked hangs hung tenths sortWorth sortDays sorts text texted trace at_ fault readPeople readPerson readAskings readAsked readHangs readHung rest brings later) s H locs → lv_has ls 7 [(0, .ref (ad 0)), (1, .int x1), (2, .int x2), (3, .int x3), (4, .int x4_6), (5, .int x5_6)] → W p l e R s m args below meth c H locs cells slots Q (F0 m 6 ls []) := by
    intro n_6
    induction n_6 with
    | zero => intro _ _ hf; cases hf
    | succ n_6 ih =>
      intro x4_6 x5_6 hf H locs ls hC hl
      rw [m_bestOf_L6_s] at hf
      refine lv_iload hx hb dX10_bestOf_6 (lv_at hl 5 rfl) ?_
      refine lv_aload_n hx hb dX10_bestOf_8 rfl (lv_at hl 0 rfl) ?_
      refine va_get (ci := 10) (v := .int askings) (C := RX10) (T := TX10) (N := 28) hx hb hts in_X10 hown hC.1 hC.2.1 0 rfl rfl 6 (by decide) (hts _ q812) (fun _ h9 => h9) rfl dX10_bestOf_9 ?_
      refine lv_icmp_ge (tgt := 67) hx hb dX10_bestOf_12 (by decide) (fun c_12 => ?_) (fun c_12 => ?_)
      · have hf := if_t hf c_12
        have e_1 := (Option.some.inj hf)
        subst e_1
        exact X_6 H locs ls hC (lv_sub hl [0, 2, 3, 4] rfl)
      · have hf := if_f hf c_12
        refine lv_iload hx hb dX10_bestOf_15 (lv_at hl 4 rfl) ?_
        refine lv_aload_n hx hb dX10_bestOf_17 rfl (lv_at hl 0 rfl) ?_
        refine va_get (ci := 10) (v := .ref (ad 6)) (C := RX10) (T := TX10) (N := 28) hx hb hts in_X10 hown hC.1 hC.2.1 0 rfl rfl 7 (by decide) (hts _ q813) (fun _ h9 => h9) rfl dX10_bestOf_18 ?_
        refine lv_iconst (v := 5) hx hb dX10_bestOf_21 (by decide) ?_
        refine lv_iload hx hb dX10_bestOf_22 (lv_at hl 5 rfl) ?_
        refine lv_imul hx hb dX10_bestOf_24 ?_
        obtain ⟨hi_25, hf⟩ := ck_some hf
        refine va_iald hx hb hC.1 hC.2.1 6 0 rfl rfl hi_25 dX10_bestOf_25 ?_
        refine lv_iload_n hx hb dX10_bestOf_26 rfl (lv_at hl 1 rfl) ?_
        refine lv_icmp_ne (tgt := 57) hx hb dX10_bestOf_27 (by decide) (fun c_27 => ?_) (fun c_27 => ?_)
        · have hf := if_f hf c_27
          refine lv_iconst (v := 0) hx hb dX10_bestOf_57 (by decide) ?_
          refine lv_ior hx hb dX10_bestOf_58 ?_
          refine lv_istore (lv' := [(4, .int (x4_6 ||| 0)), (0, .ref (ad 0)), (1, .int x1), (2, .int x2), (3, .int x3), (5, .int x5_6)]) hx hb dX10_bestOf_59 hl (by decide) rfl (fun ls hl => ?_)
          refine lv_iinc (v := x5_6 + 1) (lv' := [(5, .int (x5_6 + 1)), (4, .int (x4_6 ||| 0)), (0, .ref (ad 0)), (1, .int x1), (2, .int x2), (3, .int x3)]) hx hb dX10_bestOf_61 hl (k := 5) rfl rfl (by decide) rfl (fun ls hl => ?_)
          refine lv_goto (tgt := 6) hx hb dX10_bestOf_64 (by decide) ?_
          exact ih _ _ hf H locs ls hC (lv_sub hl [2, 3, 4, 5, 1, 0] rfl)
        · have hf := if_t hf c_27
          refine lv_aload_n hx hb dX10_bestOf_30 rfl (lv_at hl 0 rfl) ?_
          refine va_get (ci := 10) (v := .ref (ad 6)) (C := RX10) (T := TX10) (N := 28) hx hb hts in_X10 hown hC.1 hC.2.1 0 rfl rfl 7 (by decide) (hts _ q813) (fun _ h9 => h9) rfl dX10_bestOf_31 ?_
          refine lv_iconst (v := 5) hx hb dX10_bestOf_34 (by decide) ?_
          refine lv_iload hx hb dX10_bestOf_35 (lv_at hl 5 rfl) ?_
          refine lv_imul hx hb dX10_bestOf_37 ?_
          refine lv_iconst (v := 1) hx hb dX10_bestOf_38 (by decide) ?_
          refine lv_iadd hx hb dX10_bestOf_39 ?_
          obtain ⟨hi_40, hf⟩ := ck_some hf
          refine va_iald hx hb hC.1 hC.2.1 6 0 rfl rfl hi_40 dX10_bestOf_40 ?_
          refine lv_aload_n hx hb dX10_bestOf_41 rfl (lv_at hl 0 rfl) ?_
          refine va_get (ci := 10) (v := .ref (ad 1)) (C := RX10) (T := TX10) (N := 28) hx hb hts in_X10 hown hC.1 hC.2.1 0 rfl rfl 0 (by decide) (hts _ q806) (fun _ h9 => h9) rfl dX10_bestOf_42 ?_
          refine lv_iconst (v := 0) hx hb dX10_bestOf_45 (by decide) ?_
          refine va_iald hx hb hC.1 hC.2.1 1 0 rfl rfl (vp_in_iff.mpr (by decide)) dX10_bestOf_46 ?_
          refine lv_icmp_lt (tgt := 57) hx hb dX10_bestOf_47 (by decide) (fun c_47 => ?_) (fun c_47 => ?_)
          · have hf := if_t hf c_47
            refine lv_iconst (v := 0) hx hb dX10_bestOf_57 (by decide) ?_
            refine lv_ior hx hb dX10_bestOf_58 ?_
            refine lv_istore (lv' := [(4, .int (x4_6 ||| 0)), (0, .ref (ad 0)), (1, .int x1), (2, .int x2), (3, .int x3), (5, .int x5_6)]) hx hb dX10_bestOf_59 hl (by decide) rfl (fun ls hl => ?_)
            refine lv_iinc (v := x5_6 + 1) (lv' := [(5, .int (x5_6 + 1)), (4, .int (x4_6 ||| 0)), (0, .ref (ad 0)), (1, .int x1), (2, .int x2), (3, .int x3)]) hx hb dX10_bestOf_61 hl (k := 5) rfl rfl (by decide) rfl (fun ls hl => ?_)
            refine lv_goto (tgt := 6) hx hb dX10_bestOf_64 (by decide) ?_
            exact ih _ _ hf H locs ls hC (lv_sub hl [2, 3, 4, 5, 1, 0] rfl)
          · have hf := if_f hf c_47
            refine lv_iconst (v := 1) hx hb dX10_bestOf_50 (by decide) ?_
            refine lv_iload hx hb dX10_bestOf_51 (lv_at hl 5 rfl) ?_
            refine lv_ishl hx hb dX10_bestOf_53 ?_
            refine lv_goto (tgt := 58) hx hb dX10_bestOf_54 (by decide) ?_
            refine lv_ior hx hb dX10_bestOf_58 ?_
            refine lv_istore (lv' := [(4, .int (x4_6 ||| (1 <<< (x5_6 &&& 31)))), (0, .ref (ad 0)), (1, .int x1), (2, .int x2), (3, .int x3), (5, .int x5_6)]) hx hb dX10_bestOf_59 hl (by decide) rfl (fun ls hl => ?_)
            refine lv_iinc (v := x5_6 + 1) (lv' := [(5, .int (x5_6 + 1)), (4, .int (x4_6 ||| (1 <<< (x5_6 &&& 31)))), (0, .ref (ad 0)), (1, .int x1), (2, .int x2), (3, .int x3)]) hx hb dX10_bestOf_61 hl (k := 5) rfl rfl (by decide) rfl (fun ls hl => ?_)
            refine lv_goto (tgt := 6) hx hb dX10_bestOf_64 (by decide) ?_
            exact ih _ _ hf H locs ls hC (lv_sub hl [2, 3, 4, 5, 1, 0] rfl)
  exact L_6 _ _ _ hL H locs ls hC (lv_sub hl [2, 3, 4, 5, 1, 0] rfl)
set_option maxRecDepth 100000 in
theorem c_m_bestOf {l : Launch} {sz : Nat} {D : va_G} {d : Nat → ClassId} {ad : Nat → Nat} {w : Nat → Int32} {isKept : Nat → Int32} {people : Int32} {room : Nat → Int32} {work : Nat → Int32} {price : Nat → Int32} {askings : Int32} {asked : Nat → Int32} {hangs : Int32} {hung : Nat → Int32} {tenths : Nat → Int32} {sortWorth : Nat → Int32} {sortDays : Nat → Int32} {sorts : Int32} {text : Nat → Int32} {texted : Int32} {trace : Int64} {at_ : Int32} {fault : Int32} {readPeople : Int32} {readPerson : Nat → Int32} {readAskings : Int32} {readAsked : Nat → Int32} {readHangs : Int32} {readHung : Nat → Int32} {rest : Nat → Int32} {brings : Nat → Int64} {later : Nat → Int64} {x1 : Int32} {x2 : Int32} {x3 : Int32} {r : Int32} {rest_r : Nat → Int32} (hf : m_bestOf w askings asked rest x1 x2 x3 = some (r, rest_r)) : MI l yX10_bestOf (ws_ yX10_bestOf cX10_bestOf 7 (some .int)) { frames := 2, cells := 0, slots := 0, locals := 51 } D gcl (gty d) (fun _ => True) (mw d ad w isKept people room work price askings asked hangs hung tenths sortWorth sortDays sorts text texted trace at_ fault readPeople readPerson readAskings readAsked readHangs readHung rest brings later) (mw d ad w isKept people room work price askings asked hangs hung tenths sortWorth sortDays sorts text texted trace at_ fault readPeople readPerson readAskings readAsked readHangs readHung rest_r brings later) sz [.ref (ad 0), .int x1, .int x2, .int x3] r :=
  MI.of (by decide) [.ref (ad 0), .int x1, .int x2, .int x3] [(0, .ref (ad 0)), (1, .int x1), (2, .int x2), (3, .int x3)] (Nat.le_of_ble_eq_true rfl) rfl (fun p e s m below meth c ls Q hx hb hml hown hts hN hA hC hl K => w_m_bestOf hx hb hml hown hts hA (Nat.le_refl _) (Nat.le_refl _) (Nat.le_refl _) (Nat.le_refl _) hf hC hl K)

def m_take (w : Nat → Int32) (people : Int32) (room : Nat → Int32) (work : Nat → Int32) (askings : Int32) (asked : Nat → Int32) (rest : Nat → Int32) (x1 : Int32) (x2 : Int32) : Option (Int32 × (Nat → Int32)) :=
  bnd (m_isOne people x1) fun r_2 =>
  if r_2 = 0 then (some ((-1), rest)) else
  bnd (m_in x2.toInt64 0 1) fun r_12 =>
  if r_12 = 0 then (some ((-1), rest)) else
  ck x1 4 <| ck x1 4 <| bnd2 (m_bestOf w askings asked rest x1 (room x1.toNatClampNeg) (work x1.toNatClampNeg)) fun r_34 rest_34 =>
  if x2 = 0 then (bnd (m_worthOf askings asked r_34) fun r_44 =>
  some (r_44, rest_34)) else
  some (r_34, rest_34)
set_option maxHeartbeats 4000000 in
set_option maxRecDepth 100000 in
theorem w_m_take {p : Program} {l : Launch} {e : Env} {R : Room} {s : State} {m : MethodId} {args : Array Value} {below : List Frame} {meth : Method} {c : Code} {H : Heap} {locs : List Loc} {cells slots : Nat} {Q : State → Prop} {A : Nat → Prop} {ls : Array Slot} {D : va_G} {d : Nat → ClassId} {ad : Nat → Nat} {w : Nat → Int32} {isKept : Nat → Int32} {people : Int32} {room : Nat → Int32} {work : Nat → Int32} {price : Nat → Int32} {askings : Int32} {asked : Nat → Int32} {hangs : Int32} {hung : Nat → Int32} {tenths : Nat → Int32} {sortWorth : Nat → Int32} {sortDays : Nat → Int32} {sorts : Int32} {text : Nat → Int32} {texted : Int32} {trace : Int64} {at_ : Int32} {fault : Int32} {readPeople : Int32} {readPerson : Nat → Int32} {readAskings : Int32} {readAsked : Nat → Int32} {readHangs : Int32} {readHung : Nat → Int32} {rest : Nat → Int32} {brings : Nat → Int64} {later : Nat → Int64} {x1 : Int32} {x2 : Int32} {r : Int32} {rest_r : Nat → Int32} (hx : p.tables.exec = Jvm.exec) (hb : c.code = cX10_take) (hml : c.maxLocals = 4) (hown : s.vm.findClass RX10 = some m.cls) (hts : ∀ w ∈ lw_all, w.before args s = true) (hA : ∀ q, s.heap.size ≤ q → A q) (hRf : 3 ≤ R.frames) (hRl : 77 ≤ R.locals) (hRc : cells ≤ R.cells) (hRs : slots ≤ R.slots) (hf : m_take w people room work askings asked rest x1 x2 = some (r, rest_r)) (hC : HC D gcl (gty d) A (mw d ad w isKept people room work price askings asked hangs hung tenths sortWorth sortDays sorts text texted trace at_ fault readPeople readPerson readAskings readAsked readHangs readHung rest brings later) s H locs) (hl : lv_has ls 4 [(0, .ref (ad 0)), (1, .int x1), (2, .int x2)]) (K : ∀ (H : Heap) (locs : List Loc) (ls : Array Slot) (pc : Nat), narrow .int (.int r) = .int r → HC D gcl (gty d) A (mw d ad w isKept people room work price askings asked hangs hung tenths sortWorth sortDays sorts text texted trace at_ fault readPeople readPerson readAskings readAsked readHangs readHung rest_r brings later) s H locs → decode cX10_take pc = .ok (.ireturn, 1) → W p l e R s m args below meth c H locs cells slots Q (F0 m pc ls [.int r])) : W p l e R s m args below meth c H locs cells slots Q (F0 m 0 ls []) := by
  unfold m_take at hf
  refine lv_aload_n hx hb dX10_take_0 rfl (lv_at hl 0 rfl) ?_
  refine lv_iload_n hx hb dX10_take_1 rfl (lv_at hl 1 rfl) ?_
  obtain ⟨r_2, hcall, hf⟩ := bnd_some hf
  refine hc_i (va_runV (C := RX10) (As := [.int x1]) (rest := []) ⟨hx, hb, hml, hown, hts⟩ (c_m_isOne hcall) (cwV 1 hts (lw_V q942 q944 qs27 q59 q945) rfl rfl rfl (by decide +kernel) ⟨(Nat.le_trans (Nat.le_of_ble_eq_true rfl) hRf), (Nat.le_trans (Nat.le_of_ble_eq_true rfl) hRl)⟩) (pre_V (q0 := 0) (ci := 10) (fun _ _ _ _ h => h) (fun _ _ _ => trivial) hC rfl rfl) rfl rfl hl.1 rfl (lv_room (Nat.le_of_ble_eq_true rfl)) dX10_take_2 ⟨hRc, hRs⟩) hA hC (fun H locs hC => ?_)
  refine lv_if_eq (tgt := 18) hx hb dX10_take_5 (by decide) (fun c_5 => ?_) (fun c_5 => ?_)
  · have hf := if_t hf c_5
    refine lv_iconst (v := (-1)) hx hb dX10_take_18 (by decide) ?_
    obtain ⟨e_1, e_2⟩ := so_2 (Option.some.inj hf)
    subst e_1
    subst e_2
    exact K H locs ls _ rfl hC dX10_take_19
  · have hf := if_f hf c_5
    refine lv_iload_n hx hb dX10_take_8 rfl (lv_at hl 2 rfl) ?_
    refine lv_i2l (v := x2.toInt64) hx hb dX10_take_9 rfl ?_
    refine lv_lconst (v := 0) hx hb dX10_take_10 (by decide) ?_
    refine lv_lconst (v := 1) hx hb dX10_take_11 (by decide) ?_
    obtain ⟨r_12, hcall, hf⟩ := bnd_some hf
    refine hc_i (va_runS (As := [.long x2.toInt64, .long 0, .long 1]) (rest := []) ⟨hx, hb, hml, hown, hts⟩ (c_m_in hcall) (va_cwS 3 hts (lw_S q898 q899 q59 q900) rfl rfl rfl (by decide +kernel) ⟨(Nat.le_trans (Nat.le_of_ble_eq_true rfl) hRf), (Nat.le_trans (Nat.le_of_ble_eq_true rfl) hRl)⟩) (pre_S (fun _ _ _ _ h => h) (fun _ _ _ => trivial) hC) rfl rfl hl.1 rfl (lv_room (Nat.le_of_ble_eq_true rfl)) dX10_take_12 ⟨hRc, hRs⟩) hA hC (fun H locs hC => ?_)
    refine lv_if_ne (tgt := 20) hx hb dX10_take_15 (by decide) (fun c_15 => ?_) (fun c_15 => ?_)
    · have hf := if_f hf c_15
      refine lv_aload_n hx hb dX10_take_20 rfl (lv_at hl 0 rfl) ?_
      refine lv_iload_n hx hb dX10_take_21 rfl (lv_at hl 1 rfl) ?_
      refine lv_aload_n hx hb dX10_take_22 rfl (lv_at hl 0 rfl) ?_
      refine va_get (ci := 10) (v := .ref (ad 3)) (C := RX10) (T := TX10) (N := 28) hx hb hts in_X10 hown hC.1 hC.2.1 0 rfl rfl 3 (by decide) (hts _ q809) (fun _ h9 => h9) rfl dX10_take_23 ?_
      refine lv_iload_n hx hb dX10_take_26 rfl (lv_at hl 1 rfl) ?_
      obtain ⟨hi_27, hf⟩ := ck_some hf
      refine va_iald hx hb hC.1 hC.2.1 3 0 rfl rfl hi_27 dX10_take_27 ?_
      refine lv_aload_n hx hb dX10_take_28 rfl (lv_at hl 0 rfl) ?_
      refine va_get (ci := 10) (v := .ref (ad 4)) (C := RX10) (T := TX10) (N := 28) hx hb hts in_X10 hown hC.1 hC.2.1 0 rfl rfl 4 (by decide) (hts _ q810) (fun _ h9 => h9) rfl dX10_take_29 ?_
      refine lv_iload_n hx hb dX10_take_32 rfl (lv_at hl 1 rfl) ?_
      obtain ⟨hi_33, hf⟩ := ck_some hf
      refine va_iald hx hb hC.1 hC.2.1 4 0 rfl rfl hi_33 dX10_take_33 ?_
      obtain ⟨r_34, rest_34, hcall, hf⟩ := bnd2_some hf
      refine hc_i (va_runV (C := RX10) (As := [.int x1, .int (room x1.toNatClampNeg), .int (work x1.toNatClampNeg)]) (rest := []) ⟨hx, hb, hml, hown, hts⟩ (c_m_bestOf hcall) (cwV 3 hts (lw_V q1024 q1026 qs37 q59 q1027) rfl rfl rfl (by decide +kernel) ⟨(Nat.le_trans (Nat.le_of_ble_eq_true rfl) hRf), (Nat.le_trans (Nat.le_of_ble_eq_true rfl) hRl)⟩) (pre_V (q0 := 0) (ci := 10) (fun _ _ _ _ h => h) (fun _ _ _ => trivial) hC rfl rfl) rfl rfl hl.1 rfl (lv_room (Nat.le_of_ble_eq_true rfl)) dX10_take_34 ⟨hRc, hRs⟩) hA hC (fun H locs hC => ?_)
      refine lv_istore_n (lv' := [(3, .int r_34), (0, .ref (ad 0)), (1, .int x1), (2, .int x2)]) hx hb dX10_take_37 rfl hl (by decide) rfl (fun ls hl => ?_)
      refine lv_iload_n hx hb dX10_take_38 rfl (lv_at hl 3 rfl) ?_
      refine lv_if_ne (tgt := 50) hx hb dX10_take_39 (by decide) (fun c_39 => ?_) (fun c_39 => ?_)
      · have hf := if_f hf c_39
        refine lv_iload_n hx hb dX10_take_50 rfl (lv_at hl 0 rfl) ?_
        obtain ⟨e_1, e_2⟩ := so_2 (Option.some.inj hf)
        subst e_1
        subst e_2
        exact K H locs ls _ rfl hC dX10_take_51
      · have hf := if_t hf c_39
        refine lv_aload_n hx hb dX10_take_42 rfl (lv_at hl 1 rfl) ?_
        refine lv_iload_n hx hb dX10_take_43 rfl (lv_at hl 0 rfl) ?_
        obtain ⟨r_44, hcall, hf⟩ := bnd_some hf
        refine hc_i (va_runV (C := RX10) (As := [.int r_34]) (rest := []) ⟨hx, hb, hml, hown, hts⟩ (c_m_worthOf hcall) (cwV 1 hts (lw_V q1028 q1030 qs38 q59 q1031) rfl rfl rfl (by decide +kernel) ⟨(Nat.le_trans (Nat.le_of_ble_eq_true rfl) hRf), (Nat.le_trans (Nat.le_of_ble_eq_true rfl) hRl)⟩) (pre_V (q0 := 0) (ci := 10) (fun _ _ _ _ h => h) (fun _ _ _ => trivial) hC rfl rfl) rfl rfl hl.1 rfl (lv_room (Nat.le_of_ble_eq_true rfl)) dX10_take_44 ⟨hRc, hRs⟩) hA hC (fun H locs hC => ?_)
        refine lv_goto (tgt := 51) hx hb dX10_take_47 (by decide) ?_
        obtain ⟨e_1, e_2⟩ := so_2 (Option.some.inj hf)
        subst e_1
        subst e_2
        exact K H locs ls _ rfl hC dX10_take_51
    · have hf := if_t hf c_15
      refine lv_iconst (v := (-1)) hx hb dX10_take_18 (by decide) ?_
      obtain ⟨e_1, e_2⟩ := so_2 (Option.some.inj hf)
      subst e_1
      subst e_2
      exact K H locs ls _ rfl hC dX10_take_19
set_option maxRecDepth 100000 in
theorem c_m_take {l : Launch} {sz : Nat} {D : va_G} {d : Nat → ClassId} {ad : Nat → Nat} {w : Nat → Int32} {isKept : Nat → Int32} {people : Int32} {room : Nat → Int32} {work : Nat → Int32} {price : Nat → Int32} {askings : Int32} {asked : Nat → Int32} {hangs : Int32} {hung : Nat → Int32} {tenths : Nat → Int32} {sortWorth : Nat → Int32} {sortDays : Nat → Int32} {sorts : Int32} {text : Nat → Int32} {texted : Int32} {trace : Int64} {at_ : Int32} {fault : Int32} {readPeople : Int32} {readPerson : Nat → Int32} {readAskings : Int32} {readAsked : Nat → Int32} {readHangs : Int32} {readHung : Nat → Int32} {rest : Nat → Int32} {brings : Nat → Int64} {later : Nat → Int64} {x1 : Int32} {x2 : Int32} {r : Int32} {rest_r : Nat → Int32} (hf : m_take w people room work askings asked rest x1 x2 = some (r, rest_r)) : MI l yX10_take (ws_ yX10_take cX10_take 4 (some .int)) { frames := 3, cells := 0, slots := 0, locals := 77 } D gcl (gty d) (fun _ => True) (mw d ad w isKept people room work price askings asked hangs hung tenths sortWorth sortDays sorts text texted trace at_ fault readPeople readPerson readAskings readAsked readHangs readHung rest brings later) (mw d ad w isKept people room work price askings asked hangs hung tenths sortWorth sortDays sorts text texted trace at_ fault readPeople readPerson readAskings readAsked readHangs readHung rest_r brings later) sz [.ref (ad 0), .int x1, .int x2] r :=
  MI.of (by decide) [.ref (ad 0), .int x1, .int x2] [(0, .ref (ad 0)), (1, .int x1), (2, .int x2)] (Nat.le_of_ble_eq_true rfl) rfl (fun p e s m below meth c ls Q hx hb hml hown hts hN hA hC hl K => w_m_take hx hb hml hown hts hA (Nat.le_refl _) (Nat.le_refl _) (Nat.le_refl _) (Nat.le_refl _) hf hC hl K)

def m_bound (w : Nat → Int32) (people : Int32) (room : Nat → Int32) (work : Nat → Int32) (askings : Int32) (asked : Nat → Int32) (rest : Nat → Int32) (x1 : Int32) (x2 : Int32) : Option (Int32 × (Nat → Int32)) :=
  bnd (m_isOne people x1) fun r_2 =>
  if r_2 = 0 then (some ((-1), rest)) else
  bnd (m_in x2.toInt64 0 1) fun r_12 =>
  if r_12 = 0 then (some ((-1), rest)) else
  bnd2 (if x2 = 0 then (ck x1 4 <| bnd2 (m_bestOf w askings asked rest x1 8 (work x1.toNatClampNeg)) fun r_35 rest_35 =>
  some (r_35, rest_35)) else
  ck x1 4 <| bnd2 (m_bestOf w askings asked rest x1 (room x1.toNatClampNeg) 99) fun r_51 rest_51 =>
  some (r_51, rest_51)) (fun (t_54 : Int32) (rest_54 : Nat → Int32) =>
  bnd (m_worthOf askings asked t_54) fun r_54 =>
  some (r_54, rest_54))
set_option maxHeartbeats 4000000 in
set_option maxRecDepth 100000 in
theorem w_m_bound {p : Program} {l : Launch} {e : Env} {R : Room} {s : State} {m : MethodId} {args : Array Value} {below : List Frame} {meth : Method} {c : Code} {H : Heap} {locs : List Loc} {cells slots : Nat} {Q : State → Prop} {A : Nat → Prop} {ls : Array Slot} {D : va_G} {d : Nat → ClassId} {ad : Nat → Nat} {w : Nat → Int32} {isKept : Nat → Int32} {people : Int32} {room : Nat → Int32} {work : Nat → Int32} {price : Nat → Int32} {askings : Int32} {asked : Nat → Int32} {hangs : Int32} {hung : Nat → Int32} {tenths : Nat → Int32} {sortWorth : Nat → Int32} {sortDays : Nat → Int32} {sorts : Int32} {text : Nat → Int32} {texted : Int32} {trace : Int64} {at_ : Int32} {fault : Int32} {readPeople : Int32} {readPerson : Nat → Int32} {readAskings : Int32} {readAsked : Nat → Int32} {readHangs : Int32} {readHung : Nat → Int32} {rest : Nat → Int32} {brings : Nat → Int64} {later : Nat → Int64} {x1 : Int32} {x2 : Int32} {r : Int32} {rest_r : Nat → Int32} (hx : p.tables.exec = Jvm.exec) (hb : c.code = cX10_bound) (hml : c.maxLocals = 3) (hown : s.vm.findClass RX10 = some m.cls) (hts : ∀ w ∈ lw_all, w.before args s = true) (hA : ∀ q, s.heap.size ≤ q → A q) (hRf : 3 ≤ R.frames) (hRl : 77 ≤ R.locals) (hRc : cells ≤ R.cells) (hRs : slots ≤ R.slots) (hf : m_bound w people room work askings asked rest x1 x2 = some (r, rest_r)) (hC : HC D gcl (gty d) A (mw d ad w isKept people room work price askings asked hangs hung tenths sortWorth sortDays sorts text texted trace at_ fault readPeople readPerson readAskings readAsked readHangs readHung rest brings later) s H locs) (hl : lv_has ls 3 [(0, .ref (ad 0)), (1, .int x1), (2, .int x2)]) (K : ∀ (H : Heap) (locs : List Loc) (ls : Array Slot) (pc : Nat), narrow .int (.int r) = .int r → HC D gcl (gty d) A (mw d ad w isKept people room work price askings asked hangs hung tenths sortWorth sortDays sorts text texted trace at_ fault readPeople readPerson readAskings readAsked readHangs readHung rest_r brings later) s H locs → decode cX10_bound pc = .ok (.ireturn, 1) → W p l e R s m args below meth c H locs cells slots Q (F0 m pc ls [.int r])) : W p l e R s m args below meth c H locs cells slots Q (F0 m 0 ls []) := by
  unfold m_bound at hf
  refine lv_aload_n hx hb dX10_bound_0 rfl (lv_at hl 0 rfl) ?_
  refine lv_iload_n hx hb dX10_bound_1 rfl (lv_at hl 1 rfl) ?_
  obtain ⟨r_2, hcall, hf⟩ := bnd_some hf
  refine hc_i (va_runV (C := RX10) (As := [.int x1]) (rest := []) ⟨hx, hb, hml, hown, hts⟩ (c_m_isOne hcall) (cwV 1 hts (lw_V q942 q944 qs27 q59 q945) rfl rfl rfl (by decide +kernel) ⟨(Nat.le_trans (Nat.le_of_ble_eq_true rfl) hRf), (Nat.le_trans (Nat.le_of_ble_eq_true rfl) hRl)⟩) (pre_V (q0 := 0) (ci := 10) (fun _ _ _ _ h => h) (fun _ _ _ => trivial) hC rfl rfl) rfl rfl hl.1 rfl (lv_room (Nat.le_of_ble_eq_true rfl)) dX10_bound_2 ⟨hRc, hRs⟩) hA hC (fun H locs hC => ?_)
  refine lv_if_eq (tgt := 18) hx hb dX10_bound_5 (by decide) (fun c_5 => ?_) (fun c_5 => ?_)
  · have hf := if_t hf c_5
    refine lv_iconst (v := (-1)) hx hb dX10_bound_18 (by decide) ?_
    obtain ⟨e_1, e_2⟩ := so_2 (Option.some.inj hf)
    subst e_1
    subst e_2
    exact K H locs ls _ rfl hC dX10_bound_19
  · have hf := if_f hf c_5
    refine lv_iload_n hx hb dX10_bound_8 rfl (lv_at hl 2 rfl) ?_
    refine lv_i2l (v := x2.toInt64) hx hb dX10_bound_9 rfl ?_
    refine lv_lconst (v := 0) hx hb dX10_bound_10 (by decide) ?_
    refine lv_lconst (v := 1) hx hb dX10_bound_11 (by decide) ?_
    obtain ⟨r_12, hcall, hf⟩ := bnd_some hf
    refine hc_i (va_runS (As := [.long x2.toInt64, .long 0, .long 1]) (rest := []) ⟨hx, hb, hml, hown, hts⟩ (c_m_in hcall) (va_cwS 3 hts (lw_S q898 q899 q59 q900) rfl rfl rfl (by decide +kernel) ⟨(Nat.le_trans (Nat.le_of_ble_eq_true rfl) hRf), (Nat.le_trans (Nat.le_of_ble_eq_true rfl) hRl)⟩) (pre_S (fun _ _ _ _ h => h) (fun _ _ _ => trivial) hC) rfl rfl hl.1 rfl (lv_room (Nat.le_of_ble_eq_true rfl)) dX10_bound_12 ⟨hRc, hRs⟩) hA hC (fun H locs hC => ?_)
    refine lv_if_ne (tgt := 20) hx hb dX10_bound_15 (by decide) (fun c_15 => ?_) (fun c_15 => ?_)
    · have hf := if_f hf c_15
      refine lv_aload_n hx hb dX10_bound_20 rfl (lv_at hl 0 rfl) ?_
      refine lv_iload_n hx hb dX10_bound_21 rfl (lv_at hl 2 rfl) ?_
      obtain ⟨t_54, rest_54, hj, hf⟩ := bnd2_some hf
      have J_54 : ∀ (H : Heap) (locs : List Loc) (ls : Array Slot), HC D gcl (gty d) A (mw d ad w isKept people room work price askings asked hangs hung tenths sortWorth sortDays sorts text texted trace at_ fault readPeople readPerson readAskings readAsked readHangs readHung rest_54 brings later) s H locs → lv_has ls 3 [] → W p l e R s m args below meth c H locs cells slots Q (F0 m 54 ls [.int t_54, .ref (ad 0)]) := by
        intro H locs ls hC hl
        obtain ⟨r_54, hcall, hf⟩ := bnd_some hf
        refine hc_i (va_runV (C := RX10) (As := [.int t_54]) (rest := []) ⟨hx, hb, hml, hown, hts⟩ (c_m_worthOf hcall) (cwV 1 hts (lw_V q1028 q1030 qs38 q59 q1031) rfl rfl rfl (by decide +kernel) ⟨(Nat.le_trans (Nat.le_of_ble_eq_true rfl) hRf), (Nat.le_trans (Nat.le_of_ble_eq_true rfl) hRl)⟩) (pre_V (q0 := 0) (ci := 10) (fun _ _ _ _ h => h) (fun _ _ _ => trivial) hC rfl rfl) rfl rfl hl.1 rfl (lv_room (Nat.le_of_ble_eq_true rfl)) dX10_bound_54 ⟨hRc, hRs⟩) hA hC (fun H locs hC => ?_)
        obtain ⟨e_1, e_2⟩ := so_2 (Option.some.inj hf)
        subst e_1
        subst e_2
        exact K H locs ls _ rfl hC dX10_bound_57
      have hf := hj
      refine lv_if_ne (tgt := 41) hx hb dX10_bound_22 (by decide) (fun c_22 => ?_) (fun c_22 => ?_)
      · have hf := if_f hf c_22
        refine lv_aload_n hx hb dX10_bound_41 rfl (lv_at hl 0 rfl) ?_
        refine lv_iload_n hx hb dX10_bound_42 rfl (lv_at hl 1 rfl) ?_
        refine lv_aload_n hx hb dX10_bound_43 rfl (lv_at hl 0 rfl) ?_
        refine va_get (ci := 10) (v := .ref (ad 3)) (C := RX10) (T := TX10) (N := 28) hx hb hts in_X10 hown hC.1 hC.2.1 0 rfl rfl 3 (by decide) (hts _ q809) (fun _ h9 => h9) rfl dX10_bound_44 ?_
        refine lv_iload_n hx hb dX10_bound_47 rfl (lv_at hl 1 rfl) ?_
        obtain ⟨hi_48, hf⟩ := ck_some hf
        refine va_iald hx hb hC.1 hC.2.1 3 0 rfl rfl hi_48 dX10_bound_48 ?_
        refine lv_bipush (v := 99) hx hb dX10_bound_49 (by decide) ?_
        obtain ⟨r_51, rest_51, hcall, hf⟩ := bnd2_some hf
        refine hc_i (va_runV (C := RX10) (As := [.int x1, .int (room x1.toNatClampNeg), .int 99]) (rest := [.ref (ad 0)]) ⟨hx, hb, hml, hown, hts⟩ (c_m_bestOf hcall) (cwV 3 hts (lw_V q1024 q1026 qs37 q59 q1027) rfl rfl rfl (by decide +kernel) ⟨(Nat.le_trans (Nat.le_of_ble_eq_true rfl) hRf), (Nat.le_trans (Nat.le_of_ble_eq_true rfl) hRl)⟩) (pre_V (q0 := 0) (ci := 10) (fun _ _ _ _ h => h) (fun _ _ _ => trivial) hC rfl rfl) rfl rfl hl.1 rfl (lv_room (Nat.le_of_ble_eq_true rfl)) dX10_bound_51 ⟨hRc, hRs⟩) hA hC (fun H locs hC => ?_)
        obtain ⟨e_1, e_2⟩ := so_2 (Option.some.inj hf)
        subst e_1
        subst e_2
        exact J_54 H locs ls hC (lv_sub hl [] rfl)
      · have hf := if_t hf c_22
        refine lv_aload_n hx hb dX10_bound_25 rfl (lv_at hl 0 rfl) ?_
        refine lv_iload_n hx hb dX10_bound_26 rfl (lv_at hl 1 rfl) ?_
        refine lv_bipush (v := 8) hx hb dX10_bound_27 (by decide) ?_
        refine lv_aload_n hx hb dX10_bound_29 rfl (lv_at hl 0 rfl) ?_
        refine va_get (ci := 10) (v := .ref (ad 4)) (C := RX10) (T := TX10) (N := 28) hx hb hts in_X10 hown hC.1 hC.2.1 0 rfl rfl 4 (by decide) (hts _ q810) (fun _ h9 => h9) rfl dX10_bound_30 ?_
        refine lv_iload_n hx hb dX10_bound_33 rfl (lv_at hl 1 rfl) ?_
        obtain ⟨hi_34, hf⟩ := ck_some hf
        refine va_iald hx hb hC.1 hC.2.1 4 0 rfl rfl hi_34 dX10_bound_34 ?_
        obtain ⟨r_35, rest_35, hcall, hf⟩ := bnd2_some hf
        refine hc_i (va_runV (C := RX10) (As := [.int x1, .int 8, .int (work x1.toNatClampNeg)]) (rest := [.ref (ad 0)]) ⟨hx, hb, hml, hown, hts⟩ (c_m_bestOf hcall) (cwV 3 hts (lw_V q1024 q1026 qs37 q59 q1027) rfl rfl rfl (by decide +kernel) ⟨(Nat.le_trans (Nat.le_of_ble_eq_true rfl) hRf), (Nat.le_trans (Nat.le_of_ble_eq_true rfl) hRl)⟩) (pre_V (q0 := 0) (ci := 10) (fun _ _ _ _ h => h) (fun _ _ _ => trivial) hC rfl rfl) rfl rfl hl.1 rfl (lv_room (Nat.le_of_ble_eq_true rfl)) dX10_bound_35 ⟨hRc, hRs⟩) hA hC (fun H locs hC => ?_)
        refine lv_goto (tgt := 54) hx hb dX10_bound_38 (by decide) ?_
        obtain ⟨e_1, e_2⟩ := so_2 (Option.some.inj hf)
        subst e_1
        subst e_2
        exact J_54 H locs ls hC (lv_sub hl [] rfl)
    · have hf := if_t hf c_15
      refine lv_iconst (v := (-1)) hx hb dX10_bound_18 (by decide) ?_
      obtain ⟨e_1, e_2⟩ := so_2 (Option.some.inj hf)
      subst e_1
      subst e_2
      exact K H locs ls _ rfl hC dX10_bound_19
set_option maxRecDepth 100000 in
theorem c_m_bound {l : Launch} {sz : Nat} {D : va_G} {d : Nat → ClassId} {ad : Nat → Nat} {w : Nat → Int32} {isKept : Nat → Int32} {people : Int32} {room : Nat → Int32} {work : Nat → Int32} {price : Nat → Int32} {askings : Int32} {asked : Nat → Int32} {hangs : Int32} {hung : Nat → Int32} {tenths : Nat → Int32} {sortWorth : Nat → Int32} {sortDays : Nat → Int32} {sorts : Int32} {text : Nat → Int32} {texted : Int32} {trace : Int64} {at_ : Int32} {fault : Int32} {readPeople : Int32} {readPerson : Nat → Int32} {readAskings : Int32} {readAsked : Nat → Int32} {readHangs : Int32} {readHung : Nat → Int32} {rest : Nat → Int32} {brings : Nat → Int64} {later : Nat → Int64} {x1 : Int32} {x2 : Int32} {r : Int32} {rest_r : Nat → Int32} (hf : m_bound w people room work askings asked rest x1 x2 = some (r, rest_r)) : MI l yX10_bound (ws_ yX10_bound cX10_bound 3 (some .int)) { frames := 3, cells := 0, slots := 0, locals := 77 } D gcl (gty d) (fun _ => True) (mw d ad w isKept people room work price askings asked hangs hung tenths sortWorth sortDays sorts text texted trace at_ fault readPeople readPerson readAskings readAsked readHangs readHung rest brings later) (mw d ad w isKept people room work price askings asked hangs hung tenths sortWorth sortDays sorts text texted trace at_ fault readPeople readPerson readAskings readAsked readHangs readHung rest_r brings later) sz [.ref (ad 0), .int x1, .int x2] r :=
  MI.of (by decide) [.ref (ad 0), .int x1, .int x2] [(0, .ref (ad 0)), (1, .int x1), (2, .int x2)] (Nat.le_of_ble_eq_true rfl) rfl (fun p e s m below meth c ls Q hx hb hml hown hts hN hA hC hl K => w_m_bound hx hb hml hown hts hA (Nat.le_refl _) (Nat.le_refl _) (Nat.le_refl _) (Nat.le_refl _) hf hC hl K)

def m_allTenths (tenths : Nat → Int32) : Option (Int32) :=
  some (((tenths (0 : Int32).toNatClampNeg) + (tenths (1 : Int32).toNatClampNeg)) + (tenths (2 : Int32).toNatClampNeg))
set_option maxHeartbeats 4000000 in
set_option maxRecDepth 100000 in
theorem w_m_allTenths {p : Program} {l : Launch} {e : Env} {R : Room} {s : State} {m : MethodId} {args : Array Value} {below : List Frame} {meth : Method} {c : Code} {H : Heap} {locs : List Loc} {cells slots : Nat} {Q : State → Prop} {A : Nat → Prop} {ls : Array Slot} {D : va_G} {d : Nat → ClassId} {ad : Nat → Nat} {w : Nat → Int32} {isKept : Nat → Int32} {people : Int32} {room : Nat → Int32} {work : Nat → Int32} {price : Nat → Int32} {askings : Int32} {asked : Nat → Int32} {hangs : Int32} {hung : Nat → Int32} {tenths : Nat → Int32} {sortWorth : Nat → Int32} {sortDays : Nat → Int32} {sorts : Int32} {text : Nat → Int32} {texted : Int32} {trace : Int64} {at_ : Int32} {fault : Int32} {readPeople : Int32} {readPerson : Nat → Int32} {readAskings : Int32} {readAsked : Nat → Int32} {readHangs : Int32} {readHung : Nat → Int32} {rest : Nat → Int32} {brings : Nat → Int64} {later : Nat → Int64} {r : Int32} (hx : p.tables.exec = Jvm.exec) (hb : c.code = cX10_allTenths) (hml : c.maxLocals = 1) (hown : s.vm.findClass RX10 = some m.cls) (hts : ∀ w ∈ lw_all, w.before args s = true) (hA : ∀ q, s.heap.size ≤ q → A q) (hRf : 0 ≤ R.frames) (hRl : 0 ≤ R.locals) (hRc : cells ≤ R.cells) (hRs : slots ≤ R.slots) (hf : m_allTenths tenths = some r) (hC : HC D gcl (gty d) A (mw d ad w isKept people room work price askings asked hangs hung tenths sortWorth sortDays sorts text texted trace at_ fault readPeople readPerson readAskings readAsked readHangs readHung rest brings later) s H locs) (hl : lv_has ls 1 [(0, .ref (ad 0))]) (K : ∀ (H : Heap) (locs : List Loc) (ls : Array Slot) (pc : Nat), narrow .int (.int r) = .int r → HC D gcl (gty d) A (mw d ad w isKept people room work price askings asked hangs hung tenths sortWorth sortDays sorts text texted trace at_ fault readPeople readPerson readAskings readAsked readHangs readHung rest brings later) s H locs → decode cX10_allTenths pc = .ok (.ireturn, 1) → W p l e R s m args below meth c H locs cells slots Q (F0 m pc ls [.int r])) : W p l e R s m args below meth c H locs cells slots Q (F0 m 0 ls []) := by
  unfold m_allTenths at hf
  refine lv_aload_n hx hb dX10_allTenths_0 rfl (lv_at hl 0 rfl) ?_
  refine va_get (ci := 10) (v := .ref (ad 8)) (C := RX10) (T := TX10) (N := 28) hx hb hts in_X10 hown hC.1 hC.2.1 0 rfl rfl 10 (by decide) (hts _ q816) (fun _ h9 => h9) rfl dX10_allTenths_1 ?_
  refine lv_iconst (v := 0) hx hb dX10_allTenths_4 (by decide) ?_
  refine va_iald hx hb hC.1 hC.2.1 8 0 rfl rfl (vp_in_iff.mpr (by decide)) dX10_allTenths_5 ?_
  refine lv_aload_n hx hb dX10_allTenths_6 rfl (lv_at hl 0 rfl) ?_
  refine va_get (ci := 10) (v := .ref (ad 8)) (C := RX10) (T := TX10) (N := 28) hx hb hts in_X10 hown hC.1 hC.2.1 0 rfl rfl 10 (by decide) (hts _ q816) (fun _ h9 => h9) rfl dX10_allTenths_7 ?_
  refine lv_iconst (v := 1) hx hb dX10_allTenths_10 (by decide) ?_
  refine va_iald hx hb hC.1 hC.2.1 8 0 rfl rfl (vp_in_iff.mpr (by decide)) dX10_allTenths_11 ?_
  refine lv_iadd hx hb dX10_allTenths_12 ?_
  refine lv_aload_n hx hb dX10_allTenths_13 rfl (lv_at hl 0 rfl) ?_
  refine va_get (ci := 10) (v := .ref (ad 8)) (C := RX10) (T := TX10) (N := 28) hx hb hts in_X10 hown hC.1 hC.2.1 0 rfl rfl 10 (by decide) (hts _ q816) (fun _ h9 => h9) rfl dX10_allTenths_14 ?_
  refine lv_iconst (v := 2) hx hb dX10_allTenths_17 (by decide) ?_
  refine va_iald hx hb hC.1 hC.2.1 8 0 rfl rfl (vp_in_iff.mpr (by decide)) dX10_allTenths_18 ?_
  refine lv_iadd hx hb dX10_allTenths_19 ?_
  have e_1 := (Option.some.inj hf)
  subst e_1
  exact K H locs ls _ rfl hC dX10_allTenths_20
set_option maxRecDepth 100000 in
theorem c_m_allTenths {l : Launch} {sz : Nat} {D : va_G} {d : Nat → ClassId} {ad : Nat → Nat} {w : Nat → Int32} {isKept : Nat → Int32} {people : Int32} {room : Nat → Int32} {work : Nat → Int32} {price : Nat → Int32} {askings : Int32} {asked : Nat → Int32} {hangs : Int32} {hung : Nat → Int32} {tenths : Nat → Int32} {sortWorth : Nat → Int32} {sortDays : Nat → Int32} {sorts : Int32} {text : Nat → Int32} {texted : Int32} {trace : Int64} {at_ : Int32} {fault : Int32} {readPeople : Int32} {readPerson : Nat → Int32} {readAskings : Int32} {readAsked : Nat → Int32} {readHangs : Int32} {readHung : Nat → Int32} {rest : Nat → Int32} {brings : Nat → Int64} {later : Nat → Int64} {r : Int32} (hf : m_allTenths tenths = some r) : MI l yX10_allTenths (ws_ yX10_allTenths cX10_allTenths 1 (some .int)) { frames := 0, cells := 0, slots := 0, locals := 0 } D gcl (gty d) (fun _ => True) (mw d ad w isKept people room work price askings asked hangs hung tenths sortWorth sortDays sorts text texted trace at_ fault readPeople readPerson readAskings readAsked readHangs readHung rest brings later) (mw d ad w isKept people room work price askings asked hangs hung tenths sortWorth sortDays sorts text texted trace at_ fault readPeople readPerson readAskings readAsked readHangs readHung rest brings later) sz [.ref (ad 0)] r :=
  MI.of (by decide) [.ref (ad 0)] [(0, .ref (ad 0))] (Nat.le_of_ble_eq_true rfl) rfl (fun p e s m below meth c ls Q hx hb hml hown hts hN hA hC hl K => w_m_allTenths hx hb hml hown hts hA (Nat.le_refl _) (Nat.le_refl _) (Nat.le_refl _) (Nat.le_refl _) hf hC hl K)

def m_sort (tenths : Nat → Int32) (sortWorth : Nat → Int32) (sortDays : Nat → Int32) (sorts : Int32) (x1 : Int32) (x2 : Int32) (x3 : Int32) (x4 : Int32) : Option (Int32 × (Nat → Int32) × (Nat → Int32) × (Nat → Int32) × Int32) :=
  bnd (m_in x1.toInt64 0 2) fun r_6 =>
  bnd (if r_6 = 0 then (some (0)) else
  bnd (m_in x2.toInt64 0 10) fun r_18 =>
  if r_18 = 0 then (some (0)) else
  bnd (m_in x3.toInt64 1 99) fun r_30 =>
  if r_30 = 0 then (some (0)) else
  bnd (m_in x4.toInt64 1 3) fun r_43 =>
  if r_43 = 0 then (some (0)) else
  some (1)) (fun (t_54 : Int32) =>
  if t_54 = 0 then (some ((-1), tenths, sortWorth, sortDays, sorts)) else
  bnd (m_allTenths tenths) fun r_62 =>
  ck x1 3 <| if ((r_62 - (tenths x1.toNatClampNeg)) + x2) ≤ 10 then (ck x1 3 <| ck x1 3 <| ck x1 3 <| bnd (m_allTenths (upd tenths x1.toNatClampNeg x2)) fun r_116 =>
  some (r_116, upd tenths x1.toNatClampNeg x2, upd sortWorth x1.toNatClampNeg x3, upd sortDays x1.toNatClampNeg x4, sorts ||| (1 <<< (x1 &&& 31)))) else
  some ((-1), tenths, sortWorth, sortDays, sorts))
set_option maxHeartbeats 4000000 in
set_option maxRecDepth 100000 in
theorem w_m_sort {p : Program} {l : Launch} {e : Env} {R : Room} {s : State} {m : MethodId} {args : Array Value} {below : List Frame} {meth : Method} {c : Code} {H : Heap} {locs : List Loc} {cells slots : Nat} {Q : State → Prop} {A : Nat → Prop} {ls : Array Slot} {D : va_G} {d : Nat → ClassId} {ad : Nat → Nat} {w : Nat → Int32} {isKept : Nat → Int32} {people : Int32} {room : Nat → Int32} {work : Nat → Int32} {price : Nat → Int32} {askings : Int32} {asked : Nat → Int32} {hangs : Int32} {hung : Nat → Int32} {tenths : Nat → Int32} {sortWorth : Nat → Int32} {sortDays : Nat → Int32} {sorts : Int32} {text : Nat → Int32} {texted : Int32} {trace : Int64} {at_ : Int32} {fault : Int32} {readPeople : Int32} {readPerson : Nat → Int32} {readAskings : Int32} {readAsked : Nat → Int32} {readHangs : Int32} {readHung : Nat → Int32} {rest : Nat → Int32} {brings : Nat → Int64} {later : Nat → Int64} {x1 : Int32} {x2 : Int32} {x3 : Int32} {x4 : Int32} {r : Int32} {tenths_r : Nat → Int32} {sortWorth_r : Nat → Int32} {sortDays_r : Nat → Int32} {sorts_r : Int32} (hx : p.tables.exec = Jvm.exec) (hb : c.code = cX10_sort) (hml : c.maxLocals = 6) (hown : s.vm.findClass RX10 = some m.cls) (hts : ∀ w ∈ lw_all, w.before args s = true) (hA : ∀ q, s.heap.size ≤ q → A q) (hRf : 1 ≤ R.frames) (hRl : 25 ≤ R.locals) (hRc : cells ≤ R.cells) (hRs : slots ≤ R.slots) (hf : m_sort tenths sortWorth sortDays sorts x1 x2 x3 x4 = some (r, tenths_r, sortWorth_r, sortDays_r, sorts_r)) (hC : HC D gcl (gty d) A (mw d ad w isKept people room work price askings asked hangs hung tenths sortWorth sortDays sorts text texted trace at_ fault readPeople readPerson readAskings readAsked readHangs readHung rest brings later) s H locs) (hl : lv_has ls 6 [(0, .ref (ad 0)), (1, .int x1), (2, .int x2), (3, .int x3), (4, .int x4)]) (K : ∀ (H : Heap) (locs : List Loc) (ls : Array Slot) (pc : Nat), narrow .int (.int r) = .int r → HC D gcl (gty d) A (mw d ad w isKept people room work price askings asked hangs hung tenths_r sortWorth_r sortDays_r sorts_r text texted trace at_ fault readPeople readPerson readAskings readAsked readHangs readHung rest brings later) s H locs → decode cX10_sort pc = .ok (.ireturn, 1) → W p l e R s m args below meth c H locs cells slots Q (F0 m pc ls [.int r])) : W p l e R s m args below meth c H locs cells slots Q (F0 m 0 ls []) := by
  unfold m_sort at hf
  refine lv_iload_n hx hb dX10_sort_0 rfl (lv_at hl 1 rfl) ?_
  refine lv_i2l (v := x1.toInt64) hx hb dX10_sort_1 rfl ?_
  refine lv_lconst (v := 0) hx hb dX10_sort_2 (by decide) ?_
  refine lv_ldc2 (v := 2) hx hb hown (hts _ q1050) dX10_sort_3 ?_
  obtain ⟨r_6, hcall, hf⟩ := bnd_some hf
  refine hc_i (va_runS (As := [.long x1.toInt64, .long 0, .long 2]) (rest := []) ⟨hx, hb, hml, hown, hts⟩ (c_m_in hcall) (va_cwS 3 hts (lw_S q898 q899 q59 q900) rfl rfl rfl (by decide +kernel) ⟨(Nat.le_trans (Nat.le_of_ble_eq_true rfl) hRf), (Nat.le_trans (Nat.le_of_ble_eq_true rfl) hRl)⟩) (pre_S (fun _ _ _ _ h => h) (fun _ _ _ => trivial) hC) rfl rfl hl.1 rfl (lv_room (Nat.le_of_ble_eq_true rfl)) dX10_sort_6 ⟨hRc, hRs⟩) hA hC (fun H locs hC => ?_)
  obtain ⟨t_54, hj, hf⟩ := bnd_some hf
  have J_54 : ∀ (H : Heap) (locs : List Loc) (ls : Array Slot), HC D gcl (gty d) A (mw d ad w isKept people room work price askings asked hangs hung tenths sortWorth sortDays sorts text texted trace at_ fault readPeople readPerson readAskings readAsked readHangs readHung rest brings later) s H locs → lv_has ls 6 [(0, .ref (ad 0)), (1, .int x1), (2, .int x2), (3, .int x3), (4, .int x4)] → W p l e R s m args below meth c H locs cells slots Q (F0 m 54 ls [.int t_54]) := by
    intro H locs ls hC hl
    refine lv_istore (lv' := [(5, .int t_54), (0, .ref (ad 0)), (1, .int x1), (2, .int x2), (3, .int x3), (4, .int x4)]) hx hb dX10_sort_54 hl (by decide) rfl (fun ls hl => ?_)
    refine lv_iload hx hb dX10_sort_56 (lv_at hl 0 rfl) ?_
    refine lv_if_eq (tgt := 79) hx hb dX10_sort_58 (by decide) (fun c_58 => ?_) (fun c_58 => ?_)
    · have hf := if_t hf c_58
      refine lv_iconst (v := (-1)) hx hb dX10_sort_79 (by decide) ?_
      obtain ⟨e_1, e_2, e_3, e_4, e_5⟩ := so_5 (Option.some.inj hf)
      subst e_1
      subst e_2
      subst e_3
      subst e_4
      subst e_5
      exact K H locs ls _ rfl hC dX10_sort_80
    · have hf := if_f hf c_58
      refine lv_aload_n hx hb dX10_sort_61 rfl (lv_at hl 1 rfl) ?_
      obtain ⟨r_62, hcall, hf⟩ := bnd_some hf
      refine hc_i (va_runV (C := RX10) (As := []) (rest := []) ⟨hx, hb, hml, hown, hts⟩ (c_m_allTenths hcall) (cwV 0 hts (lw_V q1053 q1055 qs40 q59 q1056) rfl rfl rfl (by decide +kernel) ⟨(Nat.le_trans (Nat.le_of_ble_eq_true rfl) hRf), (Nat.le_trans (Nat.le_of_ble_eq_true rfl) hRl)⟩) (pre_V (q0 := 0) (ci := 10) (fun _ _ _ _ h => h) (fun _ _ _ => trivial) hC rfl rfl) rfl rfl hl.1 rfl (lv_room (Nat.le_of_ble_eq_true rfl)) dX10_sort_62 ⟨hRc, hRs⟩) hA hC (fun H locs hC => ?_)
      refine lv_aload_n hx hb dX10_sort_65 rfl (lv_at hl 1 rfl) ?_
      refine va_get (ci := 10) (v := .ref (ad 8)) (C := RX10) (T := TX10) (N := 28) hx hb hts in_X10 hown hC.1 hC.2.1 0 rfl rfl 10 (by decide) (hts _ q816) (fun _ h9 => h9) rfl dX10_sort_66 ?_
      refine lv_iload_n hx hb dX10_sort_69 rfl (lv_at hl 2 rfl) ?_
      obtain ⟨hi_70, hf⟩ := ck_some hf
      refine va_iald hx hb hC.1 hC.2.1 8 0 rfl rfl hi_70 dX10_sort_70 ?_
      refine lv_isub hx hb dX10_sort_71 ?_
      refine lv_iload_n hx hb dX10_sort_72 rfl (lv_at hl 3 rfl) ?_
      refine lv_iadd hx hb dX10_sort_73 ?_
      refine lv_bipush (v := 10) hx hb dX10_sort_74 (by decide) ?_
      refine lv_icmp_le (tgt := 81) hx hb dX10_sort_76 (by decide) (fun c_76 => ?_) (fun c_76 => ?_)
      · have hf := if_t hf c_76
        refine lv_aload_n hx hb dX10_sort_81 rfl (lv_at hl 1 rfl) ?_
        refine va_get (ci := 10) (v := .ref (ad 8)) (C := RX10) (T := TX10) (N := 28) hx hb hts in_X10 hown hC.1 hC.2.1 0 rfl rfl 10 (by decide) (hts _ q816) (fun _ h9 => h9) rfl dX10_sort_82 ?_
        refine lv_iload_n hx hb dX10_sort_85 rfl (lv_at hl 2 rfl) ?_
        refine lv_iload_n hx hb dX10_sort_86 rfl (lv_at hl 3 rfl) ?_
        obtain ⟨hi_87, hf⟩ := ck_some hf
        refine va_iast hx hb hC.1 hC.2.1 hC.2.2.1 hC.2.2.2 8 0 rfl rfl hi_87 dX10_sort_87 (fun H locs hP hD hS => ?_)
        have hC : HC D gcl (gty d) A (mw d ad w isKept people room work price askings asked hangs hung (upd tenths x1.toNatClampNeg x2) sortWorth sortDays sorts text texted trace at_ fault readPeople readPerson readAskings readAsked readHangs readHung rest brings later) s H locs := ⟨hC.1, hP, hD, hS⟩
        refine lv_aload_n hx hb dX10_sort_88 rfl (lv_at hl 1 rfl) ?_
        refine va_get (ci := 10) (v := .ref (ad 9)) (C := RX10) (T := TX10) (N := 28) hx hb hts in_X10 hown hC.1 hC.2.1 0 rfl rfl 11 (by decide) (hts _ q817) (fun _ h9 => h9) rfl dX10_sort_89 ?_
        refine lv_iload_n hx hb dX10_sort_92 rfl (lv_at hl 2 rfl) ?_
        refine lv_iload_n hx hb dX10_sort_93 rfl (lv_at hl 4 rfl) ?_
        obtain ⟨hi_94, hf⟩ := ck_some hf
        refine va_iast hx hb hC.1 hC.2.1 hC.2.2.1 hC.2.2.2 9 0 rfl rfl hi_94 dX10_sort_94 (fun H locs hP hD hS => ?_)
        have hC : HC D gcl (gty d) A (mw d ad w isKept people room work price askings asked hangs hung (upd tenths x1.toNatClampNeg x2) (upd sortWorth x1.toNatClampNeg x3) sortDays sorts text texted trace at_ fault readPeople readPerson readAskings readAsked readHangs readHung rest brings later) s H locs := ⟨hC.1, hP, hD, hS⟩
        refine lv_aload_n hx hb dX10_sort_95 rfl (lv_at hl 1 rfl) ?_
        refine va_get (ci := 10) (v := .ref (ad 10)) (C := RX10) (T := TX10) (N := 28) hx hb hts in_X10 hown hC.1 hC.2.1 0 rfl rfl 12 (by decide) (hts _ q818) (fun _ h9 => h9) rfl dX10_sort_96 ?_
        refine lv_iload_n hx hb dX10_sort_99 rfl (lv_at hl 2 rfl) ?_
        refine lv_iload hx hb dX10_sort_100 (lv_at hl 5 rfl) ?_
        obtain ⟨hi_102, hf⟩ := ck_some hf
        refine va_iast hx hb hC.1 hC.2.1 hC.2.2.1 hC.2.2.2 10 0 rfl rfl hi_102 dX10_sort_102 (fun H locs hP hD hS => ?_)
        have hC : HC D gcl (gty d) A (mw d ad w isKept people room work price askings asked hangs hung (upd tenths x1.toNatClampNeg x2) (upd sortWorth x1.toNatClampNeg x3) (upd sortDays x1.toNatClampNeg x4) sorts text texted trace at_ fault readPeople readPerson readAskings readAsked readHangs readHung rest brings later) s H locs := ⟨hC.1, hP, hD, hS⟩
        refine lv_aload_n hx hb dX10_sort_103 rfl (lv_at hl 1 rfl) ?_
        refine lv_dup hx hb dX10_sort_104 rfl ?_
        refine va_get (ci := 10) (v := .int sorts) (C := RX10) (T := TX10) (N := 28) hx hb hts in_X10 hown hC.1 hC.2.1 0 rfl rfl 13 (by decide) (hts _ q819) (fun _ h9 => h9) rfl dX10_sort_105 ?_
        refine lv_iconst (v := 1) hx hb dX10_sort_108 (by decide) ?_
        refine lv_iload_n hx hb dX10_sort_109 rfl (lv_at hl 2 rfl) ?_
        refine lv_ishl hx hb dX10_sort_110 ?_
        refine lv_ior hx hb dX10_sort_111 ?_
        refine va_put (ci := 10) (v := .int (sorts ||| (1 <<< (x1 &&& 31)))) (ty := .int) (C := RX10) (T := TX10) (N := 28) hx hb hts in_X10 tyX10 tyX10_ok nmX10 hown hC.1 hC.2.1 hC.2.2.1 hC.2.2.2 0 rfl rfl 13 (by decide) (hts _ q819) (fun _ h9 => h9) rfl (tyX10_ok 13 (by decide)) rfl rfl (Nat.le_of_ble_eq_true rfl) dX10_sort_112 (fun H locs hP hD hS => ?_)
        have hC : HC D gcl (gty d) A (mw d ad w isKept people room work price askings asked hangs hung (upd tenths x1.toNatClampNeg x2) (upd sortWorth x1.toNatClampNeg x3) (upd sortDays x1.toNatClampNeg x4) (sorts ||| (1 <<< (x1 &&& 31))) text texted trace at_ fault readPeople readPerson readAskings readAsked readHangs readHung rest brings later) s H locs := ⟨hC.1, hP, hD, hS⟩
        refine lv_aload_n hx hb dX10_sort_115 rfl (lv_at hl 1 rfl) ?_
        obtain ⟨r_116, hcall, hf⟩ := bnd_some hf
        refine hc_i (va_runV (C := RX10) (As := []) (rest := []) ⟨hx, hb, hml, hown, hts⟩ (c_m_allTenths hcall) (cwV 0 hts (lw_V q1053 q1055 qs40 q59 q1056) rfl rfl rfl (by decide +kernel) ⟨(Nat.le_trans (Nat.le_of_ble_eq_true rfl) hRf), (Nat.le_trans (Nat.le_of_ble_eq_true rfl) hRl)⟩) (pre_V (q0 := 0) (ci := 10) (fun _ _ _ _ h => h) (fun _ _ _ => trivial) hC rfl rfl) rfl rfl hl.1 rfl (lv_room (Nat.le_of_ble_eq_true rfl)) dX10_sort_116 ⟨hRc, hRs⟩) hA hC (fun H locs hC => ?_)
        obtain ⟨e_1, e_2, e_3, e_4, e_5⟩ := so_5 (Option.some.inj hf)
        subst e_1
        subst e_2
        subst e_3
        subst e_4
        subst e_5
        exact K H locs ls _ rfl hC dX10_sort_119
      · have hf := if_f hf c_76
        refine lv_iconst (v := (-1)) hx hb dX10_sort_79 (by decide) ?_
        obtain ⟨e_1, e_2, e_3, e_4, e_5⟩ := so_5 (Option.some.inj hf)
        subst e_1
        subst e_2
        subst e_3
        subst e_4
        subst e_5
        exact K H locs ls _ rfl hC dX10_sort_80
  have hf := hj
  refine lv_if_eq (tgt := 53) hx hb dX10_sort_9 (by decide) (fun c_9 => ?_) (fun c_9 => ?_)
  · have hf := if_t hf c_9
    refine lv_iconst (v := 0) hx hb dX10_sort_53 (by decide) ?_
    have e_1 := (Option.some.inj hf)
    subst e_1
    exact J_54 H locs ls hC (lv_sub hl [0, 1, 2, 3, 4] rfl)
  · have hf := if_f hf c_9
    refine lv_iload_n hx hb dX10_sort_12 rfl (lv_at hl 2 rfl) ?_
    refine lv_i2l (v := x2.toInt64) hx hb dX10_sort_13 rfl ?_
    refine lv_lconst (v := 0) hx hb dX10_sort_14 (by decide) ?_
    refine lv_ldc2 (v := 10) hx hb hown (hts _ q1051) dX10_sort_15 ?_
    obtain ⟨r_18, hcall, hf⟩ := bnd_some hf
    refine hc_i (va_runS (As := [.long x2.toInt64, .long 0, .long 10]) (rest := []) ⟨hx, hb, hml, hown, hts⟩ (c_m_in hcall) (va_cwS 3 hts (lw_S q898 q899 q59 q900) rfl rfl rfl (by decide +kernel) ⟨(Nat.le_trans (Nat.le_of_ble_eq_true rfl) hRf), (Nat.le_trans (Nat.le_of_ble_eq_true rfl) hRl)⟩) (pre_S (fun _ _ _ _ h => h) (fun _ _ _ => trivial) hC) rfl rfl hl.1 rfl (lv_room (Nat.le_of_ble_eq_true rfl)) dX10_sort_18 ⟨hRc, hRs⟩) hA hC (fun H locs hC => ?_)
    refine lv_if_eq (tgt := 53) hx hb dX10_sort_21 (by decide) (fun c_21 => ?_) (fun c_21 => ?_)
    · have hf := if_t hf c_21
      refine lv_iconst (v := 0) hx hb dX10_sort_53 (by decide) ?_
      have e_1 := (Option.some.inj hf)
      subst e_1
      exact J_54 H locs ls hC (lv_sub hl [0, 1, 2, 3, 4] rfl)
    · have hf := if_f hf c_21
      refine lv_iload_n hx hb dX10_sort_24 rfl (lv_at hl 3 rfl) ?_
      refine lv_i2l (v := x3.toInt64) hx hb dX10_sort_25 rfl ?_
      refine lv_lconst (v := 1) hx hb dX10_sort_26 (by decide) ?_
      refine lv_ldc2 (v := 99) hx hb hown (hts _ q1052) dX10_sort_27 ?_
      obtain ⟨r_30, hcall, hf⟩ := bnd_some hf
      refine hc_i (va_runS (As := [.long x3.toInt64, .long 1, .long 99]) (rest := []) ⟨hx, hb, hml, hown, hts⟩ (c_m_in hcall) (va_cwS 3 hts (lw_S q898 q899 q59 q900) rfl rfl rfl (by decide +kernel) ⟨(Nat.le_trans (Nat.le_of_ble_eq_true rfl) hRf), (Nat.le_trans (Nat.le_of_ble_eq_true rfl) hRl)⟩) (pre_S (fun _ _ _ _ h => h) (fun _ _ _ => trivial) hC) rfl rfl hl.1 rfl (lv_room (Nat.le_of_ble_eq_true rfl)) dX10_sort_30 ⟨hRc, hRs⟩) hA hC (fun H locs hC => ?_)
      refine lv_if_eq (tgt := 53) hx hb dX10_sort_33 (by decide) (fun c_33 => ?_) (fun c_33 => ?_)
      · have hf := if_t hf c_33
        refine lv_iconst (v := 0) hx hb dX10_sort_53 (by decide) ?_
        have e_1 := (Option.some.inj hf)
        subst e_1
        exact J_54 H locs ls hC (lv_sub hl [0, 1, 2, 3, 4] rfl)
      · have hf := if_f hf c_33
        refine lv_iload hx hb dX10_sort_36 (lv_at hl 4 rfl) ?_
        refine lv_i2l (v := x4.toInt64) hx hb dX10_sort_38 rfl ?_
        refine lv_lconst (v := 1) hx hb dX10_sort_39 (by decide) ?_
        refine lv_ldc2 (v := 3) hx hb hown (hts _ q946) dX10_sort_40 ?_
        obtain ⟨r_43, hcall, hf⟩ := bnd_some hf
        refine hc_i (va_runS (As := [.long x4.toInt64, .long 1, .long 3]) (rest := []) ⟨hx, hb, hml, hown, hts⟩ (c_m_in hcall) (va_cwS 3 hts (lw_S q898 q899 q59 q900) rfl rfl rfl (by decide +kernel) ⟨(Nat.le_trans (Nat.le_of_ble_eq_true rfl) hRf), (Nat.le_trans (Nat.le_of_ble_eq_true rfl) hRl)⟩) (pre_S (fun _ _ _ _ h => h) (fun _ _ _ => trivial) hC) rfl rfl hl.1 rfl (lv_room (Nat.le_of_ble_eq_true rfl)) dX10_sort_43 ⟨hRc, hRs⟩) hA hC (fun H locs hC => ?_)
        refine lv_if_eq (tgt := 53) hx hb dX10_sort_46 (by decide) (fun c_46 => ?_) (fun c_46 => ?_)
        · have hf := if_t hf c_46
          refine lv_iconst (v := 0) hx hb dX10_sort_53 (by decide) ?_
          have e_1 := (Option.some.inj hf)
          subst e_1
          exact J_54 H locs ls hC (lv_sub hl [0, 1, 2, 3, 4] rfl)
        · have hf := if_f hf c_46
          refine lv_iconst (v := 1) hx hb dX10_sort_49 (by decide) ?_
          refine lv_goto (tgt := 54) hx hb dX10_sort_50 (by decide) ?_
          have e_1 := (Option.some.inj hf)
          subst e_1
          exact J_54 H locs ls hC (lv_sub hl [0, 1, 2, 3, 4] rfl)
set_option maxRecDepth 100000 in
theorem c_m_sort {l : Launch} {sz : Nat} {D : va_G} {d : Nat → ClassId} {ad : Nat → Nat} {w : Nat → Int32} {isKept : Nat → Int32} {people : Int32} {room : Nat → Int32} {work : Nat → Int32} {price : Nat → Int32} {askings : Int32} {asked : Nat → Int32} {hangs : Int32} {hung : Nat → Int32} {tenths : Nat → Int32} {sortWorth : Nat → Int32} {sortDays : Nat → Int32} {sorts : Int32} {text : Nat → Int32} {texted : Int32} {trace : Int64} {at_ : Int32} {fault : Int32} {readPeople : Int32} {readPerson : Nat → Int32} {readAskings : Int32} {readAsked : Nat → Int32} {readHangs : Int32} {readHung : Nat → Int32} {rest : Nat → Int32} {brings : Nat → Int64} {later : Nat → Int64} {x1 : Int32} {x2 : Int32} {x3 : Int32} {x4 : Int32} {r : Int32} {tenths_r : Nat → Int32} {sortWorth_r : Nat → Int32} {sortDays_r : Nat → Int32} {sorts_r : Int32} (hf : m_sort tenths sortWorth sortDays sorts x1 x2 x3 x4 = some (r, tenths_r, sortWorth_r, sortDays_r, sorts_r)) : MI l yX10_sort (ws_ yX10_sort cX10_sort 6 (some .int)) { frames := 1, cells := 0, slots := 0, locals := 25 } D gcl (gty d) (fun _ => True) (mw d ad w isKept people room work price askings asked hangs hung tenths sortWorth sortDays sorts text texted trace at_ fault readPeople readPerson readAskings readAsked readHangs readHung rest brings later) (mw d ad w isKept people room work price askings asked hangs hung tenths_r sortWorth_r sortDays_r sorts_r text texted trace at_ fault readPeople readPerson readAskings readAsked readHangs readHung rest brings later) sz [.ref (ad 0), .int x1, .int x2, .int x3, .int x4] r :=
  MI.of (by decide) [.ref (ad 0), .int x1, .int x2, .int x3, .int x4] [(0, .ref (ad 0)), (1, .int x1), (2, .int x2), (3, .int x3), (4, .int x4)] (Nat.le_of_ble_eq_true rfl) rfl (fun p e s m below meth c ls Q hx hb hml hown hts hN hA hC hl K => w_m_sort hx hb hml hown hts hA (Nat.le_refl _) (Nat.le_refl _) (Nat.le_refl _) (Nat.le_refl _) hf hC hl K)

def m_behind (sortDays : Nat → Int32) (x1 : Int32) (x2 : Int32) : Option (Int32) :=
  ck x2 3 <| ltv (if (sortDays x2.toNatClampNeg) = 2 then (1) else
  0) (fun (t_17 : Int32) =>
  ck x2 3 <| if (sortDays x2.toNatClampNeg) = 3 then (some ((2 * (x1 + t_17)) + 1)) else
  some ((2 * (x1 + t_17)) + 0))
set_option maxHeartbeats 4000000 in
set_option maxRecDepth 100000 in
theorem w_m_behind {p : Program} {l : Launch} {e : Env} {R : Room} {s : State} {m : MethodId} {args : Array Value} {below : List Frame} {meth : Method} {c : Code} {H : Heap} {locs : List Loc} {cells slots : Nat} {Q : State → Prop} {A : Nat → Prop} {ls : Array Slot} {D : va_G} {d : Nat → ClassId} {ad : Nat → Nat} {w : Nat → Int32} {isKept : Nat → Int32} {people : Int32} {room : Nat → Int32} {work : Nat → Int32} {price : Nat → Int32} {askings : Int32} {asked : Nat → Int32} {hangs : Int32} {hung : Nat → Int32} {tenths : Nat → Int32} {sortWorth : Nat → Int32} {sortDays : Nat → Int32} {sorts : Int32} {text : Nat → Int32} {texted : Int32} {trace : Int64} {at_ : Int32} {fault : Int32} {readPeople : Int32} {readPerson : Nat → Int32} {readAskings : Int32} {readAsked : Nat → Int32} {readHangs : Int32} {readHung : Nat → Int32} {rest : Nat → Int32} {brings : Nat → Int64} {later : Nat → Int64} {x1 : Int32} {x2 : Int32} {r : Int32} (hx : p.tables.exec = Jvm.exec) (hb : c.code = cX10_behind) (hml : c.maxLocals = 3) (hown : s.vm.findClass RX10 = some m.cls) (hts : ∀ w ∈ lw_all, w.before args s = true) (hA : ∀ q, s.heap.size ≤ q → A q) (hRf : 0 ≤ R.frames) (hRl : 0 ≤ R.locals) (hRc : cells ≤ R.cells) (hRs : slots ≤ R.slots) (hf : m_behind sortDays x1 x2 = some r) (hC : HC D gcl (gty d) A (mw d ad w isKept people room work price askings asked hangs hung tenths sortWorth sortDays sorts text texted trace at_ fault readPeople readPerson readAskings readAsked readHangs readHung rest brings later) s H locs) (hl : lv_has ls 3 [(0, .ref (ad 0)), (1, .int x1), (2, .int x2)]) (K : ∀ (H : Heap) (locs : List Loc) (ls : Array Slot) (pc : Nat), narrow .int (.int r) = .int r → HC D gcl (gty d) A (mw d ad w isKept people room work price askings asked hangs hung tenths sortWorth sortDays sorts text texted trace at_ fault readPeople readPerson readAskings readAsked readHangs readHung rest brings later) s H locs → decode cX10_behind pc = .ok (.ireturn, 1) → W p l e R s m args below meth c H locs cells slots Q (F0 m pc ls [.int r])) : W p l e R s m args below meth c H locs cells slots Q (F0 m 0 ls []) := by
  unfold m_behind at hf
  refine lv_iconst (v := 2) hx hb dX10_behind_0 (by decide) ?_
  refine lv_iload_n hx hb dX10_behind_1 rfl (lv_at hl 1 rfl) ?_
  refine lv_aload_n hx hb dX10_behind_2 rfl (lv_at hl 0 rfl) ?_
  refine va_get (ci := 10) (v := .ref (ad 10)) (C := RX10) (T := TX10) (N := 28) hx hb hts in_X10 hown hC.1 hC.2.1 0 rfl rfl 12 (by decide) (hts _ q818) (fun _ h9 => h9) rfl dX10_behind_3 ?_
  refine lv_iload_n hx hb dX10_behind_6 rfl (lv_at hl 2 rfl) ?_
  obtain ⟨hi_7, hf⟩ := ck_some hf
  refine va_iald hx hb hC.1 hC.2.1 10 0 rfl rfl hi_7 dX10_behind_7 ?_
  refine lv_iconst (v := 2) hx hb dX10_behind_8 (by decide) ?_
  obtain ⟨t_17, hj, hf⟩ := ltv_some hf
  refine wj (g1 := F0 m 17 ls [.int t_17, .int x1, .int 2]) ?_ (fun J_17 => ?_)
  · refine lv_iadd hx hb dX10_behind_17 ?_
    refine lv_imul hx hb dX10_behind_18 ?_
    refine lv_aload_n hx hb dX10_behind_19 rfl (lv_at hl 0 rfl) ?_
    refine va_get (ci := 10) (v := .ref (ad 10)) (C := RX10) (T := TX10) (N := 28) hx hb hts in_X10 hown hC.1 hC.2.1 0 rfl rfl 12 (by decide) (hts _ q818) (fun _ h9 => h9) rfl dX10_behind_20 ?_
    refine lv_iload_n hx hb dX10_behind_23 rfl (lv_at hl 2 rfl) ?_
    obtain ⟨hi_24, hf⟩ := ck_some hf
    refine va_iald hx hb hC.1 hC.2.1 10 0 rfl rfl hi_24 dX10_behind_24 ?_
    refine lv_iconst (v := 3) hx hb dX10_behind_25 (by decide) ?_
    refine lv_icmp_ne (tgt := 33) hx hb dX10_behind_26 (by decide) (fun c_26 => ?_) (fun c_26 => ?_)
    · have hf := if_f hf c_26
      refine lv_iconst (v := 0) hx hb dX10_behind_33 (by decide) ?_
      refine lv_iadd hx hb dX10_behind_34 ?_
      have e_1 := (Option.some.inj hf)
      subst e_1
      exact K H locs ls _ rfl hC dX10_behind_35
    · have hf := if_t hf c_26
      refine lv_iconst (v := 1) hx hb dX10_behind_29 (by decide) ?_
      refine lv_goto (tgt := 34) hx hb dX10_behind_30 (by decide) ?_
      refine lv_iadd hx hb dX10_behind_34 ?_
      have e_1 := (Option.some.inj hf)
      subst e_1
      exact K H locs ls _ rfl hC dX10_behind_35
  · have hf := hj
    refine lv_icmp_ne (tgt := 16) hx hb dX10_behind_9 (by decide) (fun c_9 => ?_) (fun c_9 => ?_)
    · have hf := if_f hf c_9
      refine lv_iconst (v := 0) hx hb dX10_behind_16 (by decide) ?_
      have e_1 := hf
      subst e_1
      exact J_17
    · have hf := if_t hf c_9
      refine lv_iconst (v := 1) hx hb dX10_behind_12 (by decide) ?_
      refine lv_goto (tgt := 17) hx hb dX10_behind_13 (by decide) ?_
      have e_1 := hf
      subst e_1
      exact J_17
set_option maxRecDepth 100000 in
theorem c_m_behind {l : Launch} {sz : Nat} {D : va_G} {d : Nat → ClassId} {ad : Nat → Nat} {w : Nat → Int32} {isKept : Nat → Int32} {people : Int32} {room : Nat → Int32} {work : Nat → Int32} {price : Nat → Int32} {askings : Int32} {asked : Nat → Int32} {hangs : Int32} {hung : Nat → Int32} {tenths : Nat → Int32} {sortWorth : Nat → Int32} {sortDays : Nat → Int32} {sorts : Int32} {text : Nat → Int32} {texted : Int32} {trace : Int64} {at_ : Int32} {fault : Int32} {readPeople : Int32} {readPerson : Nat → Int32} {readAskings : Int32} {readAsked : Nat → Int32} {readHangs : Int32} {readHung : Nat → Int32} {rest : Nat → Int32} {brings : Nat → Int64} {later : Nat → Int64} {x1 : Int32} {x2 : Int32} {r : Int32} (hf : m_behind sortDays x1 x2 = some r) : MI l yX10_behind (ws_ yX10_behind cX10_behind 3 (some .int)) { frames := 0, cells := 0, slots := 0, locals := 0 } D gcl (gty d) (fun _ => True) (mw d ad w isKept people room work price askings asked hangs hung tenths sortWorth sortDays sorts text texted trace at_ fault readPeople readPerson readAskings readAsked readHangs readHung rest brings later) (mw d ad w isKept people room work price askings asked hangs hung tenths sortWorth sortDays sorts text texted trace at_ fault readPeople readPerson readAskings readAsked readHangs readHung rest brings later) sz [.ref (ad 0), .int x1, .int x2] r :=
  MI.of (by decide) [.ref (ad 0), .int x1, .int x2] [(0, .ref (ad 0)), (1, .int x1), (2, .int x2)] (Nat.le_of_ble_eq_true rfl) rfl (fun p e s m below meth c ls Q hx hb hml hown hts hN hA hC hl K => w_m_behind hx hb hml hown hts hA (Nat.le_refl _) (Nat.le_refl _) (Nat.le_refl _) (Nat.le_refl _) hf hC hl K)

def m_findBrings_L2 : Nat → Int32 → (Nat → Int64) → Option ((Nat → Int64))
  | 0, _, _ => none
  | n_2 + 1, x3_2, brings_2 =>
  if 12 ≤ x3_2 then (some brings_2) else
  ck x3_2 12 <| m_findBrings_L2 n_2 (x3_2 + 1) (vp_updL brings_2 x3_2.toNatClampNeg 0)
theorem m_findBrings_L2_s (n_2 : Nat) (x3_2 : Int32) (brings_2 : Nat → Int64) : m_findBrings_L2 (n_2 + 1) x3_2 brings_2 = (
  if 12 ≤ x3_2 then (some brings_2) else
  ck x3_2 12 <| m_findBrings_L2 n_2 (x3_2 + 1) (vp_updL brings_2 x3_2.toNatClampNeg 0)) := rfl
def m_findBrings_L35 (brings_26 : Nat → Int64) : Nat → Int32 → (Nat → Int64) → Option ((Nat → Int64))
  | 0, _, _ => none
  | n_35 + 1, x6_35, later_35 =>
  if 12 ≤ x6_35 then (some later_35) else
  ck x6_35 12 <| ck x6_35 12 <| m_findBrings_L35 brings_26 n_35 (x6_35 + 1) (vp_updL later_35 x6_35.toNatClampNeg (brings_26 x6_35.toNatClampNeg))
theorem m_findBrings_L35_s (brings_26 : Nat → Int64) (n_35 : Nat) (x6_35 : Int32) (later_35 : Nat → Int64) : m_findBrings_L35 brings_26 (n_35 + 1) x6_35 later_35 = (
  if 12 ≤ x6_35 then (some later_35) else
  ck x6_35 12 <| ck x6_35 12 <| m_findBrings_L35 brings_26 n_35 (x6_35 + 1) (vp_updL later_35 x6_35.toNatClampNeg (brings_26 x6_35.toNatClampNeg))) := rfl
def m_findBrings_L108 (x2 : Int32) (x3_26 : Int64) (x6_65 : Int32) (x7_75 : Int32) (k8_108 : Int64) (tenths : Nat → Int32) (sortWorth : Nat → Int32) (sortDays : Nat → Int32) (later_62 : Nat → Int64) : Nat → Int64 → Int32 → Option (Int64)
  | 0, _, _ => none
  | n_108 + 1, x10_108, x12_108 =>
  if 3 ≤ x12_108 then (some x10_108) else
  ltv (if x2 ≤ (x6_65 + x7_75) then (0) else
  1) (fun (t_128 : Int32) =>
  bnd (if t_128 = 0 then (some (0)) else
  ck x12_108 3 <| bnd (m_behind sortDays x7_75 x12_108) fun r_154 =>
  ck r_154 12 <| some ((((sortWorth x12_108.toNatClampNeg).toInt64) * x3_26) + (later_62 r_154.toNatClampNeg))) (fun (t_163 : Int64) =>
  ck x12_108 3 <| if (lg_cmp t_163 k8_108) ≤ 0 then (m_findBrings_L108 x2 x3_26 x6_65 x7_75 k8_108 tenths sortWorth sortDays later_62 n_108 (x10_108 + (((tenths x12_108.toNatClampNeg).toInt64) * k8_108)) (x12_108 + 1) ) else
  m_findBrings_L108 x2 x3_26 x6_65 x7_75 k8_108 tenths sortWorth sortDays later_62 n_108 (x10_108 + (((tenths x12_108.toNatClampNeg).toInt64) * t_163)) (x12_108 + 1) ))
theorem m_findBrings_L108_s (x2 : Int32) (x3_26 : Int64) (x6_65 : Int32) (x7_75 : Int32) (k8_108 : Int64) (tenths : Nat → Int32) (sortWorth : Nat → Int32) (sortDays : Nat → Int32) (later_62 : Nat → Int64) (n_108 : Nat) (x10_108 : Int64) (x12_108 : Int32) : m_findBrings_L108 x2 x3_26 x6_65 x7_75 k8_108 tenths sortWorth sortDays later_62 (n_108 + 1) x10_108 x12_108 = (
  if 3 ≤ x12_108 then (some x10_108) else
  ltv (if x2 ≤ (x6_65 + x7_75) then (0) else
  1) (fun (t_128 : Int32) =>
  bnd (if t_128 = 0 then (some (0)) else
  ck x12_108 3 <| bnd (m_behind sortDays x7_75 x12_108) fun r_154 =>
  ck r_154 12 <| some ((((sortWorth x12_108.toNatClampNeg).toInt64) * x3_26) + (later_62 r_154.toNatClampNeg))) (fun (t_163 : Int64) =>
  ck x12_108 3 <| if (lg_cmp t_163 k8_108) ≤ 0 then (m_findBrings_L108 x2 x3_26 x6_65 x7_75 k8_108 tenths sortWorth sortDays later_62 n_108 (x10_108 + (((tenths x12_108.toNatClampNeg).toInt64) * k8_108)) (x12_108 + 1) ) else
  m_findBrings_L108 x2 x3_26 x6_65 x7_75 k8_108 tenths sortWorth sortDays later_62 n_108 (x10_108 + (((tenths x12_108.toNatClampNeg).toInt64) * t_163)) (x12_108 + 1) ))) := rfl
def m_findBrings_L75 (x2 : Int32) (x3_26 : Int64) (x6_65 : Int32) (tenths : Nat → Int32) (sortWorth : Nat → Int32) (sortDays : Nat → Int32) (later_62 : Nat → Int64) : Nat → Int32 → (Nat → Int64) → Option ((Nat → Int64))
  | 0, _, _ => none
  | n_75 + 1, x7_75, brings_75 =>
  if 2 ≤ x7_75 then (some brings_75) else
  ck (2 * x7_75) 12 <| bnd (m_allTenths tenths) fun r_95 =>
  ltv (later_62 (2 * x7_75).toNatClampNeg) fun k8_108 => bnd (m_findBrings_L108 x2 x3_26 x6_65 x7_75 k8_108 tenths sortWorth sortDays later_62 g_fuel (((10 - r_95).toInt64) * k8_108) 0 ) (fun x10_200 =>
  ck ((2 * x6_65) + x7_75) 12 <| m_findBrings_L75 x2 x3_26 x6_65 tenths sortWorth sortDays later_62 n_75 (x7_75 + 1) (vp_updL brings_75 ((2 * x6_65) + x7_75).toNatClampNeg x10_200))
theorem m_findBrings_L75_s (x2 : Int32) (x3_26 : Int64) (x6_65 : Int32) (tenths : Nat → Int32) (sortWorth : Nat → Int32) (sortDays : Nat → Int32) (later_62 : Nat → Int64) (n_75 : Nat) (x7_75 : Int32) (brings_75 : Nat → Int64) : m_findBrings_L75 x2 x3_26 x6_65 tenths sortWorth sortDays later_62 (n_75 + 1) x7_75 brings_75 = (
  if 2 ≤ x7_75 then (some brings_75) else
  ck (2 * x7_75) 12 <| bnd (m_allTenths tenths) fun r_95 =>
  ltv (later_62 (2 * x7_75).toNatClampNeg) fun k8_108 => bnd (m_findBrings_L108 x2 x3_26 x6_65 x7_75 k8_108 tenths sortWorth sortDays later_62 g_fuel (((10 - r_95).toInt64) * k8_108) 0 ) (fun x10_200 =>
  ck ((2 * x6_65) + x7_75) 12 <| m_findBrings_L75 x2 x3_26 x6_65 tenths sortWorth sortDays later_62 n_75 (x7_75 + 1) (vp_updL brings_75 ((2 * x6_65) + x7_75).toNatClampNeg x10_200))) := rfl
def m_findBrings_L65 (x2 : Int32) (x3_26 : Int64) (tenths : Nat → Int32) (sortWorth : Nat → Int32) (sortDays : Nat → Int32) (later_62 : Nat → Int64) : Nat → Int32 → (Nat → Int64) → Option ((Nat → Int64))
  | 0, _, _ => none
  | n_65 + 1, x6_65, brings_65 =>
  if 6 ≤ x6_65 then (some brings_65) else
  bnd (m_findBrings_L75 x2 x3_26 x6_65 tenths sortWorth sortDays later_62 g_fuel 0 brings_65) (fun brings_220 =>
  m_findBrings_L65 x2 x3_26 tenths sortWorth sortDays later_62 n_65 (x6_65 + 1) brings_220)
theorem m_findBrings_L65_s (x2 : Int32) (x3_26 : Int64) (tenths : Nat → Int32) (sortWorth : Nat → Int32) (sortDays : Nat → Int32) (later_62 : Nat → Int64) (n_65 : Nat) (x6_65 : Int32) (brings_65 : Nat → Int64) : m_findBrings_L65 x2 x3_26 tenths sortWorth sortDays later_62 (n_65 + 1) x6_65 brings_65 = (
  if 6 ≤ x6_65 then (some brings_65) else
  bnd (m_findBrings_L75 x2 x3_26 x6_65 tenths sortWorth sortDays later_62 g_fuel 0 brings_65) (fun brings_220 =>
  m_findBrings_L65 x2 x3_26 tenths sortWorth sortDays later_62 n_65 (x6_65 + 1) brings_220)) := rfl
def m_findBrings_L26 (x1 : Int32) (x2 : Int32) (tenths : Nat → Int32) (sortWorth : Nat → Int32) (sortDays : Nat → Int32) : Nat → Int64 → Int32 → (Nat → Int64) → (Nat → Int64) → Option ((Nat → Int64) × (Nat → Int64))
  | 0, _, _, _, _ => none
  | n_26 + 1, x3_26, x5_26, brings_26, later_26 =>
  if x1 < x5_26 then (some (brings_26, later_26)) else
  bnd (m_findBrings_L35 brings_26 g_fuel 0 later_26) (fun later_62 =>
  bnd (m_findBrings_L65 x2 x3_26 tenths sortWorth sortDays later_62 g_fuel 0 brings_26) (fun brings_226 =>
  m_findBrings_L26 x1 x2 tenths sortWorth sortDays n_26 (x3_26 * 10) (x5_26 + 1) brings_226 later_62))
theorem m_findBrings_L26_s (x1 : Int32) (x2 : Int32) (tenths : Nat → Int32) (sortWorth : Nat → Int32) (sortDays : Nat → Int32) (n_26 : Nat) (x3_26 : Int64) (x5_26 : Int32) (brings_26 : Nat → Int64) (later_26 : Nat → Int64) : m_findBrings_L26 x1 x2 tenths sortWorth sortDays (n_26 + 1) x3_26 x5_26 brings_26 later_26 = (
  if x1 < x5_26 then (some (brings_26, later_26)) else
  bnd (m_findBrings_L35 brings_26 g_fuel 0 later_26) (fun later_62 =>
  bnd (m_findBrings_L65 x2 x3_26 tenths sortWorth sortDays later_62 g_fuel 0 brings_26) (fun brings_226 =>
  m_findBrings_L26 x1 x2 tenths sortWorth sortDays n_26 (x3_26 * 10) (x5_26 + 1) brings_226 later_62))) := rfl
def m_findBrings (tenths : Nat → Int32) (sortWorth : Nat → Int32) (sortDays : Nat → Int32) (brings : Nat → Int64) (later : Nat → Int64) (x1 : Int32) (x2 : Int32) : Option ((Nat → Int64) × (Nat → Int64)) :=
  bnd (m_findBrings_L2 g_fuel 0 brings) (fun brings_21 =>
  bnd2 (m_findBrings_L26 x1 x2 tenths sortWorth sortDays g_fuel 1 1 brings_21 later) (fun brings_238 later_238 =>
  some (brings_238, later_238)))
set_option maxHeartbeats 4000000 in
set_option maxRecDepth 100000 in
theorem w_m_findBrings {p : Program} {l : Launch} {e : Env} {R : Room} {s : State} {m : MethodId} {args : Array Value} {below : List Frame} {meth : Method} {c : Code} {H : Heap} {locs : List Loc} {cells slots : Nat} {Q : State → Prop} {A : Nat → Prop} {ls : Array Slot} {D : va_G} {d : Nat → ClassId} {ad : Nat → Nat} {w : Nat → Int32} {isKept : Nat → Int32} {people : Int32} {room : Nat → Int32} {work : Nat → Int32} {price : Nat → Int32} {askings : Int32} {asked : Nat → Int32} {hangs : Int32} {hung : Nat → Int32} {tenths : Nat → Int32} {sortWorth : Nat → Int32} {sortDays : Nat → Int32} {sorts : Int32} {text : Nat → Int32} {texted : Int32} {trace : Int64} {at_ : Int32} {fault : Int32} {readPeople : Int32} {readPerson : Nat → Int32} {readAskings : Int32} {readAsked : Nat → Int32} {readHangs : Int32} {readHung : Nat → Int32} {rest : Nat → Int32} {brings : Nat → Int64} {later : Nat → Int64} {x1 : Int32} {x2 : Int32} {brings_r : Nat → Int64} {later_r : Nat → Int64} (hx : p.tables.exec = Jvm.exec) (hb : c.code = cX10_findBrings) (hml : c.maxLocals = 16) (hown : s.vm.findClass RX10 = some m.cls) (hts : ∀ w ∈ lw_all, w.before args s = true) (hA : ∀ q, s.heap.size ≤ q → A q) (hRf : 1 ≤ R.frames) (hRl : 22 ≤ R.locals) (hRc : cells ≤ R.cells) (hRs : slots ≤ R.slots) (hf : m_findBrings tenths sortWorth sortDays brings later x1 x2 = some (brings_r, later_r)) (hC : HC D gcl (gty d) A (mw d ad w isKept people room work price askings asked hangs hung tenths sortWorth sortDays sorts text texted trace at_ fault readPeople readPerson readAskings readAsked readHangs readHung rest brings later) s H locs) (hl : lv_has ls 16 [(0, .ref (ad 0)), (1, .int x1), (2, .int x2)]) (K : ∀ (H : Heap) (locs : List Loc) (ls : Array Slot) (pc : Nat), True → HC D gcl (gty d) A (mw d ad w isKept people room work price askings asked hangs hung tenths sortWorth sortDays sorts text texted trace at_ fault readPeople readPerson readAskings readAsked readHangs readHung rest brings_r later_r) s H locs → decode cX10_findBrings pc = .ok (.return_, 1) → W p l e R s m args below meth c H locs cells slots Q (F0 m pc ls [])) : W p l e R s m args below meth c H locs cells slots Q (F0 m 0 ls []) := by
  unfold m_findBrings at hf
  refine lv_iconst (v := 0) hx hb dX10_findBrings_0 (by decide) ?_
  refine lv_istore_n (lv' := [(3, .int 0), (0, .ref (ad 0)), (1, .int x1), (2, .int x2)]) hx hb dX10_findBrings_1 rfl hl (by decide) rfl (fun ls hl => ?_)
  obtain ⟨brings_21, hL, hf⟩ := bnd_some hf
  have X_2 : ∀ (H : Heap) (locs : List Loc) (ls : Array Slot), HC D gcl (gty d) A (mw d ad w isKept people room work price askings asked hangs hung tenths sortWorth sortDays sorts text texted trace at_ fault readPeople readPerson readAskings readAsked readHangs readHung rest brings_21 later) s H locs → lv_has ls 16 [(0, .ref (ad 0)), (1, .int x1), (2, .int x2)] → W p l e R s m args below meth c H locs cells slots Q (F0 m 21 ls []) := by
    intro H locs ls hC hl
    refine lv_lconst (v := 1) hx hb dX10_findBrings_21 (by decide) ?_
    refine lv_lstore_n (lv' := [(3, .long 1), (0, .ref (ad 0)), (1, .int x1), (2, .int x2)]) hx hb dX10_findBrings_22 rfl hl (by decide) rfl (fun ls hl => ?_)
    refine lv_iconst (v := 1) hx hb dX10_findBrings_23 (by decide) ?_
    refine lv_istore (lv' := [(5, .int 1), (3, .long 1), (0, .ref (ad 0)), (1, .int x1), (2, .int x2)]) hx hb dX10_findBrings_24 hl (by decide) rfl (fun ls hl => ?_)
    obtain ⟨brings_238, later_238, hL, hf⟩ := bnd2_some hf
    have X_26 : ∀ (H : Heap) (locs : List Loc) (ls : Array Slot), HC D gcl (gty d) A (mw d ad w isKept people room work price askings asked hangs hung tenths sortWorth sortDays sorts text texted trace at_ fault readPeople readPerson readAskings readAsked readHangs readHung rest brings_238 later_238) s H locs → lv_has ls 16 [] → W p l e R s m args below meth c H locs cells slots Q (F0 m 238 ls []) := by
      intro H locs ls hC hl
      obtain ⟨e_1, e_2⟩ := so_2 (Option.some.inj hf)
      subst e_1
      subst e_2
      exact K H locs ls _ trivial hC dX10_findBrings_238
    have L_26 : ∀ (n_26 : Nat) (x3_26 : Int64) (x5_26 : Int32) (brings_26 : Nat → Int64) (later_26 : Nat → Int64), m_findBrings_L26 x1 x2 tenths sortWorth sortDays n_26 x3_26 x5_26 brings_26 later_26 = some (brings_238, later_238) → ∀ (H : Heap) (locs : List Loc) (ls : Array Slot), HC D gcl (gty d) A (mw d ad w isKept people room work price askings asked hangs hung tenths sortWorth sortDays sorts text texted trace at_ fault readPeople readPerson readAskings readAsked readHangs readHung rest brings_26 later_26) s H locs → lv_has ls 16 [(0, .ref (ad 0)), (1, .int x1), (2, .int x2), (3, .long x3_26), (5, .int x5_26)] → W p l e R s m args below meth c H locs cells slots Q (F0 m 26 ls []) := by
      intro n_26
      induction n_26 with
      | zero => intro _ _ _ _ hf; cases hf
      | succ n_26 ih =>
        intro x3_26 x5_26 brings_26 later_26 hf H locs ls hC hl
        rw [m_findBrings_L26_s] at hf
        refine lv_iload hx hb dX10_findBrings_26 (lv_at hl 4 rfl) ?_
        refine lv_iload_n hx hb dX10_findBrings_28 rfl (lv_at hl 1 rfl) ?_
        refine lv_icmp_gt (tgt := 238) hx hb dX10_findBrings_29 (by decide) (fun c_29 => ?_) (fun c_29 => ?_)
        · have hf := if_t hf c_29
          obtain ⟨e_1, e_2⟩ := so_2 (Option.some.inj hf)
          subst e_1
          subst e_2
          exact X_26 H locs ls hC (lv_sub hl [] rfl)
        · have hf := if_f hf c_29
          refine lv_iconst (v := 0) hx hb dX10_findBrings_32 (by decide) ?_
          refine lv_istore (lv' := [(6, .int 0), (0, .ref (ad 0)), (1, .int x1), (2, .int x2), (3, .long x3_26), (5, .int x5_26)]) hx hb dX10_findBrings_33 hl (by decide) rfl (fun ls hl => ?_)
          obtain ⟨later_62, hL, hf⟩ := bnd_some hf
          have X_35 : ∀ (H : Heap) (locs : List Loc) (ls : Array Slot), HC D gcl (gty d) A (mw d ad w isKept people room work price askings asked hangs hung tenths sortWorth sortDays sorts text texted trace at_ fault readPeople readPerson readAskings readAsked readHangs readHung rest brings_26 later_62) s H locs → lv_has ls 16 [(0, .ref (ad 0)), (1, .int x1), (2, .int x2), (3, .long x3_26), (5, .int x5_26)] → W p l e R s m args below meth c H locs cells slots Q (F0 m 62 ls []) := by
            intro H locs ls hC hl
            refine lv_iconst (v := 0) hx hb dX10_findBrings_62 (by decide) ?_
            refine lv_istore (lv' := [(6, .int 0), (0, .ref (ad 0)), (1, .int x1), (2, .int x2), (3, .long x3_26), (5, .int x5_26)]) hx hb dX10_findBrings_63 hl (by decide) rfl (fun ls hl => ?_)
            obtain ⟨brings_226, hL, hf⟩ := bnd_some hf
            have X_65 : ∀ (H : Heap) (locs : List Loc) (ls : Array Slot), HC D gcl (gty d) A (mw d ad w isKept people room work price askings asked hangs hung tenths sortWorth sortDays sorts text texted trace at_ fault readPeople readPerson readAskings readAsked readHangs readHung rest brings_226 later_62) s H locs → lv_has ls 16 [(0, .ref (ad 0)), (1, .int x1), (2, .int x2), (3, .long x3_26), (5, .int x5_26)] → W p l e R s m args below meth c H locs cells slots Q (F0 m 226 ls []) := by
              intro H locs ls hC hl
              refine lv_lload_n hx hb dX10_findBrings_226 rfl (lv_at hl 3 rfl) ?_
              refine lv_ldc2 (v := 10) hx hb hown (hts _ q1051) dX10_findBrings_227 ?_
              refine lv_lmul hx hb dX10_findBrings_230 ?_
              refine lv_lstore_n (lv' := [(3, .long (x3_26 * 10)), (0, .ref (ad 0)), (1, .int x1), (2, .int x2), (5, .int x5_26)]) hx hb dX10_findBrings_231 rfl hl (by decide) rfl (fun ls hl => ?_)
              refine lv_iinc (v := x5_26 + 1) (lv' := [(5, .int (x5_26 + 1)), (3, .long (x3_26 * 10)), (0, .ref (ad 0)), (1, .int x1), (2, .int x2)]) hx hb dX10_findBrings_232 hl (k := 4) rfl rfl (by decide) rfl (fun ls hl => ?_)
              refine lv_goto (tgt := 26) hx hb dX10_findBrings_235 (by decide) ?_
              exact ih _ _ _ _ hf H locs ls hC (lv_sub hl [2, 3, 4, 1, 0] rfl)
            have L_65 : ∀ (n_65 : Nat) (x6_65 : Int32) (brings_65 : Nat → Int64), m_findBrings_L65 x2 x3_26 tenths sortWorth sortDays later_62 n_65 x6_65 brings_65 = some brings_226 → ∀ (H : Heap) (locs : List Loc) (ls : Array Slot), HC D gcl (gty d) A (mw d ad w isKept people room work price askings asked hangs hung tenths sortWorth sortDays sorts text texted trace at_ fault readPeople readPerson readAskings readAsked readHangs readHung rest brings_65 later_62) s H locs → lv_has ls 16 [(0, .ref (ad 0)), (1, .int x1), (2, .int x2), (3, .long x3_26), (5, .int x5_26), (6, .int x6_65)] → W p l e R s m args below meth c H locs cells slots Q (F0 m 65 ls []) := by
              intro n_65
              induction n_65 with
              | zero => intro _ _ hf; cases hf
              | succ n_65 ih =>
                intro x6_65 brings_65 hf H locs ls hC hl
                rw [m_findBrings_L65_s] at hf
                refine lv_iload hx hb dX10_findBrings_65 (lv_at hl 5 rfl) ?_
                refine lv_bipush (v := 6) hx hb dX10_findBrings_67 (by decide) ?_
                refine lv_icmp_ge (tgt := 226) hx hb dX10_findBrings_69 (by decide) (fun c_69 => ?_) (fun c_69 => ?_)
                · have hf := if_t hf c_69
                  have e_1 := (Option.some.inj hf)
                  subst e_1
                  exact X_65 H locs ls hC (lv_sub hl [0, 1, 2, 3, 4] rfl)
                · have hf := if_f hf c_69
                  refine lv_iconst (v := 0) hx hb dX10_findBrings_72 (by decide) ?_
                  refine lv_istore (lv' := [(7, .int 0), (0, .ref (ad 0)), (1, .int x1), (2, .int x2), (3, .long x3_26), (5, .int x5_26), (6, .int x6_65)]) hx hb dX10_findBrings_73 hl (by decide) rfl (fun ls hl => ?_)
                  obtain ⟨brings_220, hL, hf⟩ := bnd_some hf
                  have X_75 : ∀ (H : Heap) (locs : List Loc) (ls : Array Slot), HC D gcl (gty d) A (mw d ad w isKept people room work price askings asked hangs hung tenths sortWorth sortDays sorts text texted trace at_ fault readPeople readPerson readAskings readAsked readHangs readHung rest brings_220 later_62) s H locs → lv_has ls 16 [(0, .ref (ad 0)), (1, .int x1), (2, .int x2), (3, .long x3_26), (5, .int x5_26), (6, .int x6_65)] → W p l e R s m args below meth c H locs cells slots Q (F0 m 220 ls []) := by
                    intro H locs ls hC hl
                    refine lv_iinc (v := x6_65 + 1) (lv' := [(6, .int (x6_65 + 1)), (0, .ref (ad 0)), (1, .int x1), (2, .int x2), (3, .long x3_26), (5, .int x5_26)]) hx hb dX10_findBrings_220 hl (k := 5) rfl rfl (by decide) rfl (fun ls hl => ?_)
                    refine lv_goto (tgt := 65) hx hb dX10_findBrings_223 (by decide) ?_
                    exact ih _ _ hf H locs ls hC (lv_sub hl [1, 2, 3, 4, 5, 0] rfl)
                  have L_75 : ∀ (n_75 : Nat) (x7_75 : Int32) (brings_75 : Nat → Int64), m_findBrings_L75 x2 x3_26 x6_65 tenths sortWorth sortDays later_62 n_75 x7_75 brings_75 = some brings_220 → ∀ (H : Heap) (locs : List Loc) (ls : Array Slot), HC D gcl (gty d) A (mw d ad w isKept people room work price askings asked hangs hung tenths sortWorth sortDays sorts text texted trace at_ fault readPeople readPerson readAskings readAsked readHangs readHung rest brings_75 later_62) s H locs → lv_has ls 16 [(0, .ref (ad 0)), (1, .int x1), (2, .int x2), (3, .long x3_26), (5, .int x5_26), (6, .int x6_65), (7, .int x7_75)] → W p l e R s m args below meth c H locs cells slots Q (F0 m 75 ls []) := by
                    intro n_75
                    induction n_75 with
                    | zero => intro _ _ hf; cases hf
                    | succ n_75 ih =>
                      intro x7_75 brings_75 hf H locs ls hC hl
                      rw [m_findBrings_L75_s] at hf
                      refine lv_iload hx hb dX10_findBrings_75 (lv_at hl 6 rfl) ?_
                      refine lv_iconst (v := 2) hx hb dX10_findBrings_77 (by decide) ?_
                      refine lv_icmp_ge (tgt := 220) hx hb dX10_findBrings_78 (by decide) (fun c_78 => ?_) (fun c_78 => ?_)
                      · have hf := if_t hf c_78
                        have e_1 := (Option.some.inj hf)
                        subst e_1
                        exact X_75 H locs ls hC (lv_sub hl [0, 1, 2, 3, 4, 5] rfl)
                      · have hf := if_f hf c_78
                        refine lv_aload_n hx hb dX10_findBrings_81 rfl (lv_at hl 0 rfl) ?_
                        refine va_get (ci := 10) (v := .ref (ad 17)) (C := RX10) (T := TX10) (N := 28) hx hb hts in_X10 hown hC.1 hC.2.1 0 rfl rfl 27 (by decide) (hts _ q833) (fun _ h9 => h9) rfl dX10_findBrings_82 ?_
                        refine lv_iconst (v := 2) hx hb dX10_findBrings_85 (by decide) ?_
                        refine lv_iload hx hb dX10_findBrings_86 (lv_at hl 6 rfl) ?_
                        refine lv_imul hx hb dX10_findBrings_88 ?_
                        obtain ⟨hi_89, hf⟩ := ck_some hf
                        refine va_lald hx hb hC.1 hC.2.1 17 3 rfl rfl hi_89 dX10_findBrings_89 ?_
                        refine lv_lstore (lv' := [(8, .long (later_62 (2 * x7_75).toNatClampNeg)), (0, .ref (ad 0)), (1, .int x1), (2, .int x2), (3, .long x3_26), (5, .int x5_26), (6, .int x6_65), (7, .int x7_75)]) hx hb dX10_findBrings_90 hl (by decide) rfl (fun ls hl => ?_)
                        refine lv_bipush (v := 10) hx hb dX10_findBrings_92 (by decide) ?_
                        refine lv_aload_n hx hb dX10_findBrings_94 rfl (lv_at hl 1 rfl) ?_
                        obtain ⟨r_95, hcall, hf⟩ := bnd_some hf
                        refine hc_i (va_runV (C := RX10) (As := []) (rest := [.int 10]) ⟨hx, hb, hml, hown, hts⟩ (c_m_allTenths hcall) (cwV 0 hts (lw_V q1053 q1055 qs40 q59 q1056) rfl rfl rfl (by decide +kernel) ⟨(Nat.le_trans (Nat.le_of_ble_eq_true rfl) hRf), (Nat.le_trans (Nat.le_of_ble_eq_true rfl) hRl)⟩) (pre_V (q0 := 0) (ci := 10) (fun _ _ _ _ h => h) (fun _ _ _ => trivial) hC rfl rfl) rfl rfl hl.1 rfl (lv_room (Nat.le_of_ble_eq_true rfl)) dX10_findBrings_95 ⟨hRc, hRs⟩) hA hC (fun H locs hC => ?_)
                        refine lv_isub hx hb dX10_findBrings_98 ?_
                        refine lv_i2l (v := (10 - r_95).toInt64) hx hb dX10_findBrings_99 rfl ?_
                        refine lv_lload hx hb dX10_findBrings_100 (lv_at hl 0 rfl) ?_
                        refine lv_lmul hx hb dX10_findBrings_102 ?_
                        refine lv_lstore (lv' := [(10, .long (((10 - r_95).toInt64) * (later_62 (2 * x7_75).toNatClampNeg))), (8, .long (later_62 (2 * x7_75).toNatClampNeg)), (0, .ref (ad 0)), (1, .int x1), (2, .int x2), (3, .long x3_26), (5, .int x5_26), (6, .int x6_65), (7, .int x7_75)]) hx hb dX10_findBrings_103 hl (by decide) rfl (fun ls hl => ?_)
                        refine lv_iconst (v := 0) hx hb dX10_findBrings_105 (by decide) ?_
                        refine lv_istore (lv' := [(12, .int 0), (10, .long (((10 - r_95).toInt64) * (later_62 (2 * x7_75).toNatClampNeg))), (8, .long (later_62 (2 * x7_75).toNatClampNeg)), (0, .ref (ad 0)), (1, .int x1), (2, .int x2), (3, .long x3_26), (5, .int x5_26), (6, .int x6_65), (7, .int x7_75)]) hx hb dX10_findBrings_106 hl (by decide) rfl (fun ls hl => ?_)
                        obtain ⟨k8_108, ek, hf⟩ := ltv_some hf
                        rw [ek] at hl
                        obtain ⟨x10_200, hL, hf⟩ := bnd_some hf
                        have X_108 : ∀ (H : Heap) (locs : List Loc) (ls : Array Slot), HC D gcl (gty d) A (mw d ad w isKept people room work price askings asked hangs hung tenths sortWorth sortDays sorts text texted trace at_ fault readPeople readPerson readAskings readAsked readHangs readHung rest brings_75 later_62) s H locs → lv_has ls 16 [(0, .ref (ad 0)), (1, .int x1), (2, .int x2), (3, .long x3_26), (5, .int x5_26), (6, .int x6_65), (7, .int x7_75), (10, .long x10_200)] → W p l e R s m args below meth c H locs cells slots Q (F0 m 200 ls []) := by
                          intro H locs ls hC hl
                          refine lv_aload_n hx hb dX10_findBrings_200 rfl (lv_at hl 0 rfl) ?_
                          refine va_get (ci := 10) (v := .ref (ad 16)) (C := RX10) (T := TX10) (N := 28) hx hb hts in_X10 hown hC.1 hC.2.1 0 rfl rfl 26 (by decide) (hts _ q832) (fun _ h9 => h9) rfl dX10_findBrings_201 ?_
                          refine lv_iconst (v := 2) hx hb dX10_findBrings_204 (by decide) ?_
                          refine lv_iload hx hb dX10_findBrings_205 (lv_at hl 5 rfl) ?_
                          refine lv_imul hx hb dX10_findBrings_207 ?_
                          refine lv_iload hx hb dX10_findBrings_208 (lv_at hl 6 rfl) ?_
                          refine lv_iadd hx hb dX10_findBrings_210 ?_
                          refine lv_lload hx hb dX10_findBrings_211 (lv_at hl 7 rfl) ?_
                          obtain ⟨hi_213, hf⟩ := ck_some hf
                          refine va_last hx hb hC.1 hC.2.1 hC.2.2.1 hC.2.2.2 16 3 rfl rfl hi_213 dX10_findBrings_213 (fun H locs hP hD hS => ?_)
                          have hC : HC D gcl (gty d) A (mw d ad w isKept people room work price askings asked hangs hung tenths sortWorth sortDays sorts text texted trace at_ fault readPeople readPerson readAskings readAsked readHangs readHung rest (vp_updL brings_75 ((2 * x6_65) + x7_75).toNatClampNeg x10_200) later_62) s H locs := ⟨hC.1, hP, hD, hS⟩
                          refine lv_iinc (v := x7_75 + 1) (lv' := [(7, .int (x7_75 + 1)), (0, .ref (ad 0)), (1, .int x1), (2, .int x2), (3, .long x3_26), (5, .int x5_26), (6, .int x6_65), (10, .long x10_200)]) hx hb dX10_findBrings_214 hl (k := 6) rfl rfl (by decide) rfl (fun ls hl => ?_)
                          refine lv_goto (tgt := 75) hx hb dX10_findBrings_217 (by decide) ?_
                          exact ih _ _ hf H locs ls hC (lv_sub hl [1, 2, 3, 4, 5, 6, 0] rfl)
                        have L_108 : ∀ (n_108 : Nat) (x10_108 : Int64) (x12_108 : Int32), m_findBrings_L108 x2 x3_26 x6_65 x7_75 k8_108 tenths sortWorth sortDays later_62 n_108 x10_108 x12_108 = some x10_200 → ∀ (H : Heap) (locs : List Loc) (ls : Array Slot), HC D gcl (gty d) A (mw d ad w isKept people room work price askings asked hangs hung tenths sortWorth sortDays sorts text texted trace at_ fault readPeople readPerson readAskings readAsked readHangs readHung rest brings_75 later_62) s H locs → lv_has ls 16 [(0, .ref (ad 0)), (1, .int x1), (2, .int x2), (3, .long x3_26), (5, .int x5_26), (6, .int x6_65), (7, .int x7_75), (8, .long k8_108), (10, .long x10_108), (12, .int x12_108)] → W p l e R s m args below meth c H locs cells slots Q (F0 m 108 ls []) := by
                          intro n_108
                          induction n_108 with
                          | zero => intro _ _ hf; cases hf
                          | succ n_108 ih =>
                            intro x10_108 x12_108 hf H locs ls hC hl
                            rw [m_findBrings_L108_s] at hf
                            refine lv_iload hx hb dX10_findBrings_108 (lv_at hl 9 rfl) ?_
                            refine lv_iconst (v := 3) hx hb dX10_findBrings_110 (by decide) ?_
                            refine lv_icmp_ge (tgt := 200) hx hb dX10_findBrings_111 (by decide) (fun c_111 => ?_) (fun c_111 => ?_)
                            · have hf := if_t hf c_111
                              have e_1 := (Option.some.inj hf)
                              subst e_1
                              exact X_108 H locs ls hC (lv_sub hl [0, 1, 2, 3, 4, 5, 6, 8] rfl)
                            · have hf := if_f hf c_111
                              refine lv_iload hx hb dX10_findBrings_114 (lv_at hl 5 rfl) ?_
                              refine lv_iload hx hb dX10_findBrings_116 (lv_at hl 6 rfl) ?_
                              refine lv_iadd hx hb dX10_findBrings_118 ?_
                              refine lv_iload_n hx hb dX10_findBrings_119 rfl (lv_at hl 2 rfl) ?_
                              obtain ⟨t_128, hj, hf⟩ := ltv_some hf
                              refine wj (g1 := F0 m 128 ls [.int t_128]) ?_ (fun J_128 => ?_)
                              · refine lv_istore (lv' := [(13, .int t_128), (0, .ref (ad 0)), (1, .int x1), (2, .int x2), (3, .long x3_26), (5, .int x5_26), (6, .int x6_65), (7, .int x7_75), (8, .long k8_108), (10, .long x10_108), (12, .int x12_108)]) hx hb dX10_findBrings_128 hl (by decide) rfl (fun ls hl => ?_)
                                refine lv_iload hx hb dX10_findBrings_130 (lv_at hl 0 rfl) ?_
                                obtain ⟨t_163, hj, hf⟩ := bnd_some hf
                                have J_163 : ∀ (H : Heap) (locs : List Loc) (ls : Array Slot), HC D gcl (gty d) A (mw d ad w isKept people room work price askings asked hangs hung tenths sortWorth sortDays sorts text texted trace at_ fault readPeople readPerson readAskings readAsked readHangs readHung rest brings_75 later_62) s H locs → lv_has ls 16 [(0, .ref (ad 0)), (1, .int x1), (2, .int x2), (3, .long x3_26), (5, .int x5_26), (6, .int x6_65), (7, .int x7_75), (8, .long k8_108), (10, .long x10_108), (12, .int x12_108)] → W p l e R s m args below meth c H locs cells slots Q (F0 m 163 ls [.long t_163]) := by
                                  intro H locs ls hC hl
                                  refine lv_lstore (lv' := [(14, .long t_163), (0, .ref (ad 0)), (1, .int x1), (2, .int x2), (3, .long x3_26), (5, .int x5_26), (6, .int x6_65), (7, .int x7_75), (8, .long k8_108), (10, .long x10_108), (12, .int x12_108)]) hx hb dX10_findBrings_163 hl (by decide) rfl (fun ls hl => ?_)
                                  refine lv_lload hx hb dX10_findBrings_165 (lv_at hl 9 rfl) ?_
                                  refine lv_aload_n hx hb dX10_findBrings_167 rfl (lv_at hl 1 rfl) ?_
                                  refine va_get (ci := 10) (v := .ref (ad 8)) (C := RX10) (T := TX10) (N := 28) hx hb hts in_X10 hown hC.1 hC.2.1 0 rfl rfl 10 (by decide) (hts _ q816) (fun _ h9 => h9) rfl dX10_findBrings_168 ?_
                                  refine lv_iload hx hb dX10_findBrings_171 (lv_at hl 10 rfl) ?_
                                  obtain ⟨hi_173, hf⟩ := ck_some hf
                                  refine va_iald hx hb hC.1 hC.2.1 8 0 rfl rfl hi_173 dX10_findBrings_173 ?_
                                  refine lv_i2l (v := (tenths x12_108.toNatClampNeg).toInt64) hx hb dX10_findBrings_174 rfl ?_
                                  refine lv_lload hx hb dX10_findBrings_175 (lv_at hl 0 rfl) ?_
                                  refine lv_lload hx hb dX10_findBrings_177 (lv_at hl 8 rfl) ?_
                                  refine W.lcmp hx hb dX10_findBrings_179 ?_
                                  refine lv_if_le (tgt := 188) hx hb dX10_findBrings_180 (by decide) (fun c_180 => ?_) (fun c_180 => ?_)
                                  · have hf := if_t hf c_180
                                    refine lv_lload hx hb dX10_findBrings_188 (lv_at hl 8 rfl) ?_
                                    refine lv_lmul hx hb dX10_findBrings_190 ?_
                                    refine lv_ladd hx hb dX10_findBrings_191 ?_
                                    refine lv_lstore (lv' := [(10, .long (x10_108 + (((tenths x12_108.toNatClampNeg).toInt64) * k8_108))), (14, .long t_163), (0, .ref (ad 0)), (1, .int x1), (2, .int x2), (3, .long x3_26), (5, .int x5_26), (6, .int x6_65), (7, .int x7_75), (8, .long k8_108), (12, .int x12_108)]) hx hb dX10_findBrings_192 hl (by decide) rfl (fun ls hl => ?_)
                                    refine lv_iinc (v := x12_108 + 1) (lv' := [(12, .int (x12_108 + 1)), (10, .long (x10_108 + (((tenths x12_108.toNatClampNeg).toInt64) * k8_108))), (14, .long t_163), (0, .ref (ad 0)), (1, .int x1), (2, .int x2), (3, .long x3_26), (5, .int x5_26), (6, .int x6_65), (7, .int x7_75), (8, .long k8_108)]) hx hb dX10_findBrings_194 hl (k := 10) rfl rfl (by decide) rfl (fun ls hl => ?_)
                                    refine lv_goto (tgt := 108) hx hb dX10_findBrings_197 (by decide) ?_
                                    exact ih _ _ hf H locs ls hC (lv_sub hl [3, 4, 5, 6, 7, 8, 9, 10, 1, 0] rfl)
                                  · have hf := if_f hf c_180
                                    refine lv_lload hx hb dX10_findBrings_183 (lv_at hl 0 rfl) ?_
                                    refine lv_goto (tgt := 190) hx hb dX10_findBrings_185 (by decide) ?_
                                    refine lv_lmul hx hb dX10_findBrings_190 ?_
                                    refine lv_ladd hx hb dX10_findBrings_191 ?_
                                    refine lv_lstore (lv' := [(10, .long (x10_108 + (((tenths x12_108.toNatClampNeg).toInt64) * t_163))), (14, .long t_163), (0, .ref (ad 0)), (1, .int x1), (2, .int x2), (3, .long x3_26), (5, .int x5_26), (6, .int x6_65), (7, .int x7_75), (8, .long k8_108), (12, .int x12_108)]) hx hb dX10_findBrings_192 hl (by decide) rfl (fun ls hl => ?_)
                                    refine lv_iinc (v := x12_108 + 1) (lv' := [(12, .int (x12_108 + 1)), (10, .long (x10_108 + (((tenths x12_108.toNatClampNeg).toInt64) * t_163))), (14, .long t_163), (0, .ref (ad 0)), (1, .int x1), (2, .int x2), (3, .long x3_26), (5, .int x5_26), (6, .int x6_65), (7, .int x7_75), (8, .long k8_108)]) hx hb dX10_findBrings_194 hl (k := 10) rfl rfl (by decide) rfl (fun ls hl => ?_)
                                    refine lv_goto (tgt := 108) hx hb dX10_findBrings_197 (by decide) ?_
                                    exact ih _ _ hf H locs ls hC (lv_sub hl [3, 4, 5, 6, 7, 8, 9, 10, 1, 0] rfl)
                                have hf := hj
                                refine lv_if_eq (tgt := 162) hx hb dX10_findBrings_132 (by decide) (fun c_132 => ?_) (fun c_132 => ?_)
                                · have hf := if_t hf c_132
                                  refine lv_lconst (v := 0) hx hb dX10_findBrings_162 (by decide) ?_
                                  have e_1 := (Option.some.inj hf)
                                  subst e_1
                                  exact J_163 H locs ls hC (lv_sub hl [1, 2, 3, 4, 5, 6, 7, 8, 9, 10] rfl)
                                · have hf := if_f hf c_132
                                  refine lv_aload_n hx hb dX10_findBrings_135 rfl (lv_at hl 1 rfl) ?_
                                  refine va_get (ci := 10) (v := .ref (ad 9)) (C := RX10) (T := TX10) (N := 28) hx hb hts in_X10 hown hC.1 hC.2.1 0 rfl rfl 11 (by decide) (hts _ q817) (fun _ h9 => h9) rfl dX10_findBrings_136 ?_
                                  refine lv_iload hx hb dX10_findBrings_139 (lv_at hl 10 rfl) ?_
                                  obtain ⟨hi_141, hf⟩ := ck_some hf
                                  refine va_iald hx hb hC.1 hC.2.1 9 0 rfl rfl hi_141 dX10_findBrings_141 ?_
                                  refine lv_i2l (v := (sortWorth x12_108.toNatClampNeg).toInt64) hx hb dX10_findBrings_142 rfl ?_
                                  refine lv_lload_n hx hb dX10_findBrings_143 rfl (lv_at hl 4 rfl) ?_
                                  refine lv_lmul hx hb dX10_findBrings_144 ?_
                                  refine lv_aload_n hx hb dX10_findBrings_145 rfl (lv_at hl 1 rfl) ?_
                                  refine va_get (ci := 10) (v := .ref (ad 17)) (C := RX10) (T := TX10) (N := 28) hx hb hts in_X10 hown hC.1 hC.2.1 0 rfl rfl 27 (by decide) (hts _ q833) (fun _ h9 => h9) rfl dX10_findBrings_146 ?_
                                  refine lv_aload_n hx hb dX10_findBrings_149 rfl (lv_at hl 1 rfl) ?_
                                  refine lv_iload hx hb dX10_findBrings_150 (lv_at hl 7 rfl) ?_
                                  refine lv_iload hx hb dX10_findBrings_152 (lv_at hl 10 rfl) ?_
                                  obtain ⟨r_154, hcall, hf⟩ := bnd_some hf
                                  refine hc_i (va_runV (C := RX10) (As := [.int x7_75, .int x12_108]) (rest := [.ref (ad 17), .long (((sortWorth x12_108.toNatClampNeg).toInt64) * x3_26)]) ⟨hx, hb, hml, hown, hts⟩ (c_m_behind hcall) (cwV 2 hts (lw_V q1067 q1069 qs42 q59 q1070) rfl rfl rfl (by decide +kernel) ⟨(Nat.le_trans (Nat.le_of_ble_eq_true rfl) hRf), (Nat.le_trans (Nat.le_of_ble_eq_true rfl) hRl)⟩) (pre_V (q0 := 0) (ci := 10) (fun _ _ _ _ h => h) (fun _ _ _ => trivial) hC rfl rfl) rfl rfl hl.1 rfl (lv_room (Nat.le_of_ble_eq_true rfl)) dX10_findBrings_154 ⟨hRc, hRs⟩) hA hC (fun H locs hC => ?_)
                                  obtain ⟨hi_157, hf⟩ := ck_some hf
                                  refine va_lald hx hb hC.1 hC.2.1 17 3 rfl rfl hi_157 dX10_findBrings_157 ?_
                                  refine lv_ladd hx hb dX10_findBrings_158 ?_
                                  refine lv_goto (tgt := 163) hx hb dX10_findBrings_159 (by decide) ?_
                                  have e_1 := (Option.some.inj hf)
                                  subst e_1
                                  exact J_163 H locs ls hC (lv_sub hl [1, 2, 3, 4, 5, 6, 7, 8, 9, 10] rfl)
                              · have hf := hj
                                refine lv_icmp_ge (tgt := 127) hx hb dX10_findBrings_120 (by decide) (fun c_120 => ?_) (fun c_120 => ?_)
                                · have hf := if_t hf c_120
                                  refine lv_iconst (v := 0) hx hb dX10_findBrings_127 (by decide) ?_
                                  have e_1 := hf
                                  subst e_1
                                  exact J_128
                                · have hf := if_f hf c_120
                                  refine lv_iconst (v := 1) hx hb dX10_findBrings_123 (by decide) ?_
                                  refine lv_goto (tgt := 128) hx hb dX10_findBrings_124 (by decide) ?_
                                  have e_1 := hf
                                  subst e_1
                                  exact J_128
                        exact L_108 _ _ _ hL H locs ls hC (lv_sub hl [3, 4, 5, 6, 7, 8, 9, 2, 1, 0] rfl)
                  exact L_75 _ _ _ hL H locs ls hC (lv_sub hl [1, 2, 3, 4, 5, 6, 0] rfl)
            exact L_65 _ _ _ hL H locs ls hC (lv_sub hl [1, 2, 3, 4, 5, 0] rfl)
          have L_35 : ∀ (n_35 : Nat) (x6_35 : Int32) (later_35 : Nat → Int64), m_findBrings_L35 brings_26 n_35 x6_35 later_35 = some later_62 → ∀ (H : Heap) (locs : List Loc) (ls : Array Slot), HC D gcl (gty d) A (mw d ad w isKept people room work price askings asked hangs hung tenths sortWorth sortDays sorts text texted trace at_ fault readPeople readPerson readAskings readAsked readHangs readHung rest brings_26 later_35) s H locs → lv_has ls 16 [(0, .ref (ad 0)), (1, .int x1), (2, .int x2), (3, .long x3_26), (5, .int x5_26), (6, .int x6_35)] → W p l e R s m args below meth c H locs cells slots Q (F0 m 35 ls []) := by
            intro n_35
            induction n_35 with
            | zero => intro _ _ hf; cases hf
            | succ n_35 ih =>
              intro x6_35 later_35 hf H locs ls hC hl
              rw [m_findBrings_L35_s] at hf
              refine lv_iload hx hb dX10_findBrings_35 (lv_at hl 5 rfl) ?_
              refine lv_bipush (v := 12) hx hb dX10_findBrings_37 (by decide) ?_
              refine lv_icmp_ge (tgt := 62) hx hb dX10_findBrings_39 (by decide) (fun c_39 => ?_) (fun c_39 => ?_)
              · have hf := if_t hf c_39
                have e_1 := (Option.some.inj hf)
                subst e_1
                exact X_35 H locs ls hC (lv_sub hl [0, 1, 2, 3, 4] rfl)
              · have hf := if_f hf c_39
                refine lv_aload_n hx hb dX10_findBrings_42 rfl (lv_at hl 0 rfl) ?_
                refine va_get (ci := 10) (v := .ref (ad 17)) (C := RX10) (T := TX10) (N := 28) hx hb hts in_X10 hown hC.1 hC.2.1 0 rfl rfl 27 (by decide) (hts _ q833) (fun _ h9 => h9) rfl dX10_findBrings_43 ?_
                refine lv_iload hx hb dX10_findBrings_46 (lv_at hl 5 rfl) ?_
                refine lv_aload_n hx hb dX10_findBrings_48 rfl (lv_at hl 0 rfl) ?_
                refine va_get (ci := 10) (v := .ref (ad 16)) (C := RX10) (T := TX10) (N := 28) hx hb hts in_X10 hown hC.1 hC.2.1 0 rfl rfl 26 (by decide) (hts _ q832) (fun _ h9 => h9) rfl dX10_findBrings_49 ?_
                refine lv_iload hx hb dX10_findBrings_52 (lv_at hl 5 rfl) ?_
                obtain ⟨hi_54, hf⟩ := ck_some hf
                refine va_lald hx hb hC.1 hC.2.1 16 3 rfl rfl hi_54 dX10_findBrings_54 ?_
                obtain ⟨hi_55, hf⟩ := ck_some hf
                refine va_last hx hb hC.1 hC.2.1 hC.2.2.1 hC.2.2.2 17 3 rfl rfl hi_55 dX10_findBrings_55 (fun H locs hP hD hS => ?_)
                have hC : HC D gcl (gty d) A (mw d ad w isKept people room work price askings asked hangs hung tenths sortWorth sortDays sorts text texted trace at_ fault readPeople readPerson readAskings readAsked readHangs readHung rest brings_26 (vp_updL later_35 x6_35.toNatClampNeg (brings_26 x6_35.toNatClampNeg))) s H locs := ⟨hC.1, hP, hD, hS⟩
                refine lv_iinc (v := x6_35 + 1) (lv' := [(6, .int (x6_35 + 1)), (0, .ref (ad 0)), (1, .int x1), (2, .int x2), (3, .long x3_26), (5, .int x5_26)]) hx hb dX10_findBrings_56 hl (k := 5) rfl rfl (by decide) rfl (fun ls hl => ?_)
                refine lv_goto (tgt := 35) hx hb dX10_findBrings_59 (by decide) ?_
                exact ih _ _ hf H locs ls hC (lv_sub hl [1, 2, 3, 4, 5, 0] rfl)
          exact L_35 _ _ _ hL H locs ls hC (lv_sub hl [1, 2, 3, 4, 5, 0] rfl)
    exact L_26 _ _ _ _ _ hL H locs ls hC (lv_sub hl [2, 3, 4, 1, 0] rfl)
  have L_2 : ∀ (n_2 : Nat) (x3_2 : Int32) (brings_2 : Nat → Int64), m_findBrings_L2 n_2 x3_2 brings_2 = some brings_21 → ∀ (H : Heap) (locs : List Loc) (ls : Array Slot), HC D gcl (gty d) A (mw d ad w isKept people room work price askings asked hangs hung tenths sortWorth sortDays sorts text texted trace at_ fault readPeople readPerson readAskings readAsked readHangs readHung rest brings_2 later) s H locs → lv_has ls 16 [(0, .ref (ad 0)), (1, .int x1), (2, .int x2), (3, .int x3_2)] → W p l e R s m args below meth c H locs cells slots Q (F0 m 2 ls []) := by
    intro n_2
    induction n_2 with
    | zero => intro _ _ hf; cases hf
    | succ n_2 ih =>
      intro x3_2 brings_2 hf H locs ls hC hl
      rw [m_findBrings_L2_s] at hf
      refine lv_iload_n hx hb dX10_findBrings_2 rfl (lv_at hl 3 rfl) ?_
      refine lv_bipush (v := 12) hx hb dX10_findBrings_3 (by decide) ?_
      refine lv_icmp_ge (tgt := 21) hx hb dX10_findBrings_5 (by decide) (fun c_5 => ?_) (fun c_5 => ?_)
      · have hf := if_t hf c_5
        have e_1 := (Option.some.inj hf)
        subst e_1
        exact X_2 H locs ls hC (lv_sub hl [0, 1, 2] rfl)
      · have hf := if_f hf c_5
        refine lv_aload_n hx hb dX10_findBrings_8 rfl (lv_at hl 0 rfl) ?_
        refine va_get (ci := 10) (v := .ref (ad 16)) (C := RX10) (T := TX10) (N := 28) hx hb hts in_X10 hown hC.1 hC.2.1 0 rfl rfl 26 (by decide) (hts _ q832) (fun _ h9 => h9) rfl dX10_findBrings_9 ?_
        refine lv_iload_n hx hb dX10_findBrings_12 rfl (lv_at hl 3 rfl) ?_
        refine lv_lconst (v := 0) hx hb dX10_findBrings_13 (by decide) ?_
        obtain ⟨hi_14, hf⟩ := ck_some hf
        refine va_last hx hb hC.1 hC.2.1 hC.2.2.1 hC.2.2.2 16 3 rfl rfl hi_14 dX10_findBrings_14 (fun H locs hP hD hS => ?_)
        have hC : HC D gcl (gty d) A (mw d ad w isKept people room work price askings asked hangs hung tenths sortWorth sortDays sorts text texted trace at_ fault readPeople readPerson readAskings readAsked readHangs readHung rest (vp_updL brings_2 x3_2.toNatClampNeg 0) later) s H locs := ⟨hC.1, hP, hD, hS⟩
        refine lv_iinc (v := x3_2 + 1) (lv' := [(3, .int (x3_2 + 1)), (0, .ref (ad 0)), (1, .int x1), (2, .int x2)]) hx hb dX10_findBrings_15 hl (k := 3) rfl rfl (by decide) rfl (fun ls hl => ?_)
        refine lv_goto (tgt := 2) hx hb dX10_findBrings_18 (by decide) ?_
        exact ih _ _ hf H locs ls hC (lv_sub hl [1, 2, 3, 0] rfl)
  exact L_2 _ _ _ hL H locs ls hC (lv_sub hl [1, 2, 3, 0] rfl)
set_option maxRecDepth 100000 in
theorem c_m_findBrings {l : Launch} {sz : Nat} {D : va_G} {d : Nat → ClassId} {ad : Nat → Nat} {w : Nat → Int32} {isKept : Nat → Int32} {people : Int32} {room : Nat → Int32} {work : Nat → Int32} {price : Nat → Int32} {askings : Int32} {asked : Nat → Int32} {hangs : Int32} {hung : Nat → Int32} {tenths : Nat → Int32} {sortWorth : Nat → Int32} {sortDays : Nat → Int32} {sorts : Int32} {text : Nat → Int32} {texted : Int32} {trace : Int64} {at_ : Int32} {fault : Int32} {readPeople : Int32} {readPerson : Nat → Int32} {readAskings : Int32} {readAsked : Nat → Int32} {readHangs : Int32} {readHung : Nat → Int32} {rest : Nat → Int32} {brings : Nat → Int64} {later : Nat → Int64} {x1 : Int32} {x2 : Int32} {brings_r : Nat → Int64} {later_r : Nat → Int64} (hf : m_findBrings tenths sortWorth sortDays brings later x1 x2 = some (brings_r, later_r)) : MV l yX10_findBrings (ws_ yX10_findBrings cX10_findBrings 16 none) { frames := 1, cells := 0, slots := 0, locals := 22 } D gcl (gty d) (fun _ => True) (mw d ad w isKept people room work price askings asked hangs hung tenths sortWorth sortDays sorts text texted trace at_ fault readPeople readPerson readAskings readAsked readHangs readHung rest brings later) (mw d ad w isKept people room work price askings asked hangs hung tenths sortWorth sortDays sorts text texted trace at_ fault readPeople readPerson readAskings readAsked readHangs readHung rest brings_r later_r) sz [.ref (ad 0), .int x1, .int x2] :=
  MV.of (by decide) [.ref (ad 0), .int x1, .int x2] [(0, .ref (ad 0)), (1, .int x1), (2, .int x2)] (Nat.le_of_ble_eq_true rfl) rfl (fun p e s m below meth c ls Q hx hb hml hown hts hN hA hC hl K => w_m_findBrings hx hb hml hown hts hA (Nat.le_refl _) (Nat.le_refl _) (Nat.le_refl _) (Nat.le_refl _) hf hC hl K)

def m_expected_L51 (x2 : Int32) : Nat → Int64 → Int32 → Option (Int64)
  | 0, _, _ => none
  | n_51 + 1, x4_51, x6_51 =>
  if x2 ≤ x6_51 then (some x4_51) else
  m_expected_L51 x2 n_51 (x4_51 * 10) (x6_51 + 1) 
theorem m_expected_L51_s (x2 : Int32) (n_51 : Nat) (x4_51 : Int64) (x6_51 : Int32) : m_expected_L51 x2 (n_51 + 1) x4_51 x6_51 = (
  if x2 ≤ x6_51 then (some x4_51) else
  m_expected_L51 x2 n_51 (x4_51 * 10) (x6_51 + 1) ) := rfl
def m_expected_L83 : Nat → Int64 → Int64 → Option (Int64)
  | 0, _, _ => none
  | n_83 + 1, x6_83, x8_83 =>
  if (lg_cmp x8_83 0) = 0 then (some x6_83) else
  ckd x8_83 <| m_expected_L83 n_83 x8_83 (x6_83 - x6_83 / x8_83 * x8_83) 
theorem m_expected_L83_s (n_83 : Nat) (x6_83 : Int64) (x8_83 : Int64) : m_expected_L83 (n_83 + 1) x6_83 x8_83 = (
  if (lg_cmp x8_83 0) = 0 then (some x6_83) else
  ckd x8_83 <| m_expected_L83 n_83 x8_83 (x6_83 - x6_83 / x8_83 * x8_83) ) := rfl
def m_expected (people : Int32) (room : Nat → Int32) (tenths : Nat → Int32) (sortWorth : Nat → Int32) (sortDays : Nat → Int32) (brings : Nat → Int64) (later : Nat → Int64) (x1 : Int32) (x2 : Int32) (x3 : Int32) : Option (Int64 × (Nat → Int64) × (Nat → Int64)) :=
  bnd (m_isOne people x1) fun r_2 =>
  if r_2 = 0 then (some ((-1), brings, later)) else
  bnd (m_in x2.toInt64 0 6) fun r_14 =>
  if r_14 = 0 then (some ((-1), brings, later)) else
  bnd (m_in x3.toInt64 0 1) fun r_24 =>
  if r_24 = 0 then (some ((-1), brings, later)) else
  ck x1 4 <| bnd2 (m_findBrings tenths sortWorth sortDays brings later x2 (room x1.toNatClampNeg)) fun brings_42 later_42 =>
  bnd (m_expected_L51 x2 g_fuel 1 0 ) (fun x4_71 =>
  bnd (m_expected_L83 g_fuel (brings_42 (0 : Int32).toNatClampNeg) x4_71 ) (fun x6_108 =>
  if x3 = 0 then (ckd x6_108 <| some ((brings_42 (0 : Int32).toNatClampNeg) / x6_108, brings_42, later_42)) else
  ckd x6_108 <| some (x4_71 / x6_108, brings_42, later_42)))
set_option maxHeartbeats 4000000 in
set_option maxRecDepth 100000 in
theorem w_m_expected {p : Program} {l : Launch} {e : Env} {R : Room} {s : State} {m : MethodId} {args : Array Value} {below : List Frame} {meth : Method} {c : Code} {H : Heap} {locs : List Loc} {cells slots : Nat} {Q : State → Prop} {A : Nat → Prop} {ls : Array Slot} {D : va_G} {d : Nat → ClassId} {ad : Nat → Nat} {w : Nat → Int32} {isKept : Nat → Int32} {people : Int32} {room : Nat → Int32} {work : Nat → Int32} {price : Nat → Int32} {askings : Int32} {asked : Nat → Int32} {hangs : Int32} {hung : Nat → Int32} {tenths : Nat → Int32} {sortWorth : Nat → Int32} {sortDays : Nat → Int32} {sorts : Int32} {text : Nat → Int32} {texted : Int32} {trace : Int64} {at_ : Int32} {fault : Int32} {readPeople : Int32} {readPerson : Nat → Int32} {readAskings : Int32} {readAsked : Nat → Int32} {readHangs : Int32} {readHung : Nat → Int32} {rest : Nat → Int32} {brings : Nat → Int64} {later : Nat → Int64} {x1 : Int32} {x2 : Int32} {x3 : Int32} {r : Int64} {brings_r : Nat → Int64} {later_r : Nat → Int64} (hx : p.tables.exec = Jvm.exec) (hb : c.code = cX10_expected) (hml : c.maxLocals = 12) (hown : s.vm.findClass RX10 = some m.cls) (hts : ∀ w ∈ lw_all, w.before args s = true) (hA : ∀ q, s.heap.size ≤ q → A q) (hRf : 2 ≤ R.frames) (hRl : 57 ≤ R.locals) (hRc : cells ≤ R.cells) (hRs : slots ≤ R.slots) (hf : m_expected people room tenths sortWorth sortDays brings later x1 x2 x3 = some (r, brings_r, later_r)) (hC : HC D gcl (gty d) A (mw d ad w isKept people room work price askings asked hangs hung tenths sortWorth sortDays sorts text texted trace at_ fault readPeople readPerson readAskings readAsked readHangs readHung rest brings later) s H locs) (hl : lv_has ls 12 [(0, .ref (ad 0)), (1, .int x1), (2, .int x2), (3, .int x3)]) (K : ∀ (H : Heap) (locs : List Loc) (ls : Array Slot) (pc : Nat), True → HC D gcl (gty d) A (mw d ad w isKept people room work price askings asked hangs hung tenths sortWorth sortDays sorts text texted trace at_ fault readPeople readPerson readAskings readAsked readHangs readHung rest brings_r later_r) s H locs → decode cX10_expected pc = .ok (.lreturn, 1) → W p l e R s m args below meth c H locs cells slots Q (F0 m pc ls [.long r])) : W p l e R s m args below meth c H locs cells slots Q (F0 m 0 ls []) := by
  unfold m_expected at hf
  refine lv_aload_n hx hb dX10_expected_0 rfl (lv_at hl 0 rfl) ?_
  refine lv_iload_n hx hb dX10_expected_1 rfl (lv_at hl 1 rfl) ?_
  obtain ⟨r_2, hcall, hf⟩ := bnd_some hf
  refine hc_i (va_runV (C := RX10) (As := [.int x1]) (rest := []) ⟨hx, hb, hml, hown, hts⟩ (c_m_isOne hcall) (cwV 1 hts (lw_V q942 q944 qs27 q59 q945) rfl rfl rfl (by decide +kernel) ⟨(Nat.le_trans (Nat.le_of_ble_eq_true rfl) hRf), (Nat.le_trans (Nat.le_of_ble_eq_true rfl) hRl)⟩) (pre_V (q0 := 0) (ci := 10) (fun _ _ _ _ h => h) (fun _ _ _ => trivial) hC rfl rfl) rfl rfl hl.1 rfl (lv_room (Nat.le_of_ble_eq_true rfl)) dX10_expected_2 ⟨hRc, hRs⟩) hA hC (fun H locs hC => ?_)
  refine lv_if_eq (tgt := 30) hx hb dX10_expected_5 (by decide) (fun c_5 => ?_) (fun c_5 => ?_)
  · have hf := if_t hf c_5
    refine lv_ldc2 (v := (-1)) hx hb hown (hts _ q1062) dX10_expected_30 ?_
    obtain ⟨e_1, e_2, e_3⟩ := so_3 (Option.some.inj hf)
    subst e_1
    subst e_2
    subst e_3
    exact K H locs ls _ trivial hC dX10_expected_33
  · have hf := if_f hf c_5
    refine lv_iload_n hx hb dX10_expected_8 rfl (lv_at hl 2 rfl) ?_
    refine lv_i2l (v := x2.toInt64) hx hb dX10_expected_9 rfl ?_
    refine lv_lconst (v := 0) hx hb dX10_expected_10 (by decide) ?_
    refine lv_ldc2 (v := 6) hx hb hown (hts _ q1061) dX10_expected_11 ?_
    obtain ⟨r_14, hcall, hf⟩ := bnd_some hf
    refine hc_i (va_runS (As := [.long x2.toInt64, .long 0, .long 6]) (rest := []) ⟨hx, hb, hml, hown, hts⟩ (c_m_in hcall) (va_cwS 3 hts (lw_S q898 q899 q59 q900) rfl rfl rfl (by decide +kernel) ⟨(Nat.le_trans (Nat.le_of_ble_eq_true rfl) hRf), (Nat.le_trans (Nat.le_of_ble_eq_true rfl) hRl)⟩) (pre_S (fun _ _ _ _ h => h) (fun _ _ _ => trivial) hC) rfl rfl hl.1 rfl (lv_room (Nat.le_of_ble_eq_true rfl)) dX10_expected_14 ⟨hRc, hRs⟩) hA hC (fun H locs hC => ?_)
    refine lv_if_eq (tgt := 30) hx hb dX10_expected_17 (by decide) (fun c_17 => ?_) (fun c_17 => ?_)
    · have hf := if_t hf c_17
      refine lv_ldc2 (v := (-1)) hx hb hown (hts _ q1062) dX10_expected_30 ?_
      obtain ⟨e_1, e_2, e_3⟩ := so_3 (Option.some.inj hf)
      subst e_1
      subst e_2
      subst e_3
      exact K H locs ls _ trivial hC dX10_expected_33
    · have hf := if_f hf c_17
      refine lv_iload_n hx hb dX10_expected_20 rfl (lv_at hl 3 rfl) ?_
      refine lv_i2l (v := x3.toInt64) hx hb dX10_expected_21 rfl ?_
      refine lv_lconst (v := 0) hx hb dX10_expected_22 (by decide) ?_
      refine lv_lconst (v := 1) hx hb dX10_expected_23 (by decide) ?_
      obtain ⟨r_24, hcall, hf⟩ := bnd_some hf
      refine hc_i (va_runS (As := [.long x3.toInt64, .long 0, .long 1]) (rest := []) ⟨hx, hb, hml, hown, hts⟩ (c_m_in hcall) (va_cwS 3 hts (lw_S q898 q899 q59 q900) rfl rfl rfl (by decide +kernel) ⟨(Nat.le_trans (Nat.le_of_ble_eq_true rfl) hRf), (Nat.le_trans (Nat.le_of_ble_eq_true rfl) hRl)⟩) (pre_S (fun _ _ _ _ h => h) (fun _ _ _ => trivial) hC) rfl rfl hl.1 rfl (lv_room (Nat.le_of_ble_eq_true rfl)) dX10_expected_24 ⟨hRc, hRs⟩) hA hC (fun H locs hC => ?_)
      refine lv_if_ne (tgt := 34) hx hb dX10_expected_27 (by decide) (fun c_27 => ?_) (fun c_27 => ?_)
      · have hf := if_f hf c_27
        refine lv_aload_n hx hb dX10_expected_34 rfl (lv_at hl 0 rfl) ?_
        refine lv_iload_n hx hb dX10_expected_35 rfl (lv_at hl 2 rfl) ?_
        refine lv_aload_n hx hb dX10_expected_36 rfl (lv_at hl 0 rfl) ?_
        refine va_get (ci := 10) (v := .ref (ad 3)) (C := RX10) (T := TX10) (N := 28) hx hb hts in_X10 hown hC.1 hC.2.1 0 rfl rfl 3 (by decide) (hts _ q809) (fun _ h9 => h9) rfl dX10_expected_37 ?_
        refine lv_iload_n hx hb dX10_expected_40 rfl (lv_at hl 1 rfl) ?_
        obtain ⟨hi_41, hf⟩ := ck_some hf
        refine va_iald hx hb hC.1 hC.2.1 3 0 rfl rfl hi_41 dX10_expected_41 ?_
        obtain ⟨brings_42, later_42, hcall, hf⟩ := bnd2_some hf
        refine hc_v (va_runV (C := RX10) (As := [.int x2, .int (room x1.toNatClampNeg)]) (rest := []) ⟨hx, hb, hml, hown, hts⟩ (c_m_findBrings hcall) (cwV 2 hts (lw_V q1063 q1065 qs41 q59 q1066) rfl rfl rfl (by decide +kernel) ⟨(Nat.le_trans (Nat.le_of_ble_eq_true rfl) hRf), (Nat.le_trans (Nat.le_of_ble_eq_true rfl) hRl)⟩) (pre_V (q0 := 0) (ci := 10) (fun _ _ _ _ h => h) (fun _ _ _ => trivial) hC rfl rfl) rfl rfl hl.1 rfl (lv_room (Nat.le_of_ble_eq_true rfl)) dX10_expected_42 ⟨hRc, hRs⟩) hA hC (fun H locs hC => ?_)
        refine lv_lconst (v := 1) hx hb dX10_expected_45 (by decide) ?_
        refine lv_lstore (lv' := [(4, .long 1), (0, .ref (ad 0)), (1, .int x1), (2, .int x2), (3, .int x3)]) hx hb dX10_expected_46 hl (by decide) rfl (fun ls hl => ?_)
        refine lv_iconst (v := 0) hx hb dX10_expected_48 (by decide) ?_
        refine lv_istore (lv' := [(6, .int 0), (4, .long 1), (0, .ref (ad 0)), (1, .int x1), (2, .int x2), (3, .int x3)]) hx hb dX10_expected_49 hl (by decide) rfl (fun ls hl => ?_)
        obtain ⟨x4_71, hL, hf⟩ := bnd_some hf
        have X_51 : ∀ (H : Heap) (locs : List Loc) (ls : Array Slot), HC D gcl (gty d) A (mw d ad w isKept people room work price askings asked hangs hung tenths sortWorth sortDays sorts text texted trace at_ fault readPeople readPerson readAskings readAsked readHangs readHung rest brings_42 later_42) s H locs → lv_has ls 12 [(0, .ref (ad 0)), (3, .int x3), (4, .long x4_71)] → W p l e R s m args below meth c H locs cells slots Q (F0 m 71 ls []) := by
          intro H locs ls hC hl
          refine lv_aload_n hx hb dX10_expected_71 rfl (lv_at hl 0 rfl) ?_
          refine va_get (ci := 10) (v := .ref (ad 16)) (C := RX10) (T := TX10) (N := 28) hx hb hts in_X10 hown hC.1 hC.2.1 0 rfl rfl 26 (by decide) (hts _ q832) (fun _ h9 => h9) rfl dX10_expected_72 ?_
          refine lv_iconst (v := 0) hx hb dX10_expected_75 (by decide) ?_
          refine va_lald hx hb hC.1 hC.2.1 16 3 rfl rfl (vp_in_iff.mpr (by decide)) dX10_expected_76 ?_
          refine lv_lstore (lv' := [(6, .long (brings_42 (0 : Int32).toNatClampNeg)), (0, .ref (ad 0)), (3, .int x3), (4, .long x4_71)]) hx hb dX10_expected_77 hl (by decide) rfl (fun ls hl => ?_)
          refine lv_lload hx hb dX10_expected_79 (lv_at hl 3 rfl) ?_
          refine lv_lstore (lv' := [(8, .long x4_71), (6, .long (brings_42 (0 : Int32).toNatClampNeg)), (0, .ref (ad 0)), (3, .int x3), (4, .long x4_71)]) hx hb dX10_expected_81 hl (by decide) rfl (fun ls hl => ?_)
          obtain ⟨x6_108, hL, hf⟩ := bnd_some hf
          have X_83 : ∀ (H : Heap) (locs : List Loc) (ls : Array Slot), HC D gcl (gty d) A (mw d ad w isKept people room work price askings asked hangs hung tenths sortWorth sortDays sorts text texted trace at_ fault readPeople readPerson readAskings readAsked readHangs readHung rest brings_42 later_42) s H locs → lv_has ls 12 [(0, .ref (ad 0)), (3, .int x3), (4, .long x4_71), (6, .long x6_108)] → W p l e R s m args below meth c H locs cells slots Q (F0 m 108 ls []) := by
            intro H locs ls hC hl
            refine lv_iload_n hx hb dX10_expected_108 rfl (lv_at hl 1 rfl) ?_
            refine lv_if_ne (tgt := 124) hx hb dX10_expected_109 (by decide) (fun c_109 => ?_) (fun c_109 => ?_)
            · have hf := if_f hf c_109
              refine lv_lload hx hb dX10_expected_124 (lv_at hl 2 rfl) ?_
              refine lv_lload hx hb dX10_expected_126 (lv_at hl 3 rfl) ?_
              obtain ⟨hd_128, hf⟩ := ckd_some hf
              refine lv_ldiv hx hb dX10_expected_128 hd_128 ?_
              obtain ⟨e_1, e_2, e_3⟩ := so_3 (Option.some.inj hf)
              subst e_1
              subst e_2
              subst e_3
              exact K H locs ls _ trivial hC dX10_expected_129
            · have hf := if_t hf c_109
              refine lv_aload_n hx hb dX10_expected_112 rfl (lv_at hl 0 rfl) ?_
              refine va_get (ci := 10) (v := .ref (ad 16)) (C := RX10) (T := TX10) (N := 28) hx hb hts in_X10 hown hC.1 hC.2.1 0 rfl rfl 26 (by decide) (hts _ q832) (fun _ h9 => h9) rfl dX10_expected_113 ?_
              refine lv_iconst (v := 0) hx hb dX10_expected_116 (by decide) ?_
              refine va_lald hx hb hC.1 hC.2.1 16 3 rfl rfl (vp_in_iff.mpr (by decide)) dX10_expected_117 ?_
              refine lv_lload hx hb dX10_expected_118 (lv_at hl 3 rfl) ?_
              obtain ⟨hd_120, hf⟩ := ckd_some hf
              refine lv_ldiv hx hb dX10_expected_120 hd_120 ?_
              refine lv_goto (tgt := 129) hx hb dX10_expected_121 (by decide) ?_
              obtain ⟨e_1, e_2, e_3⟩ := so_3 (Option.some.inj hf)
              subst e_1
              subst e_2
              subst e_3
              exact K H locs ls _ trivial hC dX10_expected_129
          have L_83 : ∀ (n_83 : Nat) (x6_83 : Int64) (x8_83 : Int64), m_expected_L83 n_83 x6_83 x8_83 = some x6_108 → ∀ (H : Heap) (locs : List Loc) (ls : Array Slot), HC D gcl (gty d) A (mw d ad w isKept people room work price askings asked hangs hung tenths sortWorth sortDays sorts text texted trace at_ fault readPeople readPerson readAskings readAsked readHangs readHung rest brings_42 later_42) s H locs → lv_has ls 12 [(0, .ref (ad 0)), (3, .int x3), (4, .long x4_71), (6, .long x6_83), (8, .long x8_83)] → W p l e R s m args below meth c H locs cells slots Q (F0 m 83 ls []) := by
            intro n_83
            induction n_83 with
            | zero => intro _ _ hf; cases hf
            | succ n_83 ih =>
              intro x6_83 x8_83 hf H locs ls hC hl
              rw [m_expected_L83_s] at hf
              refine lv_lload hx hb dX10_expected_83 (lv_at hl 4 rfl) ?_
              refine lv_lconst (v := 0) hx hb dX10_expected_85 (by decide) ?_
              refine W.lcmp hx hb dX10_expected_86 ?_
              refine lv_if_eq (tgt := 108) hx hb dX10_expected_87 (by decide) (fun c_87 => ?_) (fun c_87 => ?_)
              · have hf := if_t hf c_87
                have e_1 := (Option.some.inj hf)
                subst e_1
                exact X_83 H locs ls hC (lv_sub hl [0, 1, 2, 3] rfl)
              · have hf := if_f hf c_87
                refine lv_lload hx hb dX10_expected_90 (lv_at hl 3 rfl) ?_
                refine lv_lload hx hb dX10_expected_92 (lv_at hl 4 rfl) ?_
                obtain ⟨hd_94, hf⟩ := ckd_some hf
                refine lv_lrem hx hb dX10_expected_94 hd_94 ?_
                refine lv_lstore (lv' := [(10, .long (x6_83 - x6_83 / x8_83 * x8_83)), (0, .ref (ad 0)), (3, .int x3), (4, .long x4_71), (6, .long x6_83), (8, .long x8_83)]) hx hb dX10_expected_95 hl (by decide) rfl (fun ls hl => ?_)
                refine lv_lload hx hb dX10_expected_97 (lv_at hl 5 rfl) ?_
                refine lv_lstore (lv' := [(6, .long x8_83), (10, .long (x6_83 - x6_83 / x8_83 * x8_83)), (0, .ref (ad 0)), (3, .int x3), (4, .long x4_71), (8, .long x8_83)]) hx hb dX10_expected_99 hl (by decide) rfl (fun ls hl => ?_)
                refine lv_lload hx hb dX10_expected_101 (lv_at hl 1 rfl) ?_
                refine lv_lstore (lv' := [(8, .long (x6_83 - x6_83 / x8_83 * x8_83)), (6, .long x8_83), (10, .long (x6_83 - x6_83 / x8_83 * x8_83)), (0, .ref (ad 0)), (3, .int x3), (4, .long x4_71)]) hx hb dX10_expected_103 hl (by decide) rfl (fun ls hl => ?_)
                refine lv_goto (tgt := 83) hx hb dX10_expected_105 (by decide) ?_
                exact ih _ _ hf H locs ls hC (lv_sub hl [3, 4, 5, 1, 0] rfl)
          exact L_83 _ _ _ hL H locs ls hC (lv_sub hl [2, 3, 4, 1, 0] rfl)
        have L_51 : ∀ (n_51 : Nat) (x4_51 : Int64) (x6_51 : Int32), m_expected_L51 x2 n_51 x4_51 x6_51 = some x4_71 → ∀ (H : Heap) (locs : List Loc) (ls : Array Slot), HC D gcl (gty d) A (mw d ad w isKept people room work price askings asked hangs hung tenths sortWorth sortDays sorts text texted trace at_ fault readPeople readPerson readAskings readAsked readHangs readHung rest brings_42 later_42) s H locs → lv_has ls 12 [(0, .ref (ad 0)), (2, .int x2), (3, .int x3), (4, .long x4_51), (6, .int x6_51)] → W p l e R s m args below meth c H locs cells slots Q (F0 m 51 ls []) := by
          intro n_51
          induction n_51 with
          | zero => intro _ _ hf; cases hf
          | succ n_51 ih =>
            intro x4_51 x6_51 hf H locs ls hC hl
            rw [m_expected_L51_s] at hf
            refine lv_iload hx hb dX10_expected_51 (lv_at hl 4 rfl) ?_
            refine lv_iload_n hx hb dX10_expected_53 rfl (lv_at hl 1 rfl) ?_
            refine lv_icmp_ge (tgt := 71) hx hb dX10_expected_54 (by decide) (fun c_54 => ?_) (fun c_54 => ?_)
            · have hf := if_t hf c_54
              have e_1 := (Option.some.inj hf)
              subst e_1
              exact X_51 H locs ls hC (lv_sub hl [0, 2, 3] rfl)
            · have hf := if_f hf c_54
              refine lv_lload hx hb dX10_expected_57 (lv_at hl 3 rfl) ?_
              refine lv_ldc2 (v := 10) hx hb hown (hts _ q1051) dX10_expected_59 ?_
              refine lv_lmul hx hb dX10_expected_62 ?_
              refine lv_lstore (lv' := [(4, .long (x4_51 * 10)), (0, .ref (ad 0)), (2, .int x2), (3, .int x3), (6, .int x6_51)]) hx hb dX10_expected_63 hl (by decide) rfl (fun ls hl => ?_)
              refine lv_iinc (v := x6_51 + 1) (lv' := [(6, .int (x6_51 + 1)), (4, .long (x4_51 * 10)), (0, .ref (ad 0)), (2, .int x2), (3, .int x3)]) hx hb dX10_expected_65 hl (k := 4) rfl rfl (by decide) rfl (fun ls hl => ?_)
              refine lv_goto (tgt := 51) hx hb dX10_expected_68 (by decide) ?_
              exact ih _ _ hf H locs ls hC (lv_sub hl [2, 3, 4, 1, 0] rfl)
        exact L_51 _ _ _ hL H locs ls hC (lv_sub hl [2, 4, 5, 1, 0] rfl)
      · have hf := if_t hf c_27
        refine lv_ldc2 (v := (-1)) hx hb hown (hts _ q1062) dX10_expected_30 ?_
        obtain ⟨e_1, e_2, e_3⟩ := so_3 (Option.some.inj hf)
        subst e_1
        subst e_2
        subst e_3
        exact K H locs ls _ trivial hC dX10_expected_33
set_option maxRecDepth 100000 in
theorem c_m_expected {l : Launch} {sz : Nat} {D : va_G} {d : Nat → ClassId} {ad : Nat → Nat} {w : Nat → Int32} {isKept : Nat → Int32} {people : Int32} {room : Nat → Int32} {work : Nat → Int32} {price : Nat → Int32} {askings : Int32} {asked : Nat → Int32} {hangs : Int32} {hung : Nat → Int32} {tenths : Nat → Int32} {sortWorth : Nat → Int32} {sortDays : Nat → Int32} {sorts : Int32} {text : Nat → Int32} {texted : Int32} {trace : Int64} {at_ : Int32} {fault : Int32} {readPeople : Int32} {readPerson : Nat → Int32} {readAskings : Int32} {readAsked : Nat → Int32} {readHangs : Int32} {readHung : Nat → Int32} {rest : Nat → Int32} {brings : Nat → Int64} {later : Nat → Int64} {x1 : Int32} {x2 : Int32} {x3 : Int32} {r : Int64} {brings_r : Nat → Int64} {later_r : Nat → Int64} (hf : m_expected people room tenths sortWorth sortDays brings later x1 x2 x3 = some (r, brings_r, later_r)) : ML l yX10_expected (ws_ yX10_expected cX10_expected 12 (some .long)) { frames := 2, cells := 0, slots := 0, locals := 57 } D gcl (gty d) (fun _ => True) (mw d ad w isKept people room work price askings asked hangs hung tenths sortWorth sortDays sorts text texted trace at_ fault readPeople readPerson readAskings readAsked readHangs readHung rest brings later) (mw d ad w isKept people room work price askings asked hangs hung tenths sortWorth sortDays sorts text texted trace at_ fault readPeople readPerson readAskings readAsked readHangs readHung rest brings_r later_r) sz [.ref (ad 0), .int x1, .int x2, .int x3] r :=
  ML.of (by decide) [.ref (ad 0), .int x1, .int x2, .int x3] [(0, .ref (ad 0)), (1, .int x1), (2, .int x2), (3, .int x3)] (Nat.le_of_ble_eq_true rfl) rfl (fun p e s m below meth c ls Q hx hb hml hown hts hN hA hC hl K => w_m_expected hx hb hml hown hts hA (Nat.le_refl _) (Nat.le_refl _) (Nat.le_refl _) (Nat.le_refl _) hf hC hl K)

def m_wise_L63 (x2 : Int32) : Nat → Int64 → Int32 → Option (Int64)
  | 0, _, _ => none
  | n_63 + 1, x4_63, x6_63 =>
  if x2 ≤ x6_63 then (some x4_63) else
  m_wise_L63 x2 n_63 (x4_63 * 10) (x6_63 + 1) 
theorem m_wise_L63_s (x2 : Int32) (n_63 : Nat) (x4_63 : Int64) (x6_63 : Int32) : m_wise_L63 x2 (n_63 + 1) x4_63 x6_63 = (
  if x2 ≤ x6_63 then (some x4_63) else
  m_wise_L63 x2 n_63 (x4_63 * 10) (x6_63 + 1) ) := rfl
def m_wise (tenths : Nat → Int32) (sortWorth : Nat → Int32) (sortDays : Nat → Int32) (sorts : Int32) (brings : Nat → Int64) (later : Nat → Int64) (x1 : Int32) (x2 : Int32) (x3 : Int32) : Option (Int32 × (Nat → Int64) × (Nat → Int64)) :=
  bnd (m_in x1.toInt64 0 2) fun r_6 =>
  if r_6 = 0 then (some ((-1), brings, later)) else
  bnd (m_has sorts x1) fun r_17 =>
  if r_17 = 0 then (some ((-1), brings, later)) else
  bnd (m_in x2.toInt64 1 6) fun r_29 =>
  if r_29 = 0 then (some ((-1), brings, later)) else
  bnd (m_in x3.toInt64 1 5) fun r_41 =>
  if r_41 = 0 then (some ((-1), brings, later)) else
  bnd2 (m_findBrings tenths sortWorth sortDays brings later (x2 - 1) x3) fun brings_54 later_54 =>
  bnd (m_wise_L63 x2 g_fuel 1 1 ) (fun x4_83 =>
  ck x1 3 <| bnd (m_behind sortDays 0 x1) fun r_100 =>
  ck r_100 12 <| if (lg_cmp ((((sortWorth x1.toNatClampNeg).toInt64) * x4_83) + (brings_54 r_100.toNatClampNeg)) (brings_54 (0 : Int32).toNatClampNeg)) < 0 then (some (0, brings_54, later_54)) else
  some (1, brings_54, later_54))
set_option maxHeartbeats 4000000 in
set_option maxRecDepth 100000 in
theorem w_m_wise {p : Program} {l : Launch} {e : Env} {R : Room} {s : State} {m : MethodId} {args : Array Value} {below : List Frame} {meth : Method} {c : Code} {H : Heap} {locs : List Loc} {cells slots : Nat} {Q : State → Prop} {A : Nat → Prop} {ls : Array Slot} {D : va_G} {d : Nat → ClassId} {ad : Nat → Nat} {w : Nat → Int32} {isKept : Nat → Int32} {people : Int32} {room : Nat → Int32} {work : Nat → Int32} {price : Nat → Int32} {askings : Int32} {asked : Nat → Int32} {hangs : Int32} {hung : Nat → Int32} {tenths : Nat → Int32} {sortWorth : Nat → Int32} {sortDays : Nat → Int32} {sorts : Int32} {text : Nat → Int32} {texted : Int32} {trace : Int64} {at_ : Int32} {fault : Int32} {readPeople : Int32} {readPerson : Nat → Int32} {readAskings : Int32} {readAsked : Nat → Int32} {readHangs : Int32} {readHung : Nat → Int32} {rest : Nat → Int32} {brings : Nat → Int64} {later : Nat → Int64} {x1 : Int32} {x2 : Int32} {x3 : Int32} {r : Int32} {brings_r : Nat → Int64} {later_r : Nat → Int64} (hx : p.tables.exec = Jvm.exec) (hb : c.code = cX10_wise) (hml : c.maxLocals = 7) (hown : s.vm.findClass RX10 = some m.cls) (hts : ∀ w ∈ lw_all, w.before args s = true) (hA : ∀ q, s.heap.size ≤ q → A q) (hRf : 2 ≤ R.frames) (hRl : 57 ≤ R.locals) (hRc : cells ≤ R.cells) (hRs : slots ≤ R.slots) (hf : m_wise tenths sortWorth sortDays sorts brings later x1 x2 x3 = some (r, brings_r, later_r)) (hC : HC D gcl (gty d) A (mw d ad w isKept people room work price askings asked hangs hung tenths sortWorth sortDays sorts text texted trace at_ fault readPeople readPerson readAskings readAsked readHangs readHung rest brings later) s H locs) (hl : lv_has ls 7 [(0, .ref (ad 0)), (1, .int x1), (2, .int x2), (3, .int x3)]) (K : ∀ (H : Heap) (locs : List Loc) (ls : Array Slot) (pc : Nat), narrow .int (.int r) = .int r → HC D gcl (gty d) A (mw d ad w isKept people room work price askings asked hangs hung tenths sortWorth sortDays sorts text texted trace at_ fault readPeople readPerson readAskings readAsked readHangs readHung rest brings_r later_r) s H locs → decode cX10_wise pc = .ok (.ireturn, 1) → W p l e R s m args below meth c H locs cells slots Q (F0 m pc ls [.int r])) : W p l e R s m args below meth c H locs cells slots Q (F0 m 0 ls []) := by
  unfold m_wise at hf
  refine lv_iload_n hx hb dX10_wise_0 rfl (lv_at hl 1 rfl) ?_
  refine lv_i2l (v := x1.toInt64) hx hb dX10_wise_1 rfl ?_
  refine lv_lconst (v := 0) hx hb dX10_wise_2 (by decide) ?_
  refine lv_ldc2 (v := 2) hx hb hown (hts _ q1050) dX10_wise_3 ?_
  obtain ⟨r_6, hcall, hf⟩ := bnd_some hf
  refine hc_i (va_runS (As := [.long x1.toInt64, .long 0, .long 2]) (rest := []) ⟨hx, hb, hml, hown, hts⟩ (c_m_in hcall) (va_cwS 3 hts (lw_S q898 q899 q59 q900) rfl rfl rfl (by decide +kernel) ⟨(Nat.le_trans (Nat.le_of_ble_eq_true rfl) hRf), (Nat.le_trans (Nat.le_of_ble_eq_true rfl) hRl)⟩) (pre_S (fun _ _ _ _ h => h) (fun _ _ _ => trivial) hC) rfl rfl hl.1 rfl (lv_room (Nat.le_of_ble_eq_true rfl)) dX10_wise_6 ⟨hRc, hRs⟩) hA hC (fun H locs hC => ?_)
  refine lv_if_eq (tgt := 47) hx hb dX10_wise_9 (by decide) (fun c_9 => ?_) (fun c_9 => ?_)
  · have hf := if_t hf c_9
    refine lv_iconst (v := (-1)) hx hb dX10_wise_47 (by decide) ?_
    obtain ⟨e_1, e_2, e_3⟩ := so_3 (Option.some.inj hf)
    subst e_1
    subst e_2
    subst e_3
    exact K H locs ls _ rfl hC dX10_wise_48
  · have hf := if_f hf c_9
    refine lv_aload_n hx hb dX10_wise_12 rfl (lv_at hl 0 rfl) ?_
    refine va_get (ci := 10) (v := .int sorts) (C := RX10) (T := TX10) (N := 28) hx hb hts in_X10 hown hC.1 hC.2.1 0 rfl rfl 13 (by decide) (hts _ q819) (fun _ h9 => h9) rfl dX10_wise_13 ?_
    refine lv_iload_n hx hb dX10_wise_16 rfl (lv_at hl 1 rfl) ?_
    obtain ⟨r_17, hcall, hf⟩ := bnd_some hf
    refine hc_i (va_runS (As := [.int sorts, .int x1]) (rest := []) ⟨hx, hb, hml, hown, hts⟩ (c_m_has hcall) (va_cwS 2 hts (lw_S q1032 q1033 q59 q1034) rfl rfl rfl (by decide +kernel) ⟨(Nat.le_trans (Nat.le_of_ble_eq_true rfl) hRf), (Nat.le_trans (Nat.le_of_ble_eq_true rfl) hRl)⟩) (pre_S (fun _ _ _ _ h => h) (fun _ _ _ => trivial) hC) rfl rfl hl.1 rfl (lv_room (Nat.le_of_ble_eq_true rfl)) dX10_wise_17 ⟨hRc, hRs⟩) hA hC (fun H locs hC => ?_)
    refine lv_if_eq (tgt := 47) hx hb dX10_wise_20 (by decide) (fun c_20 => ?_) (fun c_20 => ?_)
    · have hf := if_t hf c_20
      refine lv_iconst (v := (-1)) hx hb dX10_wise_47 (by decide) ?_
      obtain ⟨e_1, e_2, e_3⟩ := so_3 (Option.some.inj hf)
      subst e_1
      subst e_2
      subst e_3
      exact K H locs ls _ rfl hC dX10_wise_48
    · have hf := if_f hf c_20
      refine lv_iload_n hx hb dX10_wise_23 rfl (lv_at hl 2 rfl) ?_
      refine lv_i2l (v := x2.toInt64) hx hb dX10_wise_24 rfl ?_
      refine lv_lconst (v := 1) hx hb dX10_wise_25 (by decide) ?_
      refine lv_ldc2 (v := 6) hx hb hown (hts _ q1061) dX10_wise_26 ?_
      obtain ⟨r_29, hcall, hf⟩ := bnd_some hf
      refine hc_i (va_runS (As := [.long x2.toInt64, .long 1, .long 6]) (rest := []) ⟨hx, hb, hml, hown, hts⟩ (c_m_in hcall) (va_cwS 3 hts (lw_S q898 q899 q59 q900) rfl rfl rfl (by decide +kernel) ⟨(Nat.le_trans (Nat.le_of_ble_eq_true rfl) hRf), (Nat.le_trans (Nat.le_of_ble_eq_true rfl) hRl)⟩) (pre_S (fun _ _ _ _ h => h) (fun _ _ _ => trivial) hC) rfl rfl hl.1 rfl (lv_room (Nat.le_of_ble_eq_true rfl)) dX10_wise_29 ⟨hRc, hRs⟩) hA hC (fun H locs hC => ?_)
      refine lv_if_eq (tgt := 47) hx hb dX10_wise_32 (by decide) (fun c_32 => ?_) (fun c_32 => ?_)
      · have hf := if_t hf c_32
        refine lv_iconst (v := (-1)) hx hb dX10_wise_47 (by decide) ?_
        obtain ⟨e_1, e_2, e_3⟩ := so_3 (Option.some.inj hf)
        subst e_1
        subst e_2
        subst e_3
        exact K H locs ls _ rfl hC dX10_wise_48
      · have hf := if_f hf c_32
        refine lv_iload_n hx hb dX10_wise_35 rfl (lv_at hl 3 rfl) ?_
        refine lv_i2l (v := x3.toInt64) hx hb dX10_wise_36 rfl ?_
        refine lv_lconst (v := 1) hx hb dX10_wise_37 (by decide) ?_
        refine lv_ldc2 (v := 5) hx hb hown (hts _ q1075) dX10_wise_38 ?_
        obtain ⟨r_41, hcall, hf⟩ := bnd_some hf
        refine hc_i (va_runS (As := [.long x3.toInt64, .long 1, .long 5]) (rest := []) ⟨hx, hb, hml, hown, hts⟩ (c_m_in hcall) (va_cwS 3 hts (lw_S q898 q899 q59 q900) rfl rfl rfl (by decide +kernel) ⟨(Nat.le_trans (Nat.le_of_ble_eq_true rfl) hRf), (Nat.le_trans (Nat.le_of_ble_eq_true rfl) hRl)⟩) (pre_S (fun _ _ _ _ h => h) (fun _ _ _ => trivial) hC) rfl rfl hl.1 rfl (lv_room (Nat.le_of_ble_eq_true rfl)) dX10_wise_41 ⟨hRc, hRs⟩) hA hC (fun H locs hC => ?_)
        refine lv_if_ne (tgt := 49) hx hb dX10_wise_44 (by decide) (fun c_44 => ?_) (fun c_44 => ?_)
        · have hf := if_f hf c_44
          refine lv_aload_n hx hb dX10_wise_49 rfl (lv_at hl 0 rfl) ?_
          refine lv_iload_n hx hb dX10_wise_50 rfl (lv_at hl 2 rfl) ?_
          refine lv_iconst (v := 1) hx hb dX10_wise_51 (by decide) ?_
          refine lv_isub hx hb dX10_wise_52 ?_
          refine lv_iload_n hx hb dX10_wise_53 rfl (lv_at hl 3 rfl) ?_
          obtain ⟨brings_54, later_54, hcall, hf⟩ := bnd2_some hf
          refine hc_v (va_runV (C := RX10) (As := [.int (x2 - 1), .int x3]) (rest := []) ⟨hx, hb, hml, hown, hts⟩ (c_m_findBrings hcall) (cwV 2 hts (lw_V q1063 q1065 qs41 q59 q1066) rfl rfl rfl (by decide +kernel) ⟨(Nat.le_trans (Nat.le_of_ble_eq_true rfl) hRf), (Nat.le_trans (Nat.le_of_ble_eq_true rfl) hRl)⟩) (pre_V (q0 := 0) (ci := 10) (fun _ _ _ _ h => h) (fun _ _ _ => trivial) hC rfl rfl) rfl rfl hl.1 rfl (lv_room (Nat.le_of_ble_eq_true rfl)) dX10_wise_54 ⟨hRc, hRs⟩) hA hC (fun H locs hC => ?_)
          refine lv_lconst (v := 1) hx hb dX10_wise_57 (by decide) ?_
          refine lv_lstore (lv' := [(4, .long 1), (0, .ref (ad 0)), (1, .int x1), (2, .int x2), (3, .int x3)]) hx hb dX10_wise_58 hl (by decide) rfl (fun ls hl => ?_)
          refine lv_iconst (v := 1) hx hb dX10_wise_60 (by decide) ?_
          refine lv_istore (lv' := [(6, .int 1), (4, .long 1), (0, .ref (ad 0)), (1, .int x1), (2, .int x2), (3, .int x3)]) hx hb dX10_wise_61 hl (by decide) rfl (fun ls hl => ?_)
          obtain ⟨x4_83, hL, hf⟩ := bnd_some hf
          have X_63 : ∀ (H : Heap) (locs : List Loc) (ls : Array Slot), HC D gcl (gty d) A (mw d ad w isKept people room work price askings asked hangs hung tenths sortWorth sortDays sorts text texted trace at_ fault readPeople readPerson readAskings readAsked readHangs readHung rest brings_54 later_54) s H locs → lv_has ls 7 [(0, .ref (ad 0)), (1, .int x1), (4, .long x4_83)] → W p l e R s m args below meth c H locs cells slots Q (F0 m 83 ls []) := by
            intro H locs ls hC hl
            refine lv_aload_n hx hb dX10_wise_83 rfl (lv_at hl 0 rfl) ?_
            refine va_get (ci := 10) (v := .ref (ad 9)) (C := RX10) (T := TX10) (N := 28) hx hb hts in_X10 hown hC.1 hC.2.1 0 rfl rfl 11 (by decide) (hts _ q817) (fun _ h9 => h9) rfl dX10_wise_84 ?_
            refine lv_iload_n hx hb dX10_wise_87 rfl (lv_at hl 1 rfl) ?_
            obtain ⟨hi_88, hf⟩ := ck_some hf
            refine va_iald hx hb hC.1 hC.2.1 9 0 rfl rfl hi_88 dX10_wise_88 ?_
            refine lv_i2l (v := (sortWorth x1.toNatClampNeg).toInt64) hx hb dX10_wise_89 rfl ?_
            refine lv_lload hx hb dX10_wise_90 (lv_at hl 2 rfl) ?_
            refine lv_lmul hx hb dX10_wise_92 ?_
            refine lv_aload_n hx hb dX10_wise_93 rfl (lv_at hl 0 rfl) ?_
            refine va_get (ci := 10) (v := .ref (ad 16)) (C := RX10) (T := TX10) (N := 28) hx hb hts in_X10 hown hC.1 hC.2.1 0 rfl rfl 26 (by decide) (hts _ q832) (fun _ h9 => h9) rfl dX10_wise_94 ?_
            refine lv_aload_n hx hb dX10_wise_97 rfl (lv_at hl 0 rfl) ?_
            refine lv_iconst (v := 0) hx hb dX10_wise_98 (by decide) ?_
            refine lv_iload_n hx hb dX10_wise_99 rfl (lv_at hl 1 rfl) ?_
            obtain ⟨r_100, hcall, hf⟩ := bnd_some hf
            refine hc_i (va_runV (C := RX10) (As := [.int 0, .int x1]) (rest := [.ref (ad 16), .long (((sortWorth x1.toNatClampNeg).toInt64) * x4_83)]) ⟨hx, hb, hml, hown, hts⟩ (c_m_behind hcall) (cwV 2 hts (lw_V q1067 q1069 qs42 q59 q1070) rfl rfl rfl (by decide +kernel) ⟨(Nat.le_trans (Nat.le_of_ble_eq_true rfl) hRf), (Nat.le_trans (Nat.le_of_ble_eq_true rfl) hRl)⟩) (pre_V (q0 := 0) (ci := 10) (fun _ _ _ _ h => h) (fun _ _ _ => trivial) hC rfl rfl) rfl rfl hl.1 rfl (lv_room (Nat.le_of_ble_eq_true rfl)) dX10_wise_100 ⟨hRc, hRs⟩) hA hC (fun H locs hC => ?_)
            obtain ⟨hi_103, hf⟩ := ck_some hf
            refine va_lald hx hb hC.1 hC.2.1 16 3 rfl rfl hi_103 dX10_wise_103 ?_
            refine lv_ladd hx hb dX10_wise_104 ?_
            refine lv_aload_n hx hb dX10_wise_105 rfl (lv_at hl 0 rfl) ?_
            refine va_get (ci := 10) (v := .ref (ad 16)) (C := RX10) (T := TX10) (N := 28) hx hb hts in_X10 hown hC.1 hC.2.1 0 rfl rfl 26 (by decide) (hts _ q832) (fun _ h9 => h9) rfl dX10_wise_106 ?_
            refine lv_iconst (v := 0) hx hb dX10_wise_109 (by decide) ?_
            refine va_lald hx hb hC.1 hC.2.1 16 3 rfl rfl (vp_in_iff.mpr (by decide)) dX10_wise_110 ?_
            refine W.lcmp hx hb dX10_wise_111 ?_
            refine lv_if_lt (tgt := 119) hx hb dX10_wise_112 (by decide) (fun c_112 => ?_) (fun c_112 => ?_)
            · have hf := if_t hf c_112
              refine lv_iconst (v := 0) hx hb dX10_wise_119 (by decide) ?_
              obtain ⟨e_1, e_2, e_3⟩ := so_3 (Option.some.inj hf)
              subst e_1
              subst e_2
              subst e_3
              exact K H locs ls _ rfl hC dX10_wise_120
            · have hf := if_f hf c_112
              refine lv_iconst (v := 1) hx hb dX10_wise_115 (by decide) ?_
              refine lv_goto (tgt := 120) hx hb dX10_wise_116 (by decide) ?_
              obtain ⟨e_1, e_2, e_3⟩ := so_3 (Option.some.inj hf)
              subst e_1
              subst e_2
              subst e_3
              exact K H locs ls _ rfl hC dX10_wise_120
          have L_63 : ∀ (n_63 : Nat) (x4_63 : Int64) (x6_63 : Int32), m_wise_L63 x2 n_63 x4_63 x6_63 = some x4_83 → ∀ (H : Heap) (locs : List Loc) (ls : Array Slot), HC D gcl (gty d) A (mw d ad w isKept people room work price askings asked hangs hung tenths sortWorth sortDays sorts text texted trace at_ fault readPeople readPerson readAskings readAsked readHangs readHung rest brings_54 later_54) s H locs → lv_has ls 7 [(0, .ref (ad 0)), (1, .int x1), (2, .int x2), (4, .long x4_63), (6, .int x6_63)] → W p l e R s m args below meth c H locs cells slots Q (F0 m 63 ls []) := by
            intro n_63
            induction n_63 with
            | zero => intro _ _ hf; cases hf
            | succ n_63 ih =>
              intro x4_63 x6_63 hf H locs ls hC hl
              rw [m_wise_L63_s] at hf
              refine lv_iload hx hb dX10_wise_63 (lv_at hl 4 rfl) ?_
              refine lv_iload_n hx hb dX10_wise_65 rfl (lv_at hl 2 rfl) ?_
              refine lv_icmp_ge (tgt := 83) hx hb dX10_wise_66 (by decide) (fun c_66 => ?_) (fun c_66 => ?_)
              · have hf := if_t hf c_66
                have e_1 := (Option.some.inj hf)
                subst e_1
                exact X_63 H locs ls hC (lv_sub hl [0, 1, 3] rfl)
              · have hf := if_f hf c_66
                refine lv_lload hx hb dX10_wise_69 (lv_at hl 3 rfl) ?_
                refine lv_ldc2 (v := 10) hx hb hown (hts _ q1051) dX10_wise_71 ?_
                refine lv_lmul hx hb dX10_wise_74 ?_
                refine lv_lstore (lv' := [(4, .long (x4_63 * 10)), (0, .ref (ad 0)), (1, .int x1), (2, .int x2), (6, .int x6_63)]) hx hb dX10_wise_75 hl (by decide) rfl (fun ls hl => ?_)
                refine lv_iinc (v := x6_63 + 1) (lv' := [(6, .int (x6_63 + 1)), (4, .long (x4_63 * 10)), (0, .ref (ad 0)), (1, .int x1), (2, .int x2)]) hx hb dX10_wise_77 hl (k := 4) rfl rfl (by decide) rfl (fun ls hl => ?_)
                refine lv_goto (tgt := 63) hx hb dX10_wise_80 (by decide) ?_
                exact ih _ _ hf H locs ls hC (lv_sub hl [2, 3, 4, 1, 0] rfl)
          exact L_63 _ _ _ hL H locs ls hC (lv_sub hl [2, 3, 4, 1, 0] rfl)
        · have hf := if_t hf c_44
          refine lv_iconst (v := (-1)) hx hb dX10_wise_47 (by decide) ?_
          obtain ⟨e_1, e_2, e_3⟩ := so_3 (Option.some.inj hf)
          subst e_1
          subst e_2
          subst e_3
          exact K H locs ls _ rfl hC dX10_wise_48
set_option maxRecDepth 100000 in
theorem c_m_wise {l : Launch} {sz : Nat} {D : va_G} {d : Nat → ClassId} {ad : Nat → Nat} {w : Nat → Int32} {isKept : Nat → Int32} {people : Int32} {room : Nat → Int32} {work : Nat → Int32} {price : Nat → Int32} {askings : Int32} {asked : Nat → Int32} {hangs : Int32} {hung : Nat → Int32} {tenths : Nat → Int32} {sortWorth : Nat → Int32} {sortDays : Nat → Int32} {sorts : Int32} {text : Nat → Int32} {texted : Int32} {trace : Int64} {at_ : Int32} {fault : Int32} {readPeople : Int32} {readPerson : Nat → Int32} {readAskings : Int32} {readAsked : Nat → Int32} {readHangs : Int32} {readHung : Nat → Int32} {rest : Nat → Int32} {brings : Nat → Int64} {later : Nat → Int64} {x1 : Int32} {x2 : Int32} {x3 : Int32} {r : Int32} {brings_r : Nat → Int64} {later_r : Nat → Int64} (hf : m_wise tenths sortWorth sortDays sorts brings later x1 x2 x3 = some (r, brings_r, later_r)) : MI l yX10_wise (ws_ yX10_wise cX10_wise 7 (some .int)) { frames := 2, cells := 0, slots := 0, locals := 57 } D gcl (gty d) (fun _ => True) (mw d ad w isKept people room work price askings asked hangs hung tenths sortWorth sortDays sorts text texted trace at_ fault readPeople readPerson readAskings readAsked readHangs readHung rest brings later) (mw d ad w isKept people room work price askings asked hangs hung tenths sortWorth sortDays sorts text texted trace at_ fault readPeople readPerson readAskings readAsked readHangs readHung rest brings_r later_r) sz [.ref (ad 0), .int x1, .int x2, .int x3] r :=
  MI.of (by decide) [.ref (ad 0), .int x1, .int x2, .int x3] [(0, .ref (ad 0)), (1, .int x1), (2, .int x2), (3, .int x3)] (Nat.le_of_ble_eq_true rfl) rfl (fun p e s m below meth c ls Q hx hb hml hown hts hN hA hC hl K => w_m_wise hx hb hml hown hts hA (Nat.le_refl _) (Nat.le_refl _) (Nat.le_refl _) (Nat.le_refl _) hf hC hl K)
