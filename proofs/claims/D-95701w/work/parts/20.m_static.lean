set_option maxRecDepth 100000

def m_in (x0 : Int64) (x2 : Int64) (x4 : Int64) : Option (Int32) :=
  if (lg_cmp x0 x2) < 0 then (some 0) else
  if 0 < (lg_cmp x0 x4) then (some 0) else
  some 1
set_option maxHeartbeats 4000000 in
set_option maxRecDepth 100000 in
theorem w_m_in {p : Program} {l : Launch} {e : Env} {R : Room} {s : State} {m : MethodId} {args : Array Value} {below : List Frame} {meth : Method} {c : Code} {H : Heap} {locs : List Loc} {cells slots : Nat} {Q : State → Prop} {A : Nat → Prop} {ls : Array Slot} {D : va_G} {cl : List vw_C} {tys : List (ClassId × FieldType)} {ws : va_W} {x0 : Int64} {x2 : Int64} {x4 : Int64} {r : Int32} (hx : p.tables.exec = Jvm.exec) (hb : c.code = cX10_in) (hml : c.maxLocals = 6) (hown : s.vm.findClass RX10 = some m.cls) (hts : ∀ w ∈ lw_all, w.before args s = true) (hA : ∀ q, s.heap.size ≤ q → A q) (hRf : 0 ≤ R.frames) (hRl : 0 ≤ R.locals) (hRc : cells ≤ R.cells) (hRs : slots ≤ R.slots) (hf : m_in x0 x2 x4 = some r) (hC : HC D cl tys A ws s H locs) (hl : lv_has ls 6 [(0, .long x0), (2, .long x2), (4, .long x4)]) (K : ∀ (H : Heap) (locs : List Loc) (ls : Array Slot) (pc : Nat), narrow .boolean (.int r) = .int r → HC D cl tys A ws s H locs → decode cX10_in pc = .ok (.ireturn, 1) → W p l e R s m args below meth c H locs cells slots Q (F0 m pc ls [.int r])) : W p l e R s m args below meth c H locs cells slots Q (F0 m 0 ls []) := by
  unfold m_in at hf
  refine lv_lload_n hx hb dX10_in_0 rfl (lv_at hl 0 rfl) ?_
  refine lv_lload_n hx hb dX10_in_1 rfl (lv_at hl 1 rfl) ?_
  refine W.lcmp hx hb dX10_in_2 ?_
  refine lv_if_lt (tgt := 17) hx hb dX10_in_3 (by decide) (fun c_3 => ?_) (fun c_3 => ?_)
  · have hf := if_t hf c_3
    refine lv_iconst (v := 0) hx hb dX10_in_17 (by decide) ?_
    have e_1 := (Option.some.inj hf)
    subst e_1
    exact K H locs ls _ rfl hC dX10_in_18
  · have hf := if_f hf c_3
    refine lv_lload_n hx hb dX10_in_6 rfl (lv_at hl 0 rfl) ?_
    refine lv_lload hx hb dX10_in_7 (lv_at hl 2 rfl) ?_
    refine W.lcmp hx hb dX10_in_9 ?_
    refine lv_if_gt (tgt := 17) hx hb dX10_in_10 (by decide) (fun c_10 => ?_) (fun c_10 => ?_)
    · have hf := if_t hf c_10
      refine lv_iconst (v := 0) hx hb dX10_in_17 (by decide) ?_
      have e_1 := (Option.some.inj hf)
      subst e_1
      exact K H locs ls _ rfl hC dX10_in_18
    · have hf := if_f hf c_10
      refine lv_iconst (v := 1) hx hb dX10_in_13 (by decide) ?_
      refine lv_goto (tgt := 18) hx hb dX10_in_14 (by decide) ?_
      have e_1 := (Option.some.inj hf)
      subst e_1
      exact K H locs ls _ rfl hC dX10_in_18
set_option maxRecDepth 100000 in
theorem c_m_in {l : Launch} {sz : Nat} {D : va_G} {cl : List vw_C} {tys : List (ClassId × FieldType)} {ws : va_W} {x0 : Int64} {x2 : Int64} {x4 : Int64} {r : Int32} (hf : m_in x0 x2 x4 = some r) : MI l yX10_in (ws_ yX10_in cX10_in 6 (some .boolean)) { frames := 0, cells := 0, slots := 0, locals := 0 } D cl tys (fun _ => True) ws ws sz [.long x0, .long x2, .long x4] r :=
  MI.of (by decide) [.long x0, .long x2, .long x4] [(0, .long x0), (2, .long x2), (4, .long x4)] (Nat.le_of_ble_eq_true rfl) rfl (fun p e s m below meth c ls Q hx hb hml hown hts hN hA hC hl K => w_m_in hx hb hml hown hts hA (Nat.le_refl _) (Nat.le_refl _) (Nat.le_refl _) (Nat.le_refl _) hf hC hl K)

def m_has (x0 : Int32) (x1 : Int32) : Option (Int32) :=
  if ((x0 >>> (x1 &&& 31)) &&& 1) = 1 then (some 1) else
  some 0
set_option maxHeartbeats 4000000 in
set_option maxRecDepth 100000 in
theorem w_m_has {p : Program} {l : Launch} {e : Env} {R : Room} {s : State} {m : MethodId} {args : Array Value} {below : List Frame} {meth : Method} {c : Code} {H : Heap} {locs : List Loc} {cells slots : Nat} {Q : State → Prop} {A : Nat → Prop} {ls : Array Slot} {D : va_G} {cl : List vw_C} {tys : List (ClassId × FieldType)} {ws : va_W} {x0 : Int32} {x1 : Int32} {r : Int32} (hx : p.tables.exec = Jvm.exec) (hb : c.code = cX10_has) (hml : c.maxLocals = 2) (hown : s.vm.findClass RX10 = some m.cls) (hts : ∀ w ∈ lw_all, w.before args s = true) (hA : ∀ q, s.heap.size ≤ q → A q) (hRf : 0 ≤ R.frames) (hRl : 0 ≤ R.locals) (hRc : cells ≤ R.cells) (hRs : slots ≤ R.slots) (hf : m_has x0 x1 = some r) (hC : HC D cl tys A ws s H locs) (hl : lv_has ls 2 [(0, .int x0), (1, .int x1)]) (K : ∀ (H : Heap) (locs : List Loc) (ls : Array Slot) (pc : Nat), narrow .boolean (.int r) = .int r → HC D cl tys A ws s H locs → decode cX10_has pc = .ok (.ireturn, 1) → W p l e R s m args below meth c H locs cells slots Q (F0 m pc ls [.int r])) : W p l e R s m args below meth c H locs cells slots Q (F0 m 0 ls []) := by
  unfold m_has at hf
  refine lv_iload_n hx hb dX10_has_0 rfl (lv_at hl 0 rfl) ?_
  refine lv_iload_n hx hb dX10_has_1 rfl (lv_at hl 1 rfl) ?_
  refine lv_ishr hx hb dX10_has_2 ?_
  refine lv_iconst (v := 1) hx hb dX10_has_3 (by decide) ?_
  refine lv_iand hx hb dX10_has_4 ?_
  refine lv_iconst (v := 1) hx hb dX10_has_5 (by decide) ?_
  refine lv_icmp_ne (tgt := 13) hx hb dX10_has_6 (by decide) (fun c_6 => ?_) (fun c_6 => ?_)
  · have hf := if_f hf c_6
    refine lv_iconst (v := 0) hx hb dX10_has_13 (by decide) ?_
    have e_1 := (Option.some.inj hf)
    subst e_1
    exact K H locs ls _ rfl hC dX10_has_14
  · have hf := if_t hf c_6
    refine lv_iconst (v := 1) hx hb dX10_has_9 (by decide) ?_
    refine lv_goto (tgt := 14) hx hb dX10_has_10 (by decide) ?_
    have e_1 := (Option.some.inj hf)
    subst e_1
    exact K H locs ls _ rfl hC dX10_has_14
set_option maxRecDepth 100000 in
theorem c_m_has {l : Launch} {sz : Nat} {D : va_G} {cl : List vw_C} {tys : List (ClassId × FieldType)} {ws : va_W} {x0 : Int32} {x1 : Int32} {r : Int32} (hf : m_has x0 x1 = some r) : MI l yX10_has (ws_ yX10_has cX10_has 2 (some .boolean)) { frames := 0, cells := 0, slots := 0, locals := 0 } D cl tys (fun _ => True) ws ws sz [.int x0, .int x1] r :=
  MI.of (by decide) [.int x0, .int x1] [(0, .int x0), (1, .int x1)] (Nat.le_of_ble_eq_true rfl) rfl (fun p e s m below meth c ls Q hx hb hml hown hts hN hA hC hl K => w_m_has hx hb hml hown hts hA (Nat.le_refl _) (Nat.le_refl _) (Nat.le_refl _) (Nat.le_refl _) hf hC hl K)

def m_ones_L4 (x0 : Int32) : Nat → Int32 → Int32 → Option (Int32)
  | 0, _, _ => none
  | n_4 + 1, x1_4, x2_4 =>
  if 8 ≤ x2_4 then (some x1_4) else
  m_ones_L4 x0 n_4 (x1_4 + ((x0 >>> (x2_4 &&& 31)) &&& 1)) (x2_4 + 1) 
theorem m_ones_L4_s (x0 : Int32) (n_4 : Nat) (x1_4 : Int32) (x2_4 : Int32) : m_ones_L4 x0 (n_4 + 1) x1_4 x2_4 = (
  if 8 ≤ x2_4 then (some x1_4) else
  m_ones_L4 x0 n_4 (x1_4 + ((x0 >>> (x2_4 &&& 31)) &&& 1)) (x2_4 + 1) ) := rfl
def m_ones (x0 : Int32) : Option (Int32) :=
  bnd (m_ones_L4 x0 g_fuel 0 0 ) (fun x1_24 =>
  some x1_24)
set_option maxHeartbeats 4000000 in
set_option maxRecDepth 100000 in
theorem w_m_ones {p : Program} {l : Launch} {e : Env} {R : Room} {s : State} {m : MethodId} {args : Array Value} {below : List Frame} {meth : Method} {c : Code} {H : Heap} {locs : List Loc} {cells slots : Nat} {Q : State → Prop} {A : Nat → Prop} {ls : Array Slot} {D : va_G} {cl : List vw_C} {tys : List (ClassId × FieldType)} {ws : va_W} {x0 : Int32} {r : Int32} (hx : p.tables.exec = Jvm.exec) (hb : c.code = cX10_ones) (hml : c.maxLocals = 3) (hown : s.vm.findClass RX10 = some m.cls) (hts : ∀ w ∈ lw_all, w.before args s = true) (hA : ∀ q, s.heap.size ≤ q → A q) (hRf : 0 ≤ R.frames) (hRl : 0 ≤ R.locals) (hRc : cells ≤ R.cells) (hRs : slots ≤ R.slots) (hf : m_ones x0 = some r) (hC : HC D cl tys A ws s H locs) (hl : lv_has ls 3 [(0, .int x0)]) (K : ∀ (H : Heap) (locs : List Loc) (ls : Array Slot) (pc : Nat), narrow .int (.int r) = .int r → HC D cl tys A ws s H locs → decode cX10_ones pc = .ok (.ireturn, 1) → W p l e R s m args below meth c H locs cells slots Q (F0 m pc ls [.int r])) : W p l e R s m args below meth c H locs cells slots Q (F0 m 0 ls []) := by
  unfold m_ones at hf
  refine lv_iconst (v := 0) hx hb dX10_ones_0 (by decide) ?_
  refine lv_istore_n (lv' := [(1, .int 0), (0, .int x0)]) hx hb dX10_ones_1 rfl hl (by decide) rfl (fun ls hl => ?_)
  refine lv_iconst (v := 0) hx hb dX10_ones_2 (by decide) ?_
  refine lv_istore_n (lv' := [(2, .int 0), (1, .int 0), (0, .int x0)]) hx hb dX10_ones_3 rfl hl (by decide) rfl (fun ls hl => ?_)
  obtain ⟨x1_24, hL, hf⟩ := bnd_some hf
  have X_4 : ∀ (H : Heap) (locs : List Loc) (ls : Array Slot), HC D cl tys A ws s H locs → lv_has ls 3 [(1, .int x1_24)] → W p l e R s m args below meth c H locs cells slots Q (F0 m 24 ls []) := by
    intro H locs ls hC hl
    refine lv_iload_n hx hb dX10_ones_24 rfl (lv_at hl 0 rfl) ?_
    have e_1 := (Option.some.inj hf)
    subst e_1
    exact K H locs ls _ rfl hC dX10_ones_25
  have L_4 : ∀ (n_4 : Nat) (x1_4 : Int32) (x2_4 : Int32), m_ones_L4 x0 n_4 x1_4 x2_4 = some x1_24 → ∀ (H : Heap) (locs : List Loc) (ls : Array Slot), HC D cl tys A ws s H locs → lv_has ls 3 [(0, .int x0), (1, .int x1_4), (2, .int x2_4)] → W p l e R s m args below meth c H locs cells slots Q (F0 m 4 ls []) := by
    intro n_4
    induction n_4 with
    | zero => intro _ _ hf; cases hf
    | succ n_4 ih =>
      intro x1_4 x2_4 hf H locs ls hC hl
      rw [m_ones_L4_s] at hf
      refine lv_iload_n hx hb dX10_ones_4 rfl (lv_at hl 2 rfl) ?_
      refine lv_bipush (v := 8) hx hb dX10_ones_5 (by decide) ?_
      refine lv_icmp_ge (tgt := 24) hx hb dX10_ones_7 (by decide) (fun c_7 => ?_) (fun c_7 => ?_)
      · have hf := if_t hf c_7
        have e_1 := (Option.some.inj hf)
        subst e_1
        exact X_4 H locs ls hC (lv_sub hl [1] rfl)
      · have hf := if_f hf c_7
        refine lv_iload_n hx hb dX10_ones_10 rfl (lv_at hl 1 rfl) ?_
        refine lv_iload_n hx hb dX10_ones_11 rfl (lv_at hl 0 rfl) ?_
        refine lv_iload_n hx hb dX10_ones_12 rfl (lv_at hl 2 rfl) ?_
        refine lv_ishr hx hb dX10_ones_13 ?_
        refine lv_iconst (v := 1) hx hb dX10_ones_14 (by decide) ?_
        refine lv_iand hx hb dX10_ones_15 ?_
        refine lv_iadd hx hb dX10_ones_16 ?_
        refine lv_istore_n (lv' := [(1, .int (x1_4 + ((x0 >>> (x2_4 &&& 31)) &&& 1))), (0, .int x0), (2, .int x2_4)]) hx hb dX10_ones_17 rfl hl (by decide) rfl (fun ls hl => ?_)
        refine lv_iinc (v := x2_4 + 1) (lv' := [(2, .int (x2_4 + 1)), (1, .int (x1_4 + ((x0 >>> (x2_4 &&& 31)) &&& 1))), (0, .int x0)]) hx hb dX10_ones_18 hl (k := 2) rfl rfl (by decide) rfl (fun ls hl => ?_)
        refine lv_goto (tgt := 4) hx hb dX10_ones_21 (by decide) ?_
        exact ih _ _ hf H locs ls hC (lv_sub hl [2, 1, 0] rfl)
  exact L_4 _ _ _ hL H locs ls hC (lv_sub hl [2, 1, 0] rfl)
set_option maxRecDepth 100000 in
theorem c_m_ones {l : Launch} {sz : Nat} {D : va_G} {cl : List vw_C} {tys : List (ClassId × FieldType)} {ws : va_W} {x0 : Int32} {r : Int32} (hf : m_ones x0 = some r) : MI l yX10_ones (ws_ yX10_ones cX10_ones 3 (some .int)) { frames := 0, cells := 0, slots := 0, locals := 0 } D cl tys (fun _ => True) ws ws sz [.int x0] r :=
  MI.of (by decide) [.int x0] [(0, .int x0)] (Nat.le_of_ble_eq_true rfl) rfl (fun p e s m below meth c ls Q hx hb hml hown hts hN hA hC hl K => w_m_ones hx hb hml hown hts hA (Nat.le_refl _) (Nat.le_refl _) (Nat.le_refl _) (Nat.le_refl _) hf hC hl K)

def m_lesser (x0 : Int32) (x1 : Int32) : Option (Int32) :=
  if x1 ≤ x0 then (some x1) else
  some x0
set_option maxHeartbeats 4000000 in
set_option maxRecDepth 100000 in
theorem w_m_lesser {p : Program} {l : Launch} {e : Env} {R : Room} {s : State} {m : MethodId} {args : Array Value} {below : List Frame} {meth : Method} {c : Code} {H : Heap} {locs : List Loc} {cells slots : Nat} {Q : State → Prop} {A : Nat → Prop} {ls : Array Slot} {D : va_G} {cl : List vw_C} {tys : List (ClassId × FieldType)} {ws : va_W} {x0 : Int32} {x1 : Int32} {r : Int32} (hx : p.tables.exec = Jvm.exec) (hb : c.code = cX10_lesser) (hml : c.maxLocals = 2) (hown : s.vm.findClass RX10 = some m.cls) (hts : ∀ w ∈ lw_all, w.before args s = true) (hA : ∀ q, s.heap.size ≤ q → A q) (hRf : 0 ≤ R.frames) (hRl : 0 ≤ R.locals) (hRc : cells ≤ R.cells) (hRs : slots ≤ R.slots) (hf : m_lesser x0 x1 = some r) (hC : HC D cl tys A ws s H locs) (hl : lv_has ls 2 [(0, .int x0), (1, .int x1)]) (K : ∀ (H : Heap) (locs : List Loc) (ls : Array Slot) (pc : Nat), narrow .int (.int r) = .int r → HC D cl tys A ws s H locs → decode cX10_lesser pc = .ok (.ireturn, 1) → W p l e R s m args below meth c H locs cells slots Q (F0 m pc ls [.int r])) : W p l e R s m args below meth c H locs cells slots Q (F0 m 0 ls []) := by
  unfold m_lesser at hf
  refine lv_iload_n hx hb dX10_lesser_0 rfl (lv_at hl 0 rfl) ?_
  refine lv_iload_n hx hb dX10_lesser_1 rfl (lv_at hl 1 rfl) ?_
  refine lv_icmp_ge (tgt := 9) hx hb dX10_lesser_2 (by decide) (fun c_2 => ?_) (fun c_2 => ?_)
  · have hf := if_t hf c_2
    refine lv_iload_n hx hb dX10_lesser_9 rfl (lv_at hl 1 rfl) ?_
    have e_1 := (Option.some.inj hf)
    subst e_1
    exact K H locs ls _ rfl hC dX10_lesser_10
  · have hf := if_f hf c_2
    refine lv_iload_n hx hb dX10_lesser_5 rfl (lv_at hl 0 rfl) ?_
    refine lv_goto (tgt := 10) hx hb dX10_lesser_6 (by decide) ?_
    have e_1 := (Option.some.inj hf)
    subst e_1
    exact K H locs ls _ rfl hC dX10_lesser_10
set_option maxRecDepth 100000 in
theorem c_m_lesser {l : Launch} {sz : Nat} {D : va_G} {cl : List vw_C} {tys : List (ClassId × FieldType)} {ws : va_W} {x0 : Int32} {x1 : Int32} {r : Int32} (hf : m_lesser x0 x1 = some r) : MI l yX10_lesser (ws_ yX10_lesser cX10_lesser 2 (some .int)) { frames := 0, cells := 0, slots := 0, locals := 0 } D cl tys (fun _ => True) ws ws sz [.int x0, .int x1] r :=
  MI.of (by decide) [.int x0, .int x1] [(0, .int x0), (1, .int x1)] (Nat.le_of_ble_eq_true rfl) rfl (fun p e s m below meth c ls Q hx hb hml hown hts hN hA hC hl K => w_m_lesser hx hb hml hown hts hA (Nat.le_refl _) (Nat.le_refl _) (Nat.le_refl _) (Nat.le_refl _) hf hC hl K)
