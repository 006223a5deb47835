set_option maxRecDepth 100000

def x_in (x0 : Int32) (x1 : Int32) (x2 : Int32) : Option (Int32) :=
  if x0 < x1 then (some 0) else
  if x2 < x0 then (some 0) else
  some 1
set_option maxHeartbeats 4000000 in
set_option maxRecDepth 100000 in
theorem w_x_in {p : Program} {l : Launch} {e : Env} {R : Room} {s : State} {m : MethodId} {args : Array Value} {below : List Frame} {meth : Method} {c : Code} {H : Heap} {locs : List Loc} {cells slots : Nat} {Q : State → Prop} {A : Nat → Prop} {ls : Array Slot} {D : va_G} {cl : List vw_C} {tys : List (ClassId × FieldType)} {ws : va_W} {x0 : Int32} {x1 : Int32} {x2 : Int32} {r : Int32} (hx : p.tables.exec = Jvm.exec) (hb : c.code = cX0_in) (hml : c.maxLocals = 3) (hown : s.vm.findClass RX0 = some m.cls) (hts : ∀ w ∈ lw_all, w.before args s = true) (hA : ∀ q, s.heap.size ≤ q → A q) (hRf : 0 ≤ R.frames) (hRl : 0 ≤ R.locals) (hRc : cells ≤ R.cells) (hRs : slots ≤ R.slots) (hf : x_in x0 x1 x2 = some r) (hC : HC D cl tys A ws s H locs) (hl : lv_has ls 3 [(0, .int x0), (1, .int x1), (2, .int x2)]) (K : ∀ (H : Heap) (locs : List Loc) (ls : Array Slot) (pc : Nat), narrow .boolean (.int r) = .int r → HC D cl tys A ws s H locs → decode cX0_in pc = .ok (.ireturn, 1) → W p l e R s m args below meth c H locs cells slots Q (F0 m pc ls [.int r])) : W p l e R s m args below meth c H locs cells slots Q (F0 m 0 ls []) := by
  unfold x_in at hf
  refine lv_iload_n hx hb dX0_in_0 rfl (lv_at hl 0 rfl) ?_
  refine lv_iload_n hx hb dX0_in_1 rfl (lv_at hl 1 rfl) ?_
  refine lv_icmp_lt (tgt := 14) hx hb dX0_in_2 (by decide) (fun c_2 => ?_) (fun c_2 => ?_)
  · have hf := if_t hf c_2
    refine lv_iconst (v := 0) hx hb dX0_in_14 (by decide) ?_
    have e_1 := (Option.some.inj hf)
    subst e_1
    exact K H locs ls _ rfl hC dX0_in_15
  · have hf := if_f hf c_2
    refine lv_iload_n hx hb dX0_in_5 rfl (lv_at hl 0 rfl) ?_
    refine lv_iload_n hx hb dX0_in_6 rfl (lv_at hl 2 rfl) ?_
    refine lv_icmp_gt (tgt := 14) hx hb dX0_in_7 (by decide) (fun c_7 => ?_) (fun c_7 => ?_)
    · have hf := if_t hf c_7
      refine lv_iconst (v := 0) hx hb dX0_in_14 (by decide) ?_
      have e_1 := (Option.some.inj hf)
      subst e_1
      exact K H locs ls _ rfl hC dX0_in_15
    · have hf := if_f hf c_7
      refine lv_iconst (v := 1) hx hb dX0_in_10 (by decide) ?_
      refine lv_goto (tgt := 15) hx hb dX0_in_11 (by decide) ?_
      have e_1 := (Option.some.inj hf)
      subst e_1
      exact K H locs ls _ rfl hC dX0_in_15
set_option maxRecDepth 100000 in
theorem c_x_in {l : Launch} {sz : Nat} {D : va_G} {cl : List vw_C} {tys : List (ClassId × FieldType)} {ws : va_W} {x0 : Int32} {x1 : Int32} {x2 : Int32} {r : Int32} (hf : x_in x0 x1 x2 = some r) : MI l yX0_in (ws_ yX0_in cX0_in 3 (some .boolean)) { frames := 0, cells := 0, slots := 0, locals := 0 } D cl tys (fun _ => True) ws ws sz [.int x0, .int x1, .int x2] r :=
  MI.of (by decide) [.int x0, .int x1, .int x2] [(0, .int x0), (1, .int x1), (2, .int x2)] (Nat.le_of_ble_eq_true rfl) rfl (fun p e s m below meth c ls Q hx hb hml hown hts hN hA hC hl K => w_x_in hx hb hml hown hts hA (Nat.le_refl _) (Nat.le_refl _) (Nat.le_refl _) (Nat.le_refl _) hf hC hl K)

def j_bitCount (x0 : Int32) : Option (Int32) :=
  some ((((((((x0 - (((x0.toUInt32 >>> ((1 : Int32).toUInt32 &&& Int32.toUInt32 31)).toInt32) &&& 1431655765)) &&& 858993459) + ((((x0 - (((x0.toUInt32 >>> ((1 : Int32).toUInt32 &&& Int32.toUInt32 31)).toInt32) &&& 1431655765)).toUInt32 >>> ((2 : Int32).toUInt32 &&& Int32.toUInt32 31)).toInt32) &&& 858993459)) + (((((x0 - (((x0.toUInt32 >>> ((1 : Int32).toUInt32 &&& Int32.toUInt32 31)).toInt32) &&& 1431655765)) &&& 858993459) + ((((x0 - (((x0.toUInt32 >>> ((1 : Int32).toUInt32 &&& Int32.toUInt32 31)).toInt32) &&& 1431655765)).toUInt32 >>> ((2 : Int32).toUInt32 &&& Int32.toUInt32 31)).toInt32) &&& 858993459)).toUInt32 >>> ((4 : Int32).toUInt32 &&& Int32.toUInt32 31)).toInt32)) &&& 252645135) + (((((((x0 - (((x0.toUInt32 >>> ((1 : Int32).toUInt32 &&& Int32.toUInt32 31)).toInt32) &&& 1431655765)) &&& 858993459) + ((((x0 - (((x0.toUInt32 >>> ((1 : Int32).toUInt32 &&& Int32.toUInt32 31)).toInt32) &&& 1431655765)).toUInt32 >>> ((2 : Int32).toUInt32 &&& Int32.toUInt32 31)).toInt32) &&& 858993459)) + (((((x0 - (((x0.toUInt32 >>> ((1 : Int32).toUInt32 &&& Int32.toUInt32 31)).toInt32) &&& 1431655765)) &&& 858993459) + ((((x0 - (((x0.toUInt32 >>> ((1 : Int32).toUInt32 &&& Int32.toUInt32 31)).toInt32) &&& 1431655765)).toUInt32 >>> ((2 : Int32).toUInt32 &&& Int32.toUInt32 31)).toInt32) &&& 858993459)).toUInt32 >>> ((4 : Int32).toUInt32 &&& Int32.toUInt32 31)).toInt32)) &&& 252645135).toUInt32 >>> ((8 : Int32).toUInt32 &&& Int32.toUInt32 31)).toInt32)) + ((((((((x0 - (((x0.toUInt32 >>> ((1 : Int32).toUInt32 &&& Int32.toUInt32 31)).toInt32) &&& 1431655765)) &&& 858993459) + ((((x0 - (((x0.toUInt32 >>> ((1 : Int32).toUInt32 &&& Int32.toUInt32 31)).toInt32) &&& 1431655765)).toUInt32 >>> ((2 : Int32).toUInt32 &&& Int32.toUInt32 31)).toInt32) &&& 858993459)) + (((((x0 - (((x0.toUInt32 >>> ((1 : Int32).toUInt32 &&& Int32.toUInt32 31)).toInt32) &&& 1431655765)) &&& 858993459) + ((((x0 - (((x0.toUInt32 >>> ((1 : Int32).toUInt32 &&& Int32.toUInt32 31)).toInt32) &&& 1431655765)).toUInt32 >>> ((2 : Int32).toUInt32 &&& Int32.toUInt32 31)).toInt32) &&& 858993459)).toUInt32 >>> ((4 : Int32).toUInt32 &&& Int32.toUInt32 31)).toInt32)) &&& 252645135) + (((((((x0 - (((x0.toUInt32 >>> ((1 : Int32).toUInt32 &&& Int32.toUInt32 31)).toInt32) &&& 1431655765)) &&& 858993459) + ((((x0 - (((x0.toUInt32 >>> ((1 : Int32).toUInt32 &&& Int32.toUInt32 31)).toInt32) &&& 1431655765)).toUInt32 >>> ((2 : Int32).toUInt32 &&& Int32.toUInt32 31)).toInt32) &&& 858993459)) + (((((x0 - (((x0.toUInt32 >>> ((1 : Int32).toUInt32 &&& Int32.toUInt32 31)).toInt32) &&& 1431655765)) &&& 858993459) + ((((x0 - (((x0.toUInt32 >>> ((1 : Int32).toUInt32 &&& Int32.toUInt32 31)).toInt32) &&& 1431655765)).toUInt32 >>> ((2 : Int32).toUInt32 &&& Int32.toUInt32 31)).toInt32) &&& 858993459)).toUInt32 >>> ((4 : Int32).toUInt32 &&& Int32.toUInt32 31)).toInt32)) &&& 252645135).toUInt32 >>> ((8 : Int32).toUInt32 &&& Int32.toUInt32 31)).toInt32)).toUInt32 >>> ((16 : Int32).toUInt32 &&& Int32.toUInt32 31)).toInt32)) &&& 63)
set_option maxHeartbeats 4000000 in
set_option maxRecDepth 100000 in
theorem w_j_bitCount {p : Program} {l : Launch} {e : Env} {R : Room} {s : State} {m : MethodId} {args : Array Value} {below : List Frame} {meth : Method} {c : Code} {H : Heap} {locs : List Loc} {cells slots : Nat} {Q : State → Prop} {A : Nat → Prop} {ls : Array Slot} {D : va_G} {cl : List vw_C} {tys : List (ClassId × FieldType)} {ws : va_W} {x0 : Int32} {r : Int32} (hx : p.tables.exec = Jvm.exec) (hb : c.code = cJ9_bitCount) (hml : c.maxLocals = 1) (hown : s.vm.findClass RJ9 = some m.cls) (hts : ∀ w ∈ lw_all, w.before args s = true) (hA : ∀ q, s.heap.size ≤ q → A q) (hRf : 0 ≤ R.frames) (hRl : 0 ≤ R.locals) (hRc : cells ≤ R.cells) (hRs : slots ≤ R.slots) (hf : j_bitCount x0 = some r) (hC : HC D cl tys A ws s H locs) (hl : lv_has ls 1 [(0, .int x0)]) (K : ∀ (H : Heap) (locs : List Loc) (ls : Array Slot) (pc : Nat), narrow .int (.int r) = .int r → HC D cl tys A ws s H locs → decode cJ9_bitCount pc = .ok (.ireturn, 1) → W p l e R s m args below meth c H locs cells slots Q (F0 m pc ls [.int r])) : W p l e R s m args below meth c H locs cells slots Q (F0 m 0 ls []) := by
  unfold j_bitCount at hf
  refine lv_iload_n hx hb dJ9_bitCount_0 rfl (lv_at hl 0 rfl) ?_
  refine lv_iload_n hx hb dJ9_bitCount_1 rfl (lv_at hl 0 rfl) ?_
  refine lv_iconst (v := 1) hx hb dJ9_bitCount_2 (by decide) ?_
  refine lv_iushr (v := (x0.toUInt32 >>> ((1 : Int32).toUInt32 &&& Int32.toUInt32 31)).toInt32) hx hb dJ9_bitCount_3 rfl ?_
  refine lv_ldcw (v := 1431655765) hx hb hown (hts _ q665) dJ9_bitCount_4 ?_
  refine lv_iand hx hb dJ9_bitCount_7 ?_
  refine lv_isub hx hb dJ9_bitCount_8 ?_
  refine lv_istore_n (lv' := [(0, .int (x0 - (((x0.toUInt32 >>> ((1 : Int32).toUInt32 &&& Int32.toUInt32 31)).toInt32) &&& 1431655765)))]) hx hb dJ9_bitCount_9 rfl hl (by decide) rfl (fun ls hl => ?_)
  refine lv_iload_n hx hb dJ9_bitCount_10 rfl (lv_at hl 0 rfl) ?_
  refine lv_ldcw (v := 858993459) hx hb hown (hts _ q666) dJ9_bitCount_11 ?_
  refine lv_iand hx hb dJ9_bitCount_14 ?_
  refine lv_iload_n hx hb dJ9_bitCount_15 rfl (lv_at hl 0 rfl) ?_
  refine lv_iconst (v := 2) hx hb dJ9_bitCount_16 (by decide) ?_
  refine lv_iushr (v := ((x0 - (((x0.toUInt32 >>> ((1 : Int32).toUInt32 &&& Int32.toUInt32 31)).toInt32) &&& 1431655765)).toUInt32 >>> ((2 : Int32).toUInt32 &&& Int32.toUInt32 31)).toInt32) hx hb dJ9_bitCount_17 rfl ?_
  refine lv_ldcw (v := 858993459) hx hb hown (hts _ q666) dJ9_bitCount_18 ?_
  refine lv_iand hx hb dJ9_bitCount_21 ?_
  refine lv_iadd hx hb dJ9_bitCount_22 ?_
  refine lv_istore_n (lv' := [(0, .int (((x0 - (((x0.toUInt32 >>> ((1 : Int32).toUInt32 &&& Int32.toUInt32 31)).toInt32) &&& 1431655765)) &&& 858993459) + ((((x0 - (((x0.toUInt32 >>> ((1 : Int32).toUInt32 &&& Int32.toUInt32 31)).toInt32) &&& 1431655765)).toUInt32 >>> ((2 : Int32).toUInt32 &&& Int32.toUInt32 31)).toInt32) &&& 858993459)))]) hx hb dJ9_bitCount_23 rfl hl (by decide) rfl (fun ls hl => ?_)
  refine lv_iload_n hx hb dJ9_bitCount_24 rfl (lv_at hl 0 rfl) ?_
  refine lv_iload_n hx hb dJ9_bitCount_25 rfl (lv_at hl 0 rfl) ?_
  refine lv_iconst (v := 4) hx hb dJ9_bitCount_26 (by decide) ?_
  refine lv_iushr (v := ((((x0 - (((x0.toUInt32 >>> ((1 : Int32).toUInt32 &&& Int32.toUInt32 31)).toInt32) &&& 1431655765)) &&& 858993459) + ((((x0 - (((x0.toUInt32 >>> ((1 : Int32).toUInt32 &&& Int32.toUInt32 31)).toInt32) &&& 1431655765)).toUInt32 >>> ((2 : Int32).toUInt32 &&& Int32.toUInt32 31)).toInt32) &&& 858993459)).toUInt32 >>> ((4 : Int32).toUInt32 &&& Int32.toUInt32 31)).toInt32) hx hb dJ9_bitCount_27 rfl ?_
  refine lv_iadd hx hb dJ9_bitCount_28 ?_
  refine lv_ldcw (v := 252645135) hx hb hown (hts _ q667) dJ9_bitCount_29 ?_
  refine lv_iand hx hb dJ9_bitCount_32 ?_
  refine lv_istore_n (lv' := [(0, .int (((((x0 - (((x0.toUInt32 >>> ((1 : Int32).toUInt32 &&& Int32.toUInt32 31)).toInt32) &&& 1431655765)) &&& 858993459) + ((((x0 - (((x0.toUInt32 >>> ((1 : Int32).toUInt32 &&& Int32.toUInt32 31)).toInt32) &&& 1431655765)).toUInt32 >>> ((2 : Int32).toUInt32 &&& Int32.toUInt32 31)).toInt32) &&& 858993459)) + (((((x0 - (((x0.toUInt32 >>> ((1 : Int32).toUInt32 &&& Int32.toUInt32 31)).toInt32) &&& 1431655765)) &&& 858993459) + ((((x0 - (((x0.toUInt32 >>> ((1 : Int32).toUInt32 &&& Int32.toUInt32 31)).toInt32) &&& 1431655765)).toUInt32 >>> ((2 : Int32).toUInt32 &&& Int32.toUInt32 31)).toInt32) &&& 858993459)).toUInt32 >>> ((4 : Int32).toUInt32 &&& Int32.toUInt32 31)).toInt32)) &&& 252645135))]) hx hb dJ9_bitCount_33 rfl hl (by decide) rfl (fun ls hl => ?_)
  refine lv_iload_n hx hb dJ9_bitCount_34 rfl (lv_at hl 0 rfl) ?_
  refine lv_iload_n hx hb dJ9_bitCount_35 rfl (lv_at hl 0 rfl) ?_
  refine lv_bipush (v := 8) hx hb dJ9_bitCount_36 (by decide) ?_
  refine lv_iushr (v := ((((((x0 - (((x0.toUInt32 >>> ((1 : Int32).toUInt32 &&& Int32.toUInt32 31)).toInt32) &&& 1431655765)) &&& 858993459) + ((((x0 - (((x0.toUInt32 >>> ((1 : Int32).toUInt32 &&& Int32.toUInt32 31)).toInt32) &&& 1431655765)).toUInt32 >>> ((2 : Int32).toUInt32 &&& Int32.toUInt32 31)).toInt32) &&& 858993459)) + (((((x0 - (((x0.toUInt32 >>> ((1 : Int32).toUInt32 &&& Int32.toUInt32 31)).toInt32) &&& 1431655765)) &&& 858993459) + ((((x0 - (((x0.toUInt32 >>> ((1 : Int32).toUInt32 &&& Int32.toUInt32 31)).toInt32) &&& 1431655765)).toUInt32 >>> ((2 : Int32).toUInt32 &&& Int32.toUInt32 31)).toInt32) &&& 858993459)).toUInt32 >>> ((4 : Int32).toUInt32 &&& Int32.toUInt32 31)).toInt32)) &&& 252645135).toUInt32 >>> ((8 : Int32).toUInt32 &&& Int32.toUInt32 31)).toInt32) hx hb dJ9_bitCount_38 rfl ?_
  refine lv_iadd hx hb dJ9_bitCount_39 ?_
  refine lv_istore_n (lv' := [(0, .int ((((((x0 - (((x0.toUInt32 >>> ((1 : Int32).toUInt32 &&& Int32.toUInt32 31)).toInt32) &&& 1431655765)) &&& 858993459) + ((((x0 - (((x0.toUInt32 >>> ((1 : Int32).toUInt32 &&& Int32.toUInt32 31)).toInt32) &&& 1431655765)).toUInt32 >>> ((2 : Int32).toUInt32 &&& Int32.toUInt32 31)).toInt32) &&& 858993459)) + (((((x0 - (((x0.toUInt32 >>> ((1 : Int32).toUInt32 &&& Int32.toUInt32 31)).toInt32) &&& 1431655765)) &&& 858993459) + ((((x0 - (((x0.toUInt32 >>> ((1 : Int32).toUInt32 &&& Int32.toUInt32 31)).toInt32) &&& 1431655765)).toUInt32 >>> ((2 : Int32).toUInt32 &&& Int32.toUInt32 31)).toInt32) &&& 858993459)).toUInt32 >>> ((4 : Int32).toUInt32 &&& Int32.toUInt32 31)).toInt32)) &&& 252645135) + (((((((x0 - (((x0.toUInt32 >>> ((1 : Int32).toUInt32 &&& Int32.toUInt32 31)).toInt32) &&& 1431655765)) &&& 858993459) + ((((x0 - (((x0.toUInt32 >>> ((1 : Int32).toUInt32 &&& Int32.toUInt32 31)).toInt32) &&& 1431655765)).toUInt32 >>> ((2 : Int32).toUInt32 &&& Int32.toUInt32 31)).toInt32) &&& 858993459)) + (((((x0 - (((x0.toUInt32 >>> ((1 : Int32).toUInt32 &&& Int32.toUInt32 31)).toInt32) &&& 1431655765)) &&& 858993459) + ((((x0 - (((x0.toUInt32 >>> ((1 : Int32).toUInt32 &&& Int32.toUInt32 31)).toInt32) &&& 1431655765)).toUInt32 >>> ((2 : Int32).toUInt32 &&& Int32.toUInt32 31)).toInt32) &&& 858993459)).toUInt32 >>> ((4 : Int32).toUInt32 &&& Int32.toUInt32 31)).toInt32)) &&& 252645135).toUInt32 >>> ((8 : Int32).toUInt32 &&& Int32.toUInt32 31)).toInt32)))]) hx hb dJ9_bitCount_40 rfl hl (by decide) rfl (fun ls hl => ?_)
  refine lv_iload_n hx hb dJ9_bitCount_41 rfl (lv_at hl 0 rfl) ?_
  refine lv_iload_n hx hb dJ9_bitCount_42 rfl (lv_at hl 0 rfl) ?_
  refine lv_bipush (v := 16) hx hb dJ9_bitCount_43 (by decide) ?_
  refine lv_iushr (v := (((((((x0 - (((x0.toUInt32 >>> ((1 : Int32).toUInt32 &&& Int32.toUInt32 31)).toInt32) &&& 1431655765)) &&& 858993459) + ((((x0 - (((x0.toUInt32 >>> ((1 : Int32).toUInt32 &&& Int32.toUInt32 31)).toInt32) &&& 1431655765)).toUInt32 >>> ((2 : Int32).toUInt32 &&& Int32.toUInt32 31)).toInt32) &&& 858993459)) + (((((x0 - (((x0.toUInt32 >>> ((1 : Int32).toUInt32 &&& Int32.toUInt32 31)).toInt32) &&& 1431655765)) &&& 858993459) + ((((x0 - (((x0.toUInt32 >>> ((1 : Int32).toUInt32 &&& Int32.toUInt32 31)).toInt32) &&& 1431655765)).toUInt32 >>> ((2 : Int32).toUInt32 &&& Int32.toUInt32 31)).toInt32) &&& 858993459)).toUInt32 >>> ((4 : Int32).toUInt32 &&& Int32.toUInt32 31)).toInt32)) &&& 252645135) + (((((((x0 - (((x0.toUInt32 >>> ((1 : Int32).toUInt32 &&& Int32.toUInt32 31)).toInt32) &&& 1431655765)) &&& 858993459) + ((((x0 - (((x0.toUInt32 >>> ((1 : Int32).toUInt32 &&& Int32.toUInt32 31)).toInt32) &&& 1431655765)).toUInt32 >>> ((2 : Int32).toUInt32 &&& Int32.toUInt32 31)).toInt32) &&& 858993459)) + (((((x0 - (((x0.toUInt32 >>> ((1 : Int32).toUInt32 &&& Int32.toUInt32 31)).toInt32) &&& 1431655765)) &&& 858993459) + ((((x0 - (((x0.toUInt32 >>> ((1 : Int32).toUInt32 &&& Int32.toUInt32 31)).toInt32) &&& 1431655765)).toUInt32 >>> ((2 : Int32).toUInt32 &&& Int32.toUInt32 31)).toInt32) &&& 858993459)).toUInt32 >>> ((4 : Int32).toUInt32 &&& Int32.toUInt32 31)).toInt32)) &&& 252645135).toUInt32 >>> ((8 : Int32).toUInt32 &&& Int32.toUInt32 31)).toInt32)).toUInt32 >>> ((16 : Int32).toUInt32 &&& Int32.toUInt32 31)).toInt32) hx hb dJ9_bitCount_45 rfl ?_
  refine lv_iadd hx hb dJ9_bitCount_46 ?_
  refine lv_istore_n (lv' := [(0, .int (((((((x0 - (((x0.toUInt32 >>> ((1 : Int32).toUInt32 &&& Int32.toUInt32 31)).toInt32) &&& 1431655765)) &&& 858993459) + ((((x0 - (((x0.toUInt32 >>> ((1 : Int32).toUInt32 &&& Int32.toUInt32 31)).toInt32) &&& 1431655765)).toUInt32 >>> ((2 : Int32).toUInt32 &&& Int32.toUInt32 31)).toInt32) &&& 858993459)) + (((((x0 - (((x0.toUInt32 >>> ((1 : Int32).toUInt32 &&& Int32.toUInt32 31)).toInt32) &&& 1431655765)) &&& 858993459) + ((((x0 - (((x0.toUInt32 >>> ((1 : Int32).toUInt32 &&& Int32.toUInt32 31)).toInt32) &&& 1431655765)).toUInt32 >>> ((2 : Int32).toUInt32 &&& Int32.toUInt32 31)).toInt32) &&& 858993459)).toUInt32 >>> ((4 : Int32).toUInt32 &&& Int32.toUInt32 31)).toInt32)) &&& 252645135) + (((((((x0 - (((x0.toUInt32 >>> ((1 : Int32).toUInt32 &&& Int32.toUInt32 31)).toInt32) &&& 1431655765)) &&& 858993459) + ((((x0 - (((x0.toUInt32 >>> ((1 : Int32).toUInt32 &&& Int32.toUInt32 31)).toInt32) &&& 1431655765)).toUInt32 >>> ((2 : Int32).toUInt32 &&& Int32.toUInt32 31)).toInt32) &&& 858993459)) + (((((x0 - (((x0.toUInt32 >>> ((1 : Int32).toUInt32 &&& Int32.toUInt32 31)).toInt32) &&& 1431655765)) &&& 858993459) + ((((x0 - (((x0.toUInt32 >>> ((1 : Int32).toUInt32 &&& Int32.toUInt32 31)).toInt32) &&& 1431655765)).toUInt32 >>> ((2 : Int32).toUInt32 &&& Int32.toUInt32 31)).toInt32) &&& 858993459)).toUInt32 >>> ((4 : Int32).toUInt32 &&& Int32.toUInt32 31)).toInt32)) &&& 252645135).toUInt32 >>> ((8 : Int32).toUInt32 &&& Int32.toUInt32 31)).toInt32)) + ((((((((x0 - (((x0.toUInt32 >>> ((1 : Int32).toUInt32 &&& Int32.toUInt32 31)).toInt32) &&& 1431655765)) &&& 858993459) + ((((x0 - (((x0.toUInt32 >>> ((1 : Int32).toUInt32 &&& Int32.toUInt32 31)).toInt32) &&& 1431655765)).toUInt32 >>> ((2 : Int32).toUInt32 &&& Int32.toUInt32 31)).toInt32) &&& 858993459)) + (((((x0 - (((x0.toUInt32 >>> ((1 : Int32).toUInt32 &&& Int32.toUInt32 31)).toInt32) &&& 1431655765)) &&& 858993459) + ((((x0 - (((x0.toUInt32 >>> ((1 : Int32).toUInt32 &&& Int32.toUInt32 31)).toInt32) &&& 1431655765)).toUInt32 >>> ((2 : Int32).toUInt32 &&& Int32.toUInt32 31)).toInt32) &&& 858993459)).toUInt32 >>> ((4 : Int32).toUInt32 &&& Int32.toUInt32 31)).toInt32)) &&& 252645135) + (((((((x0 - (((x0.toUInt32 >>> ((1 : Int32).toUInt32 &&& Int32.toUInt32 31)).toInt32) &&& 1431655765)) &&& 858993459) + ((((x0 - (((x0.toUInt32 >>> ((1 : Int32).toUInt32 &&& Int32.toUInt32 31)).toInt32) &&& 1431655765)).toUInt32 >>> ((2 : Int32).toUInt32 &&& Int32.toUInt32 31)).toInt32) &&& 858993459)) + (((((x0 - (((x0.toUInt32 >>> ((1 : Int32).toUInt32 &&& Int32.toUInt32 31)).toInt32) &&& 1431655765)) &&& 858993459) + ((((x0 - (((x0.toUInt32 >>> ((1 : Int32).toUInt32 &&& Int32.toUInt32 31)).toInt32) &&& 1431655765)).toUInt32 >>> ((2 : Int32).toUInt32 &&& Int32.toUInt32 31)).toInt32) &&& 858993459)).toUInt32 >>> ((4 : Int32).toUInt32 &&& Int32.toUInt32 31)).toInt32)) &&& 252645135).toUInt32 >>> ((8 : Int32).toUInt32 &&& Int32.toUInt32 31)).toInt32)).toUInt32 >>> ((16 : Int32).toUInt32 &&& Int32.toUInt32 31)).toInt32)))]) hx hb dJ9_bitCount_47 rfl hl (by decide) rfl (fun ls hl => ?_)
  refine lv_iload_n hx hb dJ9_bitCount_48 rfl (lv_at hl 0 rfl) ?_
  refine lv_bipush (v := 63) hx hb dJ9_bitCount_49 (by decide) ?_
  refine lv_iand hx hb dJ9_bitCount_51 ?_
  have e_1 := (Option.some.inj hf)
  subst e_1
  exact K H locs ls _ rfl hC dJ9_bitCount_52
set_option maxRecDepth 100000 in
theorem c_j_bitCount {l : Launch} {sz : Nat} {D : va_G} {cl : List vw_C} {tys : List (ClassId × FieldType)} {ws : va_W} {x0 : Int32} {r : Int32} (hf : j_bitCount x0 = some r) : MI l yJ9_bitCount (ws_ yJ9_bitCount cJ9_bitCount 1 (some .int)) { frames := 0, cells := 0, slots := 0, locals := 0 } D cl tys (fun _ => True) ws ws sz [.int x0] r :=
  MI.of (by decide) [.int x0] [(0, .int x0)] (Nat.le_of_ble_eq_true rfl) rfl (fun p e s m below meth c ls Q hx hb hml hown hts hN hA hC hl K => w_j_bitCount hx hb hml hown hts hA (Nat.le_refl _) (Nat.le_refl _) (Nat.le_refl _) (Nat.le_refl _) hf hC hl K)

def x_power_L4 (x0 : Int32) : Nat → Int64 → Int32 → Option (Int64)
  | 0, _, _ => none
  | n_4 + 1, x1_4, x3_4 =>
  if x0 ≤ x3_4 then (some x1_4) else
  x_power_L4 x0 n_4 (x1_4 * 10) (x3_4 + 1) 
theorem x_power_L4_s (x0 : Int32) (n_4 : Nat) (x1_4 : Int64) (x3_4 : Int32) : x_power_L4 x0 (n_4 + 1) x1_4 x3_4 = (
  if x0 ≤ x3_4 then (some x1_4) else
  x_power_L4 x0 n_4 (x1_4 * 10) (x3_4 + 1) ) := rfl
def x_power (x0 : Int32) : Option (Int64) :=
  bnd (x_power_L4 x0 g_fuel 1 0 ) (fun x1_21 =>
  some x1_21)
set_option maxHeartbeats 4000000 in
set_option maxRecDepth 100000 in
theorem w_x_power {p : Program} {l : Launch} {e : Env} {R : Room} {s : State} {m : MethodId} {args : Array Value} {below : List Frame} {meth : Method} {c : Code} {H : Heap} {locs : List Loc} {cells slots : Nat} {Q : State → Prop} {A : Nat → Prop} {ls : Array Slot} {D : va_G} {cl : List vw_C} {tys : List (ClassId × FieldType)} {ws : va_W} {x0 : Int32} {r : Int64} (hx : p.tables.exec = Jvm.exec) (hb : c.code = cX0_power) (hml : c.maxLocals = 4) (hown : s.vm.findClass RX0 = some m.cls) (hts : ∀ w ∈ lw_all, w.before args s = true) (hA : ∀ q, s.heap.size ≤ q → A q) (hRf : 0 ≤ R.frames) (hRl : 0 ≤ R.locals) (hRc : cells ≤ R.cells) (hRs : slots ≤ R.slots) (hf : x_power x0 = some r) (hC : HC D cl tys A ws s H locs) (hl : lv_has ls 4 [(0, .int x0)]) (K : ∀ (H : Heap) (locs : List Loc) (ls : Array Slot) (pc : Nat), True → HC D cl tys A ws s H locs → decode cX0_power pc = .ok (.lreturn, 1) → W p l e R s m args below meth c H locs cells slots Q (F0 m pc ls [.long r])) : W p l e R s m args below meth c H locs cells slots Q (F0 m 0 ls []) := by
  unfold x_power at hf
  refine lv_lconst (v := 1) hx hb dX0_power_0 (by decide) ?_
  refine lv_lstore_n (lv' := [(1, .long 1), (0, .int x0)]) hx hb dX0_power_1 rfl hl (by decide) rfl (fun ls hl => ?_)
  refine lv_iconst (v := 0) hx hb dX0_power_2 (by decide) ?_
  refine lv_istore_n (lv' := [(3, .int 0), (1, .long 1), (0, .int x0)]) hx hb dX0_power_3 rfl hl (by decide) rfl (fun ls hl => ?_)
  obtain ⟨x1_21, hL, hf⟩ := bnd_some hf
  have X_4 : ∀ (H : Heap) (locs : List Loc) (ls : Array Slot), HC D cl tys A ws s H locs → lv_has ls 4 [(1, .long x1_21)] → W p l e R s m args below meth c H locs cells slots Q (F0 m 21 ls []) := by
    intro H locs ls hC hl
    refine lv_lload_n hx hb dX0_power_21 rfl (lv_at hl 0 rfl) ?_
    have e_1 := (Option.some.inj hf)
    subst e_1
    exact K H locs ls _ trivial hC dX0_power_22
  have L_4 : ∀ (n_4 : Nat) (x1_4 : Int64) (x3_4 : Int32), x_power_L4 x0 n_4 x1_4 x3_4 = some x1_21 → ∀ (H : Heap) (locs : List Loc) (ls : Array Slot), HC D cl tys A ws s H locs → lv_has ls 4 [(0, .int x0), (1, .long x1_4), (3, .int x3_4)] → W p l e R s m args below meth c H locs cells slots Q (F0 m 4 ls []) := by
    intro n_4
    induction n_4 with
    | zero => intro _ _ hf; cases hf
    | succ n_4 ih =>
      intro x1_4 x3_4 hf H locs ls hC hl
      rw [x_power_L4_s] at hf
      refine lv_iload_n hx hb dX0_power_4 rfl (lv_at hl 2 rfl) ?_
      refine lv_iload_n hx hb dX0_power_5 rfl (lv_at hl 0 rfl) ?_
      refine lv_icmp_ge (tgt := 21) hx hb dX0_power_6 (by decide) (fun c_6 => ?_) (fun c_6 => ?_)
      · have hf := if_t hf c_6
        have e_1 := (Option.some.inj hf)
        subst e_1
        exact X_4 H locs ls hC (lv_sub hl [1] rfl)
      · have hf := if_f hf c_6
        refine lv_lload_n hx hb dX0_power_9 rfl (lv_at hl 1 rfl) ?_
        refine lv_ldc2 (v := 10) hx hb hown (hts _ q700) dX0_power_10 ?_
        refine lv_lmul hx hb dX0_power_13 ?_
        refine lv_lstore_n (lv' := [(1, .long (x1_4 * 10)), (0, .int x0), (3, .int x3_4)]) hx hb dX0_power_14 rfl hl (by decide) rfl (fun ls hl => ?_)
        refine lv_iinc (v := x3_4 + 1) (lv' := [(3, .int (x3_4 + 1)), (1, .long (x1_4 * 10)), (0, .int x0)]) hx hb dX0_power_15 hl (k := 2) rfl rfl (by decide) rfl (fun ls hl => ?_)
        refine lv_goto (tgt := 4) hx hb dX0_power_18 (by decide) ?_
        exact ih _ _ hf H locs ls hC (lv_sub hl [2, 1, 0] rfl)
  exact L_4 _ _ _ hL H locs ls hC (lv_sub hl [2, 1, 0] rfl)
set_option maxRecDepth 100000 in
theorem c_x_power {l : Launch} {sz : Nat} {D : va_G} {cl : List vw_C} {tys : List (ClassId × FieldType)} {ws : va_W} {x0 : Int32} {r : Int64} (hf : x_power x0 = some r) : ML l yX0_power (ws_ yX0_power cX0_power 4 (some .long)) { frames := 0, cells := 0, slots := 0, locals := 0 } D cl tys (fun _ => True) ws ws sz [.int x0] r :=
  ML.of (by decide) [.int x0] [(0, .int x0)] (Nat.le_of_ble_eq_true rfl) rfl (fun p e s m below meth c ls Q hx hb hml hown hts hN hA hC hl K => w_x_power hx hb hml hown hts hA (Nat.le_refl _) (Nat.le_refl _) (Nat.le_refl _) (Nat.le_refl _) hf hC hl K)

def j_fill_L5 (x1 : Int32) (k3_5 : Int32) (n_ : Nat) : Nat → Int32 → (Nat → Int32) → Option ((Nat → Int32))
  | 0, _, _ => none
  | n_5 + 1, x2_5, f_5 =>
  if k3_5 ≤ x2_5 then (some f_5) else
  ck x2_5 n_ <| j_fill_L5 x1 k3_5 n_ n_5 (x2_5 + 1) (upd f_5 x2_5.toNatClampNeg x1)
theorem j_fill_L5_s (x1 : Int32) (k3_5 : Int32) (n_ : Nat) (n_5 : Nat) (x2_5 : Int32) (f_5 : Nat → Int32) : j_fill_L5 x1 k3_5 n_ (n_5 + 1) x2_5 f_5 = (
  if k3_5 ≤ x2_5 then (some f_5) else
  ck x2_5 n_ <| j_fill_L5 x1 k3_5 n_ n_5 (x2_5 + 1) (upd f_5 x2_5.toNatClampNeg x1)) := rfl
def j_fill (n_ : Nat) (f : Nat → Int32) (x1 : Int32) : Option ((Nat → Int32)) :=
  ltv (Int32.ofNat n_) fun k3_5 => bnd (j_fill_L5 x1 k3_5 n_ g_fuel 0 f) (fun f_20 =>
  some f_20)
set_option maxHeartbeats 4000000 in
set_option maxRecDepth 100000 in
theorem w_j_fill {p : Program} {l : Launch} {e : Env} {R : Room} {s : State} {m : MethodId} {args : Array Value} {below : List Frame} {meth : Method} {c : Code} {H : Heap} {locs : List Loc} {cells slots : Nat} {Q : State → Prop} {A : Nat → Prop} {ls : Array Slot} {D : va_G} {d : Nat → ClassId} {q_ : Nat} {n_ : Nat} {f : Nat → Int32} {x1 : Int32} {f_r : Nat → Int32} (hx : p.tables.exec = Jvm.exec) (hb : c.code = cJ0_fill) (hml : c.maxLocals = 4) (hown : s.vm.findClass RJ0 = some m.cls) (hts : ∀ w ∈ lw_all, w.before args s = true) (hA : ∀ q, s.heap.size ≤ q → A q) (hRf : 0 ≤ R.frames) (hRl : 0 ≤ R.locals) (hRc : cells ≤ R.cells) (hRs : slots ≤ R.slots) (hf : j_fill n_ f x1 = some f_r) (hC : HC D gcl (gty d) A ([(q_, .inl (d 0, n_, .inl f))]) s H locs) (hl : lv_has ls 4 [(0, .ref q_), (1, .int x1)]) (K : ∀ (H : Heap) (locs : List Loc) (ls : Array Slot) (pc : Nat), True → HC D gcl (gty d) A ([(q_, .inl (d 0, n_, .inl f_r))]) s H locs → decode cJ0_fill pc = .ok (.return_, 1) → W p l e R s m args below meth c H locs cells slots Q (F0 m pc ls [])) : W p l e R s m args below meth c H locs cells slots Q (F0 m 0 ls []) := by
  unfold j_fill at hf
  refine lv_iconst (v := 0) hx hb dJ0_fill_0 (by decide) ?_
  refine lv_istore_n (lv' := [(2, .int 0), (0, .ref q_), (1, .int x1)]) hx hb dJ0_fill_1 rfl hl (by decide) rfl (fun ls hl => ?_)
  refine lv_aload_n hx hb dJ0_fill_2 rfl (lv_at hl 1 rfl) ?_
  refine va_alen (v := Int32.ofNat n_) hx hb hC.1 hC.2.1 0 0 rfl rfl rfl dJ0_fill_3 ?_
  refine lv_istore_n (lv' := [(3, .int (Int32.ofNat n_)), (2, .int 0), (0, .ref q_), (1, .int x1)]) hx hb dJ0_fill_4 rfl hl (by decide) rfl (fun ls hl => ?_)
  obtain ⟨k3_5, ek, hf⟩ := ltv_some hf
  rw [ek] at hl
  obtain ⟨f_20, hL, hf⟩ := bnd_some hf
  have X_5 : ∀ (H : Heap) (locs : List Loc) (ls : Array Slot), HC D gcl (gty d) A ([(q_, .inl (d 0, n_, .inl f_20))]) s H locs → lv_has ls 4 [] → W p l e R s m args below meth c H locs cells slots Q (F0 m 20 ls []) := by
    intro H locs ls hC hl
    have e_1 := (Option.some.inj hf)
    subst e_1
    exact K H locs ls _ trivial hC dJ0_fill_20
  have L_5 : ∀ (n_5 : Nat) (x2_5 : Int32) (f_5 : Nat → Int32), j_fill_L5 x1 k3_5 n_ n_5 x2_5 f_5 = some f_20 → ∀ (H : Heap) (locs : List Loc) (ls : Array Slot), HC D gcl (gty d) A ([(q_, .inl (d 0, n_, .inl f_5))]) s H locs → lv_has ls 4 [(0, .ref q_), (1, .int x1), (2, .int x2_5), (3, .int k3_5)] → W p l e R s m args below meth c H locs cells slots Q (F0 m 5 ls []) := by
    intro n_5
    induction n_5 with
    | zero => intro _ _ hf; cases hf
    | succ n_5 ih =>
      intro x2_5 f_5 hf H locs ls hC hl
      rw [j_fill_L5_s] at hf
      refine lv_iload_n hx hb dJ0_fill_5 rfl (lv_at hl 2 rfl) ?_
      refine lv_iload_n hx hb dJ0_fill_6 rfl (lv_at hl 3 rfl) ?_
      refine lv_icmp_ge (tgt := 20) hx hb dJ0_fill_7 (by decide) (fun c_7 => ?_) (fun c_7 => ?_)
      · have hf := if_t hf c_7
        have e_1 := (Option.some.inj hf)
        subst e_1
        exact X_5 H locs ls hC (lv_sub hl [] rfl)
      · have hf := if_f hf c_7
        refine lv_aload_n hx hb dJ0_fill_10 rfl (lv_at hl 0 rfl) ?_
        refine lv_iload_n hx hb dJ0_fill_11 rfl (lv_at hl 2 rfl) ?_
        refine lv_iload_n hx hb dJ0_fill_12 rfl (lv_at hl 1 rfl) ?_
        obtain ⟨hi_13, hf⟩ := ck_some hf
        refine va_iast hx hb hC.1 hC.2.1 hC.2.2.1 hC.2.2.2 (0) 0 rfl rfl hi_13 dJ0_fill_13 (fun H locs hP hD hS => ?_)
        have hC : HC D gcl (gty d) A ([(q_, .inl (d 0, n_, .inl (upd f_5 x2_5.toNatClampNeg x1)))]) s H locs := ⟨hC.1, hP, hD, hS⟩
        refine lv_iinc (v := x2_5 + 1) (lv' := [(2, .int (x2_5 + 1)), (0, .ref q_), (1, .int x1), (3, .int k3_5)]) hx hb dJ0_fill_14 hl (k := 2) rfl rfl (by decide) rfl (fun ls hl => ?_)
        refine lv_goto (tgt := 5) hx hb dJ0_fill_17 (by decide) ?_
        exact ih _ _ hf H locs ls hC (lv_sub hl [1, 2, 0, 3] rfl)
  exact L_5 _ _ _ hL H locs ls hC (lv_sub hl [2, 3, 1, 0] rfl)
set_option maxRecDepth 100000 in
theorem c_j_fill {l : Launch} {sz : Nat} {D : va_G} {d : Nat → ClassId} {q_ : Nat} {n_ : Nat} {f : Nat → Int32} {x1 : Int32} {f_r : Nat → Int32} (hf : j_fill n_ f x1 = some f_r) : MV l yJ0_fill (ws_ yJ0_fill cJ0_fill 4 none) { frames := 0, cells := 0, slots := 0, locals := 0 } D gcl (gty d) (fun _ => True) ([(q_, .inl (d 0, n_, .inl f))]) ([(q_, .inl (d 0, n_, .inl f_r))]) sz [.ref q_, .int x1] :=
  MV.of (by decide) [.ref q_, .int x1] [(0, .ref q_), (1, .int x1)] (Nat.le_of_ble_eq_true rfl) rfl (fun p e s m below meth c ls Q hx hb hml hown hts hN hA hC hl K => w_j_fill hx hb hml hown hts hA (Nat.le_refl _) (Nat.le_refl _) (Nat.le_refl _) (Nat.le_refl _) hf hC hl K)
