set_option maxRecDepth 100000

def x_scopy (many : Nat → Int32) (slip : Nat → Nat → Int32) (b_many : Nat → Int32) (b_slip : Nat → Nat → Int32) (p_ : Nat) : Option ((Nat → Int32) × (Nat → Nat → Int32)) :=
  cky 0 0 5 5 5 <| some (upd many p_ (b_many p_), va_up slip p_ (va_cpy (b_slip p_) (slip p_) (0 : Int32).toNatClampNeg (0 : Int32).toNatClampNeg (5 : Int32).toNatClampNeg))
set_option maxHeartbeats 4000000 in
set_option maxRecDepth 100000 in
theorem w_x_scopy {p : Program} {l : Launch} {e : Env} {R : Room} {s : State} {m : MethodId} {args : Array Value} {below : List Frame} {meth : Method} {c : Code} {H : Heap} {locs : List Loc} {cells slots : Nat} {Q : State → Prop} {A : Nat → Prop} {ls : Array Slot} {D : va_G} {d : Nat → ClassId} {ta : Nat → Nat} {tb : Nat → Nat} {many : Nat → Int32} {slip : Nat → Nat → Int32} {became : Nat → Int32} {left : Nat → Int32} {what : Nat → Int32} {which : Nat → Int32} {whose : Nat → Int32} {place : Nat → Int32} {deeds : Int32} {day : Int32} {won : Int32} {lost : Int32} {kept : Int32} {b_many : Nat → Int32} {b_slip : Nat → Nat → Int32} {b_became : Nat → Int32} {b_left : Nat → Int32} {b_what : Nat → Int32} {b_which : Nat → Int32} {b_whose : Nat → Int32} {b_place : Nat → Int32} {b_deeds : Int32} {b_day : Int32} {b_won : Int32} {b_lost : Int32} {b_kept : Int32} {p_ : Nat} {many_r : Nat → Int32} {slip_r : Nat → Nat → Int32} (hx : p.tables.exec = Jvm.exec) (hb : c.code = cX3_copyOf) (hml : c.maxLocals = 2) (hown : s.vm.findClass RX3 = some m.cls) (hts : ∀ w ∈ lw_all, w.before args s = true) (hN : NX s) (hp : p_ < 4) (hA : ∀ q, s.heap.size ≤ q → A q) (hRf : 1 ≤ R.frames) (hRl : 60 ≤ R.locals) (hRc : cells ≤ R.cells) (hRs : slots ≤ R.slots) (hf : x_scopy many slip b_many b_slip p_ = some (many_r, slip_r)) (hC : HC D gcl (gty d) A (tw d ta many slip became left what which whose place deeds day won lost kept ++ tw d tb b_many b_slip b_became b_left b_what b_which b_whose b_place b_deeds b_day b_won b_lost b_kept) s H locs) (hl : lv_has ls 2 [(0, .ref (ta (2 + p_))), (1, .ref (tb (2 + p_)))]) (K : ∀ (H : Heap) (locs : List Loc) (ls : Array Slot) (pc : Nat), True → HC D gcl (gty d) A (tw d ta many_r slip_r became left what which whose place deeds day won lost kept ++ tw d tb b_many b_slip b_became b_left b_what b_which b_whose b_place b_deeds b_day b_won b_lost b_kept) s H locs → decode cX3_copyOf pc = .ok (.return_, 1) → W p l e R s m args below meth c H locs cells slots Q (F0 m pc ls [])) : W p l e R s m args below meth c H locs cells slots Q (F0 m 0 ls []) := by
  unfold x_scopy at hf
  refine lv_aload_n hx hb dX3_copyOf_0 rfl (lv_at hl 1 rfl) ?_
  refine va_get (ci := 3) (v := .ref (tb (6 + p_))) (C := RX3) (T := TX3) (N := 2) hx hb hts in_X3 hown hC.1 hC.2.1 (16 + (2 + p_)) (t2_slB hp) rfl 0 (by decide) (hts _ q164) (fun _ h9 => h9) rfl dX3_copyOf_1 ?_
  refine lv_iconst (v := 0) hx hb dX3_copyOf_4 (by decide) ?_
  refine lv_aload_n hx hb dX3_copyOf_5 rfl (lv_at hl 0 rfl) ?_
  refine va_get (ci := 3) (v := .ref (ta (6 + p_))) (C := RX3) (T := TX3) (N := 2) hx hb hts in_X3 hown hC.1 hC.2.1 (2 + p_) (t2_sl hp) rfl 0 (by decide) (hts _ q164) (fun _ h9 => h9) rfl dX3_copyOf_6 ?_
  refine lv_iconst (v := 0) hx hb dX3_copyOf_9 (by decide) ?_
  refine lv_iconst (v := 5) hx hb dX3_copyOf_10 (by decide) ?_
  obtain ⟨hy_11, hf⟩ := cky_some hf
  refine va_copyi (ty := .int) hx hb (by rw [hml]; exact hl.1.symm) hown (hts _ q787) (hts _ q593) (hts _ q592) (hts _ q70) hC.1 hC.2.1 hC.2.2.1 hC.2.2.2 (16 + (6 + p_)) (6 + p_) 0 0 (t2_spB hp) (t2_sp hp) rfl rfl rfl hy_11.1 hy_11.2.1 hy_11.2.2.1 hy_11.2.2.2.1 hy_11.2.2.2.2 (fun _ _ => rfl) (Nat.le_trans (Nat.le_of_ble_eq_true rfl) hRf) (Nat.le_trans (by decide) hRl) dX3_copyOf_11 (fun H locs hP hD hS => ?_)
  have hC : HC D gcl (gty d) A (tw d ta many (va_up slip p_ (va_cpy (b_slip p_) (slip p_) (0 : Int32).toNatClampNeg (0 : Int32).toNatClampNeg (5 : Int32).toNatClampNeg)) became left what which whose place deeds day won lost kept ++ tw d tb b_many b_slip b_became b_left b_what b_which b_whose b_place b_deeds b_day b_won b_lost b_kept) s H locs := hcset (t2_usp hp) hC.1 hP hD hS
  refine lv_aload_n hx hb dX3_copyOf_14 rfl (lv_at hl 0 rfl) ?_
  refine lv_aload_n hx hb dX3_copyOf_15 rfl (lv_at hl 1 rfl) ?_
  refine va_get (ci := 3) (v := .int (b_many p_)) (C := RX3) (T := TX3) (N := 2) hx hb hts in_X3 hown hC.1 hC.2.1 (16 + (2 + p_)) (t2_slB hp) rfl 1 (by decide) (hts _ q166) (fun _ h9 => h9) rfl dX3_copyOf_16 ?_
  refine va_put (ci := 3) (v := .int (b_many p_)) (ty := .int) (C := RX3) (T := TX3) (N := 2) hx hb hts in_X3 tyX3 tyX3_ok nmX3 hown hC.1 hC.2.1 hC.2.2.1 hC.2.2.2 (2 + p_) (t2_sl hp) rfl 1 (by decide) (hts _ q166) (fun _ h9 => h9) rfl (tyX3_ok 1 (by decide)) rfl rfl (Nat.le_of_ble_eq_true rfl) dX3_copyOf_19 (fun H locs hP hD hS => ?_)
  have hC : HC D gcl (gty d) A (tw d ta (upd many p_ (b_many p_)) (va_up slip p_ (va_cpy (b_slip p_) (slip p_) (0 : Int32).toNatClampNeg (0 : Int32).toNatClampNeg (5 : Int32).toNatClampNeg)) became left what which whose place deeds day won lost kept ++ tw d tb b_many b_slip b_became b_left b_what b_which b_whose b_place b_deeds b_day b_won b_lost b_kept) s H locs := hcset (t2_usl hp) hC.1 hP hD hS
  obtain ⟨e_1, e_2⟩ := so_2 (Option.some.inj hf)
  subst e_1
  subst e_2
  exact K H locs ls _ trivial hC dX3_copyOf_22
set_option maxRecDepth 100000 in
theorem c_x_scopy {l : Launch} {sz : Nat} {D : va_G} {d : Nat → ClassId} {ta : Nat → Nat} {tb : Nat → Nat} {many : Nat → Int32} {slip : Nat → Nat → Int32} {became : Nat → Int32} {left : Nat → Int32} {what : Nat → Int32} {which : Nat → Int32} {whose : Nat → Int32} {place : Nat → Int32} {deeds : Int32} {day : Int32} {won : Int32} {lost : Int32} {kept : Int32} {b_many : Nat → Int32} {b_slip : Nat → Nat → Int32} {b_became : Nat → Int32} {b_left : Nat → Int32} {b_what : Nat → Int32} {b_which : Nat → Int32} {b_whose : Nat → Int32} {b_place : Nat → Int32} {b_deeds : Int32} {b_day : Int32} {b_won : Int32} {b_lost : Int32} {b_kept : Int32} {p_ : Nat} {many_r : Nat → Int32} {slip_r : Nat → Nat → Int32} (hp : p_ < 4) (hf : x_scopy many slip b_many b_slip p_ = some (many_r, slip_r)) : MV l yX3_copyOf (ws_ yX3_copyOf cX3_copyOf 2 none) { frames := 1, cells := 0, slots := 0, locals := 60 } D gcl (gty d) NX (tw d ta many slip became left what which whose place deeds day won lost kept ++ tw d tb b_many b_slip b_became b_left b_what b_which b_whose b_place b_deeds b_day b_won b_lost b_kept) (tw d ta many_r slip_r became left what which whose place deeds day won lost kept ++ tw d tb b_many b_slip b_became b_left b_what b_which b_whose b_place b_deeds b_day b_won b_lost b_kept) sz [.ref (ta (2 + p_)), .ref (tb (2 + p_))] :=
  MV.of (by decide) [.ref (ta (2 + p_)), .ref (tb (2 + p_))] [(0, .ref (ta (2 + p_))), (1, .ref (tb (2 + p_)))] (Nat.le_of_ble_eq_true rfl) rfl (fun p e s m below meth c ls Q hx hb hml hown hts hN hA hC hl K => w_x_scopy hx hb hml hown hts hN hp hA (Nat.le_refl _) (Nat.le_refl _) (Nat.le_refl _) (Nat.le_refl _) hf hC hl K)

def x_tcopy_L2 (b_many : Nat → Int32) (b_slip : Nat → Nat → Int32) : Nat → Int32 → (Nat → Int32) → (Nat → Nat → Int32) → Option ((Nat → Int32) × (Nat → Nat → Int32))
  | 0, _, _, _ => none
  | n_2 + 1, x2_2, many_2, slip_2 =>
  if 4 ≤ x2_2 then (some (many_2, slip_2)) else
  ck x2_2 4 <| ck x2_2 4 <| bnd2 (x_scopy many_2 slip_2 b_many b_slip x2_2.toNatClampNeg) fun many_19 slip_19 =>
  x_tcopy_L2 b_many b_slip n_2 (x2_2 + 1) many_19 slip_19
theorem x_tcopy_L2_s (b_many : Nat → Int32) (b_slip : Nat → Nat → Int32) (n_2 : Nat) (x2_2 : Int32) (many_2 : Nat → Int32) (slip_2 : Nat → Nat → Int32) : x_tcopy_L2 b_many b_slip (n_2 + 1) x2_2 many_2 slip_2 = (
  if 4 ≤ x2_2 then (some (many_2, slip_2)) else
  ck x2_2 4 <| ck x2_2 4 <| bnd2 (x_scopy many_2 slip_2 b_many b_slip x2_2.toNatClampNeg) fun many_19 slip_19 =>
  x_tcopy_L2 b_many b_slip n_2 (x2_2 + 1) many_19 slip_19) := rfl
def x_tcopy (many : Nat → Int32) (slip : Nat → Nat → Int32) (became : Nat → Int32) (left : Nat → Int32) (what : Nat → Int32) (which : Nat → Int32) (whose : Nat → Int32) (place : Nat → Int32) (b_many : Nat → Int32) (b_slip : Nat → Nat → Int32) (b_became : Nat → Int32) (b_left : Nat → Int32) (b_what : Nat → Int32) (b_which : Nat → Int32) (b_whose : Nat → Int32) (b_place : Nat → Int32) (b_deeds : Int32) (b_day : Int32) (b_won : Int32) (b_lost : Int32) : Option ((Nat → Int32) × (Nat → Nat → Int32) × (Nat → Int32) × (Nat → Int32) × (Nat → Int32) × (Nat → Int32) × (Nat → Int32) × (Nat → Int32) × Int32 × Int32 × Int32 × Int32) :=
  bnd2 (x_tcopy_L2 b_many b_slip g_fuel 0 many slip) (fun many_28 slip_28 =>
  cky 0 0 8 8 8 <| cky 0 0 8 8 8 <| cky 0 0 12 12 12 <| cky 0 0 12 12 12 <| cky 0 0 12 12 12 <| cky 0 0 12 12 12 <| some (many_28, slip_28, va_cpy b_became became (0 : Int32).toNatClampNeg (0 : Int32).toNatClampNeg (8 : Int32).toNatClampNeg, va_cpy b_left left (0 : Int32).toNatClampNeg (0 : Int32).toNatClampNeg (8 : Int32).toNatClampNeg, va_cpy b_what what (0 : Int32).toNatClampNeg (0 : Int32).toNatClampNeg (12 : Int32).toNatClampNeg, va_cpy b_which which (0 : Int32).toNatClampNeg (0 : Int32).toNatClampNeg (12 : Int32).toNatClampNeg, va_cpy b_whose whose (0 : Int32).toNatClampNeg (0 : Int32).toNatClampNeg (12 : Int32).toNatClampNeg, va_cpy b_place place (0 : Int32).toNatClampNeg (0 : Int32).toNatClampNeg (12 : Int32).toNatClampNeg, b_deeds, b_day, b_won, b_lost))
set_option maxHeartbeats 4000000 in
set_option maxRecDepth 100000 in
theorem w_x_tcopy {p : Program} {l : Launch} {e : Env} {R : Room} {s : State} {m : MethodId} {args : Array Value} {below : List Frame} {meth : Method} {c : Code} {H : Heap} {locs : List Loc} {cells slots : Nat} {Q : State → Prop} {A : Nat → Prop} {ls : Array Slot} {D : va_G} {d : Nat → ClassId} {ta : Nat → Nat} {tb : Nat → Nat} {many : Nat → Int32} {slip : Nat → Nat → Int32} {became : Nat → Int32} {left : Nat → Int32} {what : Nat → Int32} {which : Nat → Int32} {whose : Nat → Int32} {place : Nat → Int32} {deeds : Int32} {day : Int32} {won : Int32} {lost : Int32} {kept : Int32} {b_many : Nat → Int32} {b_slip : Nat → Nat → Int32} {b_became : Nat → Int32} {b_left : Nat → Int32} {b_what : Nat → Int32} {b_which : Nat → Int32} {b_whose : Nat → Int32} {b_place : Nat → Int32} {b_deeds : Int32} {b_day : Int32} {b_won : Int32} {b_lost : Int32} {b_kept : Int32} {many_r : Nat → Int32} {slip_r : Nat → Nat → Int32} {became_r : Nat → Int32} {left_r : Nat → Int32} {what_r : Nat → Int32} {which_r : Nat → Int32} {whose_r : Nat → Int32} {place_r : Nat → Int32} {deeds_r : Int32} {day_r : Int32} {won_r : Int32} {lost_r : Int32} (hx : p.tables.exec = Jvm.exec) (hb : c.code = cX2_copyOf) (hml : c.maxLocals = 3) (hown : s.vm.findClass RX2 = some m.cls) (hts : ∀ w ∈ lw_all, w.before args s = true) (hN : NX s) (hA : ∀ q, s.heap.size ≤ q → A q) (hRf : 2 ≤ R.frames) (hRl : 81 ≤ R.locals) (hRc : cells ≤ R.cells) (hRs : slots ≤ R.slots) (hf : x_tcopy many slip became left what which whose place b_many b_slip b_became b_left b_what b_which b_whose b_place b_deeds b_day b_won b_lost = some (many_r, slip_r, became_r, left_r, what_r, which_r, whose_r, place_r, deeds_r, day_r, won_r, lost_r)) (hC : HC D gcl (gty d) A (tw d ta many slip became left what which whose place deeds day won lost kept ++ tw d tb b_many b_slip b_became b_left b_what b_which b_whose b_place b_deeds b_day b_won b_lost b_kept) s H locs) (hl : lv_has ls 3 [(0, .ref (ta 0)), (1, .ref (tb 0))]) (K : ∀ (H : Heap) (locs : List Loc) (ls : Array Slot) (pc : Nat), True → HC D gcl (gty d) A (tw d ta many_r slip_r became_r left_r what_r which_r whose_r place_r deeds_r day_r won_r lost_r kept ++ tw d tb b_many b_slip b_became b_left b_what b_which b_whose b_place b_deeds b_day b_won b_lost b_kept) s H locs → decode cX2_copyOf pc = .ok (.return_, 1) → W p l e R s m args below meth c H locs cells slots Q (F0 m pc ls [])) : W p l e R s m args below meth c H locs cells slots Q (F0 m 0 ls []) := by
  unfold x_tcopy at hf
  refine lv_iconst (v := 0) hx hb dX2_copyOf_0 (by decide) ?_
  refine lv_istore_n (lv' := [(2, .int 0), (0, .ref (ta 0)), (1, .ref (tb 0))]) hx hb dX2_copyOf_1 rfl hl (by decide) rfl (fun ls hl => ?_)
  obtain ⟨many_28, slip_28, hL, hf⟩ := bnd2_some hf
  have X_2 : ∀ (H : Heap) (locs : List Loc) (ls : Array Slot), HC D gcl (gty d) A (tw d ta many_28 slip_28 became left what which whose place deeds day won lost kept ++ tw d tb b_many b_slip b_became b_left b_what b_which b_whose b_place b_deeds b_day b_won b_lost b_kept) s H locs → lv_has ls 3 [(0, .ref (ta 0)), (1, .ref (tb 0))] → W p l e R s m args below meth c H locs cells slots Q (F0 m 28 ls []) := by
    intro H locs ls hC hl
    refine lv_aload_n hx hb dX2_copyOf_28 rfl (lv_at hl 1 rfl) ?_
    refine va_get (ci := 2) (v := .ref (tb 10)) (C := RX2) (T := TX2) (N := 12) hx hb hts in_X2 hown hC.1 hC.2.1 (16) rfl rfl 1 (by decide) (hts _ q178) (fun _ h9 => h9) rfl dX2_copyOf_29 ?_
    refine lv_iconst (v := 0) hx hb dX2_copyOf_32 (by decide) ?_
    refine lv_aload_n hx hb dX2_copyOf_33 rfl (lv_at hl 0 rfl) ?_
    refine va_get (ci := 2) (v := .ref (ta 10)) (C := RX2) (T := TX2) (N := 12) hx hb hts in_X2 hown hC.1 hC.2.1 (0) rfl rfl 1 (by decide) (hts _ q178) (fun _ h9 => h9) rfl dX2_copyOf_34 ?_
    refine lv_iconst (v := 0) hx hb dX2_copyOf_37 (by decide) ?_
    refine lv_bipush (v := 8) hx hb dX2_copyOf_38 (by decide) ?_
    obtain ⟨hy_40, hf⟩ := cky_some hf
    refine va_copyi (ty := .int) hx hb (by rw [hml]; exact hl.1.symm) hown (hts _ q591) (hts _ q593) (hts _ q592) (hts _ q70) hC.1 hC.2.1 hC.2.2.1 hC.2.2.2 (26) (10) 0 0 rfl rfl rfl rfl rfl hy_40.1 hy_40.2.1 hy_40.2.2.1 hy_40.2.2.2.1 hy_40.2.2.2.2 (fun _ _ => rfl) (Nat.le_trans (Nat.le_of_ble_eq_true rfl) hRf) (Nat.le_trans (by decide) hRl) dX2_copyOf_40 (fun H locs hP hD hS => ?_)
    have hC : HC D gcl (gty d) A (tw d ta many_28 slip_28 (va_cpy b_became became (0 : Int32).toNatClampNeg (0 : Int32).toNatClampNeg (8 : Int32).toNatClampNeg) left what which whose place deeds day won lost kept ++ tw d tb b_many b_slip b_became b_left b_what b_which b_whose b_place b_deeds b_day b_won b_lost b_kept) s H locs := ⟨hC.1, hP, hD, hS⟩
    refine lv_aload_n hx hb dX2_copyOf_43 rfl (lv_at hl 1 rfl) ?_
    refine va_get (ci := 2) (v := .ref (tb 11)) (C := RX2) (T := TX2) (N := 12) hx hb hts in_X2 hown hC.1 hC.2.1 (16) rfl rfl 2 (by decide) (hts _ q180) (fun _ h9 => h9) rfl dX2_copyOf_44 ?_
    refine lv_iconst (v := 0) hx hb dX2_copyOf_47 (by decide) ?_
    refine lv_aload_n hx hb dX2_copyOf_48 rfl (lv_at hl 0 rfl) ?_
    refine va_get (ci := 2) (v := .ref (ta 11)) (C := RX2) (T := TX2) (N := 12) hx hb hts in_X2 hown hC.1 hC.2.1 (0) rfl rfl 2 (by decide) (hts _ q180) (fun _ h9 => h9) rfl dX2_copyOf_49 ?_
    refine lv_iconst (v := 0) hx hb dX2_copyOf_52 (by decide) ?_
    refine lv_bipush (v := 8) hx hb dX2_copyOf_53 (by decide) ?_
    obtain ⟨hy_55, hf⟩ := cky_some hf
    refine va_copyi (ty := .int) hx hb (by rw [hml]; exact hl.1.symm) hown (hts _ q591) (hts _ q593) (hts _ q592) (hts _ q70) hC.1 hC.2.1 hC.2.2.1 hC.2.2.2 (27) (11) 0 0 rfl rfl rfl rfl rfl hy_55.1 hy_55.2.1 hy_55.2.2.1 hy_55.2.2.2.1 hy_55.2.2.2.2 (fun _ _ => rfl) (Nat.le_trans (Nat.le_of_ble_eq_true rfl) hRf) (Nat.le_trans (by decide) hRl) dX2_copyOf_55 (fun H locs hP hD hS => ?_)
    have hC : HC D gcl (gty d) A (tw d ta many_28 slip_28 (va_cpy b_became became (0 : Int32).toNatClampNeg (0 : Int32).toNatClampNeg (8 : Int32).toNatClampNeg) (va_cpy b_left left (0 : Int32).toNatClampNeg (0 : Int32).toNatClampNeg (8 : Int32).toNatClampNeg) what which whose place deeds day won lost kept ++ tw d tb b_many b_slip b_became b_left b_what b_which b_whose b_place b_deeds b_day b_won b_lost b_kept) s H locs := ⟨hC.1, hP, hD, hS⟩
    refine lv_aload_n hx hb dX2_copyOf_58 rfl (lv_at hl 1 rfl) ?_
    refine va_get (ci := 2) (v := .ref (tb 12)) (C := RX2) (T := TX2) (N := 12) hx hb hts in_X2 hown hC.1 hC.2.1 (16) rfl rfl 3 (by decide) (hts _ q182) (fun _ h9 => h9) rfl dX2_copyOf_59 ?_
    refine lv_iconst (v := 0) hx hb dX2_copyOf_62 (by decide) ?_
    refine lv_aload_n hx hb dX2_copyOf_63 rfl (lv_at hl 0 rfl) ?_
    refine va_get (ci := 2) (v := .ref (ta 12)) (C := RX2) (T := TX2) (N := 12) hx hb hts in_X2 hown hC.1 hC.2.1 (0) rfl rfl 3 (by decide) (hts _ q182) (fun _ h9 => h9) rfl dX2_copyOf_64 ?_
    refine lv_iconst (v := 0) hx hb dX2_copyOf_67 (by decide) ?_
    refine lv_bipush (v := 12) hx hb dX2_copyOf_68 (by decide) ?_
    obtain ⟨hy_70, hf⟩ := cky_some hf
    refine va_copyi (ty := .int) hx hb (by rw [hml]; exact hl.1.symm) hown (hts _ q591) (hts _ q593) (hts _ q592) (hts _ q70) hC.1 hC.2.1 hC.2.2.1 hC.2.2.2 (28) (12) 0 0 rfl rfl rfl rfl rfl hy_70.1 hy_70.2.1 hy_70.2.2.1 hy_70.2.2.2.1 hy_70.2.2.2.2 (fun _ _ => rfl) (Nat.le_trans (Nat.le_of_ble_eq_true rfl) hRf) (Nat.le_trans (by decide) hRl) dX2_copyOf_70 (fun H locs hP hD hS => ?_)
    have hC : HC D gcl (gty d) A (tw d ta many_28 slip_28 (va_cpy b_became became (0 : Int32).toNatClampNeg (0 : Int32).toNatClampNeg (8 : Int32).toNatClampNeg) (va_cpy b_left left (0 : Int32).toNatClampNeg (0 : Int32).toNatClampNeg (8 : Int32).toNatClampNeg) (va_cpy b_what what (0 : Int32).toNatClampNeg (0 : Int32).toNatClampNeg (12 : Int32).toNatClampNeg) which whose place deeds day won lost kept ++ tw d tb b_many b_slip b_became b_left b_what b_which b_whose b_place b_deeds b_day b_won b_lost b_kept) s H locs := ⟨hC.1, hP, hD, hS⟩
    refine lv_aload_n hx hb dX2_copyOf_73 rfl (lv_at hl 1 rfl) ?_
    refine va_get (ci := 2) (v := .ref (tb 13)) (C := RX2) (T := TX2) (N := 12) hx hb hts in_X2 hown hC.1 hC.2.1 (16) rfl rfl 4 (by decide) (hts _ q184) (fun _ h9 => h9) rfl dX2_copyOf_74 ?_
    refine lv_iconst (v := 0) hx hb dX2_copyOf_77 (by decide) ?_
    refine lv_aload_n hx hb dX2_copyOf_78 rfl (lv_at hl 0 rfl) ?_
    refine va_get (ci := 2) (v := .ref (ta 13)) (C := RX2) (T := TX2) (N := 12) hx hb hts in_X2 hown hC.1 hC.2.1 (0) rfl rfl 4 (by decide) (hts _ q184) (fun _ h9 => h9) rfl dX2_copyOf_79 ?_
    refine lv_iconst (v := 0) hx hb dX2_copyOf_82 (by decide) ?_
    refine lv_bipush (v := 12) hx hb dX2_copyOf_83 (by decide) ?_
    obtain ⟨hy_85, hf⟩ := cky_some hf
    refine va_copyi (ty := .int) hx hb (by rw [hml]; exact hl.1.symm) hown (hts _ q591) (hts _ q593) (hts _ q592) (hts _ q70) hC.1 hC.2.1 hC.2.2.1 hC.2.2.2 (29) (13) 0 0 rfl rfl rfl rfl rfl hy_85.1 hy_85.2.1 hy_85.2.2.1 hy_85.2.2.2.1 hy_85.2.2.2.2 (fun _ _ => rfl) (Nat.le_trans (Nat.le_of_ble_eq_true rfl) hRf) (Nat.le_trans (by decide) hRl) dX2_copyOf_85 (fun H locs hP hD hS => ?_)
    have hC : HC D gcl (gty d) A (tw d ta many_28 slip_28 (va_cpy b_became became (0 : Int32).toNatClampNeg (0 : Int32).toNatClampNeg (8 : Int32).toNatClampNeg) (va_cpy b_left left (0 : Int32).toNatClampNeg (0 : Int32).toNatClampNeg (8 : Int32).toNatClampNeg) (va_cpy b_what what (0 : Int32).toNatClampNeg (0 : Int32).toNatClampNeg (12 : Int32).toNatClampNeg) (va_cpy b_which which (0 : Int32).toNatClampNeg (0 : Int32).toNatClampNeg (12 : Int32).toNatClampNeg) whose place deeds day won lost kept ++ tw d tb b_many b_slip b_became b_left b_what b_which b_whose b_place b_deeds b_day b_won b_lost b_kept) s H locs := ⟨hC.1, hP, hD, hS⟩
    refine lv_aload_n hx hb dX2_copyOf_88 rfl (lv_at hl 1 rfl) ?_
    refine va_get (ci := 2) (v := .ref (tb 14)) (C := RX2) (T := TX2) (N := 12) hx hb hts in_X2 hown hC.1 hC.2.1 (16) rfl rfl 5 (by decide) (hts _ q186) (fun _ h9 => h9) rfl dX2_copyOf_89 ?_
    refine lv_iconst (v := 0) hx hb dX2_copyOf_92 (by decide) ?_
    refine lv_aload_n hx hb dX2_copyOf_93 rfl (lv_at hl 0 rfl) ?_
    refine va_get (ci := 2) (v := .ref (ta 14)) (C := RX2) (T := TX2) (N := 12) hx hb hts in_X2 hown hC.1 hC.2.1 (0) rfl rfl 5 (by decide) (hts _ q186) (fun _ h9 => h9) rfl dX2_copyOf_94 ?_
    refine lv_iconst (v := 0) hx hb dX2_copyOf_97 (by decide) ?_
    refine lv_bipush (v := 12) hx hb dX2_copyOf_98 (by decide) ?_
    obtain ⟨hy_100, hf⟩ := cky_some hf
    refine va_copyi (ty := .int) hx hb (by rw [hml]; exact hl.1.symm) hown (hts _ q591) (hts _ q593) (hts _ q592) (hts _ q70) hC.1 hC.2.1 hC.2.2.1 hC.2.2.2 (30) (14) 0 0 rfl rfl rfl rfl rfl hy_100.1 hy_100.2.1 hy_100.2.2.1 hy_100.2.2.2.1 hy_100.2.2.2.2 (fun _ _ => rfl) (Nat.le_trans (Nat.le_of_ble_eq_true rfl) hRf) (Nat.le_trans (by decide) hRl) dX2_copyOf_100 (fun H locs hP hD hS => ?_)
    have hC : HC D gcl (gty d) A (tw d ta many_28 slip_28 (va_cpy b_became became (0 : Int32).toNatClampNeg (0 : Int32).toNatClampNeg (8 : Int32).toNatClampNeg) (va_cpy b_left left (0 : Int32).toNatClampNeg (0 : Int32).toNatClampNeg (8 : Int32).toNatClampNeg) (va_cpy b_what what (0 : Int32).toNatClampNeg (0 : Int32).toNatClampNeg (12 : Int32).toNatClampNeg) (va_cpy b_which which (0 : Int32).toNatClampNeg (0 : Int32).toNatClampNeg (12 : Int32).toNatClampNeg) (va_cpy b_whose whose (0 : Int32).toNatClampNeg (0 : Int32).toNatClampNeg (12 : Int32).toNatClampNeg) place deeds day won lost kept ++ tw d tb b_many b_slip b_became b_left b_what b_which b_whose b_place b_deeds b_day b_won b_lost b_kept) s H locs := ⟨hC.1, hP, hD, hS⟩
    refine lv_aload_n hx hb dX2_copyOf_103 rfl (lv_at hl 1 rfl) ?_
    refine va_get (ci := 2) (v := .ref (tb 15)) (C := RX2) (T := TX2) (N := 12) hx hb hts in_X2 hown hC.1 hC.2.1 (16) rfl rfl 6 (by decide) (hts _ q188) (fun _ h9 => h9) rfl dX2_copyOf_104 ?_
    refine lv_iconst (v := 0) hx hb dX2_copyOf_107 (by decide) ?_
    refine lv_aload_n hx hb dX2_copyOf_108 rfl (lv_at hl 0 rfl) ?_
    refine va_get (ci := 2) (v := .ref (ta 15)) (C := RX2) (T := TX2) (N := 12) hx hb hts in_X2 hown hC.1 hC.2.1 (0) rfl rfl 6 (by decide) (hts _ q188) (fun _ h9 => h9) rfl dX2_copyOf_109 ?_
    refine lv_iconst (v := 0) hx hb dX2_copyOf_112 (by decide) ?_
    refine lv_bipush (v := 12) hx hb dX2_copyOf_113 (by decide) ?_
    obtain ⟨hy_115, hf⟩ := cky_some hf
    refine va_copyi (ty := .int) hx hb (by rw [hml]; exact hl.1.symm) hown (hts _ q591) (hts _ q593) (hts _ q592) (hts _ q70) hC.1 hC.2.1 hC.2.2.1 hC.2.2.2 (31) (15) 0 0 rfl rfl rfl rfl rfl hy_115.1 hy_115.2.1 hy_115.2.2.1 hy_115.2.2.2.1 hy_115.2.2.2.2 (fun _ _ => rfl) (Nat.le_trans (Nat.le_of_ble_eq_true rfl) hRf) (Nat.le_trans (by decide) hRl) dX2_copyOf_115 (fun H locs hP hD hS => ?_)
    have hC : HC D gcl (gty d) A (tw d ta many_28 slip_28 (va_cpy b_became became (0 : Int32).toNatClampNeg (0 : Int32).toNatClampNeg (8 : Int32).toNatClampNeg) (va_cpy b_left left (0 : Int32).toNatClampNeg (0 : Int32).toNatClampNeg (8 : Int32).toNatClampNeg) (va_cpy b_what what (0 : Int32).toNatClampNeg (0 : Int32).toNatClampNeg (12 : Int32).toNatClampNeg) (va_cpy b_which which (0 : Int32).toNatClampNeg (0 : Int32).toNatClampNeg (12 : Int32).toNatClampNeg) (va_cpy b_whose whose (0 : Int32).toNatClampNeg (0 : Int32).toNatClampNeg (12 : Int32).toNatClampNeg) (va_cpy b_place place (0 : Int32).toNatClampNeg (0 : Int32).toNatClampNeg (12 : Int32).toNatClampNeg) deeds day won lost kept ++ tw d tb b_many b_slip b_became b_left b_what b_which b_whose b_place b_deeds b_day b_won b_lost b_kept) s H locs := ⟨hC.1, hP, hD, hS⟩
    refine lv_aload_n hx hb dX2_copyOf_118 rfl (lv_at hl 0 rfl) ?_
    refine lv_aload_n hx hb dX2_copyOf_119 rfl (lv_at hl 1 rfl) ?_
    refine va_get (ci := 2) (v := .int b_deeds) (C := RX2) (T := TX2) (N := 12) hx hb hts in_X2 hown hC.1 hC.2.1 (16) rfl rfl 7 (by decide) (hts _ q190) (fun _ h9 => h9) rfl dX2_copyOf_120 ?_
    refine va_put (ci := 2) (v := .int b_deeds) (ty := .int) (C := RX2) (T := TX2) (N := 12) hx hb hts in_X2 tyX2 tyX2_ok nmX2 hown hC.1 hC.2.1 hC.2.2.1 hC.2.2.2 (0) rfl rfl 7 (by decide) (hts _ q190) (fun _ h9 => h9) rfl (tyX2_ok 7 (by decide)) rfl rfl (Nat.le_of_ble_eq_true rfl) dX2_copyOf_123 (fun H locs hP hD hS => ?_)
    have hC : HC D gcl (gty d) A (tw d ta many_28 slip_28 (va_cpy b_became became (0 : Int32).toNatClampNeg (0 : Int32).toNatClampNeg (8 : Int32).toNatClampNeg) (va_cpy b_left left (0 : Int32).toNatClampNeg (0 : Int32).toNatClampNeg (8 : Int32).toNatClampNeg) (va_cpy b_what what (0 : Int32).toNatClampNeg (0 : Int32).toNatClampNeg (12 : Int32).toNatClampNeg) (va_cpy b_which which (0 : Int32).toNatClampNeg (0 : Int32).toNatClampNeg (12 : Int32).toNatClampNeg) (va_cpy b_whose whose (0 : Int32).toNatClampNeg (0 : Int32).toNatClampNeg (12 : Int32).toNatClampNeg) (va_cpy b_place place (0 : Int32).toNatClampNeg (0 : Int32).toNatClampNeg (12 : Int32).toNatClampNeg) b_deeds day won lost kept ++ tw d tb b_many b_slip b_became b_left b_what b_which b_whose b_place b_deeds b_day b_won b_lost b_kept) s H locs := ⟨hC.1, hP, hD, hS⟩
    refine lv_aload_n hx hb dX2_copyOf_126 rfl (lv_at hl 0 rfl) ?_
    refine lv_aload_n hx hb dX2_copyOf_127 rfl (lv_at hl 1 rfl) ?_
    refine va_get (ci := 2) (v := .int b_day) (C := RX2) (T := TX2) (N := 12) hx hb hts in_X2 hown hC.1 hC.2.1 (16) rfl rfl 8 (by decide) (hts _ q193) (fun _ h9 => h9) rfl dX2_copyOf_128 ?_
    refine va_put (ci := 2) (v := .int b_day) (ty := .int) (C := RX2) (T := TX2) (N := 12) hx hb hts in_X2 tyX2 tyX2_ok nmX2 hown hC.1 hC.2.1 hC.2.2.1 hC.2.2.2 (0) rfl rfl 8 (by decide) (hts _ q193) (fun _ h9 => h9) rfl (tyX2_ok 8 (by decide)) rfl rfl (Nat.le_of_ble_eq_true rfl) dX2_copyOf_131 (fun H locs hP hD hS => ?_)
    have hC : HC D gcl (gty d) A (tw d ta many_28 slip_28 (va_cpy b_became became (0 : Int32).toNatClampNeg (0 : Int32).toNatClampNeg (8 : Int32).toNatClampNeg) (va_cpy b_left left (0 : Int32).toNatClampNeg (0 : Int32).toNatClampNeg (8 : Int32).toNatClampNeg) (va_cpy b_what what (0 : Int32).toNatClampNeg (0 : Int32).toNatClampNeg (12 : Int32).toNatClampNeg) (va_cpy b_which which (0 : Int32).toNatClampNeg (0 : Int32).toNatClampNeg (12 : Int32).toNatClampNeg) (va_cpy b_whose whose (0 : Int32).toNatClampNeg (0 : Int32).toNatClampNeg (12 : Int32).toNatClampNeg) (va_cpy b_place place (0 : Int32).toNatClampNeg (0 : Int32).toNatClampNeg (12 : Int32).toNatClampNeg) b_deeds b_day won lost kept ++ tw d tb b_many b_slip b_became b_left b_what b_which b_whose b_place b_deeds b_day b_won b_lost b_kept) s H locs := ⟨hC.1, hP, hD, hS⟩
    refine lv_aload_n hx hb dX2_copyOf_134 rfl (lv_at hl 0 rfl) ?_
    refine lv_aload_n hx hb dX2_copyOf_135 rfl (lv_at hl 1 rfl) ?_
    refine va_get (ci := 2) (v := .int b_won) (C := RX2) (T := TX2) (N := 12) hx hb hts in_X2 hown hC.1 hC.2.1 (16) rfl rfl 9 (by decide) (hts _ q195) (fun _ h9 => h9) rfl dX2_copyOf_136 ?_
    refine va_put (ci := 2) (v := .int b_won) (ty := .int) (C := RX2) (T := TX2) (N := 12) hx hb hts in_X2 tyX2 tyX2_ok nmX2 hown hC.1 hC.2.1 hC.2.2.1 hC.2.2.2 (0) rfl rfl 9 (by decide) (hts _ q195) (fun _ h9 => h9) rfl (tyX2_ok 9 (by decide)) rfl rfl (Nat.le_of_ble_eq_true rfl) dX2_copyOf_139 (fun H locs hP hD hS => ?_)
    have hC : HC D gcl (gty d) A (tw d ta many_28 slip_28 (va_cpy b_became became (0 : Int32).toNatClampNeg (0 : Int32).toNatClampNeg (8 : Int32).toNatClampNeg) (va_cpy b_left left (0 : Int32).toNatClampNeg (0 : Int32).toNatClampNeg (8 : Int32).toNatClampNeg) (va_cpy b_what what (0 : Int32).toNatClampNeg (0 : Int32).toNatClampNeg (12 : Int32).toNatClampNeg) (va_cpy b_which which (0 : Int32).toNatClampNeg (0 : Int32).toNatClampNeg (12 : Int32).toNatClampNeg) (va_cpy b_whose whose (0 : Int32).toNatClampNeg (0 : Int32).toNatClampNeg (12 : Int32).toNatClampNeg) (va_cpy b_place place (0 : Int32).toNatClampNeg (0 : Int32).toNatClampNeg (12 : Int32).toNatClampNeg) b_deeds b_day b_won lost kept ++ tw d tb b_many b_slip b_became b_left b_what b_which b_whose b_place b_deeds b_day b_won b_lost b_kept) s H locs := ⟨hC.1, hP, hD, hS⟩
    refine lv_aload_n hx hb dX2_copyOf_142 rfl (lv_at hl 0 rfl) ?_
    refine lv_aload_n hx hb dX2_copyOf_143 rfl (lv_at hl 1 rfl) ?_
    refine va_get (ci := 2) (v := .int b_lost) (C := RX2) (T := TX2) (N := 12) hx hb hts in_X2 hown hC.1 hC.2.1 (16) rfl rfl 10 (by decide) (hts _ q197) (fun _ h9 => h9) rfl dX2_copyOf_144 ?_
    refine va_put (ci := 2) (v := .int b_lost) (ty := .int) (C := RX2) (T := TX2) (N := 12) hx hb hts in_X2 tyX2 tyX2_ok nmX2 hown hC.1 hC.2.1 hC.2.2.1 hC.2.2.2 (0) rfl rfl 10 (by decide) (hts _ q197) (fun _ h9 => h9) rfl (tyX2_ok 10 (by decide)) rfl rfl (Nat.le_of_ble_eq_true rfl) dX2_copyOf_147 (fun H locs hP hD hS => ?_)
    have hC : HC D gcl (gty d) A (tw d ta many_28 slip_28 (va_cpy b_became became (0 : Int32).toNatClampNeg (0 : Int32).toNatClampNeg (8 : Int32).toNatClampNeg) (va_cpy b_left left (0 : Int32).toNatClampNeg (0 : Int32).toNatClampNeg (8 : Int32).toNatClampNeg) (va_cpy b_what what (0 : Int32).toNatClampNeg (0 : Int32).toNatClampNeg (12 : Int32).toNatClampNeg) (va_cpy b_which which (0 : Int32).toNatClampNeg (0 : Int32).toNatClampNeg (12 : Int32).toNatClampNeg) (va_cpy b_whose whose (0 : Int32).toNatClampNeg (0 : Int32).toNatClampNeg (12 : Int32).toNatClampNeg) (va_cpy b_place place (0 : Int32).toNatClampNeg (0 : Int32).toNatClampNeg (12 : Int32).toNatClampNeg) b_deeds b_day b_won b_lost kept ++ tw d tb b_many b_slip b_became b_left b_what b_which b_whose b_place b_deeds b_day b_won b_lost b_kept) s H locs := ⟨hC.1, hP, hD, hS⟩
    obtain ⟨e_1, e_2, e_3, e_4, e_5, e_6, e_7, e_8, e_9, e_10, e_11, e_12⟩ := so_12 (Option.some.inj hf)
    subst e_1
    subst e_2
    subst e_3
    subst e_4
    subst e_5
    subst e_6
    subst e_7
    subst e_8
    subst e_9
    subst e_10
    subst e_11
    subst e_12
    exact K H locs ls _ trivial hC dX2_copyOf_150
  have L_2 : ∀ (n_2 : Nat) (x2_2 : Int32) (many_2 : Nat → Int32) (slip_2 : Nat → Nat → Int32), x_tcopy_L2 b_many b_slip n_2 x2_2 many_2 slip_2 = some (many_28, slip_28) → ∀ (H : Heap) (locs : List Loc) (ls : Array Slot), HC D gcl (gty d) A (tw d ta many_2 slip_2 became left what which whose place deeds day won lost kept ++ tw d tb b_many b_slip b_became b_left b_what b_which b_whose b_place b_deeds b_day b_won b_lost b_kept) s H locs → lv_has ls 3 [(0, .ref (ta 0)), (1, .ref (tb 0)), (2, .int x2_2)] → W p l e R s m args below meth c H locs cells slots Q (F0 m 2 ls []) := by
    intro n_2
    induction n_2 with
    | zero => intro _ _ _ hf; cases hf
    | succ n_2 ih =>
      intro x2_2 many_2 slip_2 hf H locs ls hC hl
      rw [x_tcopy_L2_s] at hf
      refine lv_iload_n hx hb dX2_copyOf_2 rfl (lv_at hl 2 rfl) ?_
      refine lv_iconst (v := 4) hx hb dX2_copyOf_3 (by decide) ?_
      refine lv_icmp_ge (tgt := 28) hx hb dX2_copyOf_4 (by decide) (fun c_4 => ?_) (fun c_4 => ?_)
      · have hf := if_t hf c_4
        obtain ⟨e_1, e_2⟩ := so_2 (Option.some.inj hf)
        subst e_1
        subst e_2
        exact X_2 H locs ls hC (lv_sub hl [0, 1] rfl)
      · have hf := if_f hf c_4
        refine lv_aload_n hx hb dX2_copyOf_7 rfl (lv_at hl 0 rfl) ?_
        refine va_get (ci := 2) (v := .ref (ta 1)) (C := RX2) (T := TX2) (N := 12) hx hb hts in_X2 hown hC.1 hC.2.1 (0) rfl rfl 0 (by decide) (hts _ q175) (fun _ h9 => h9) rfl dX2_copyOf_8 ?_
        refine lv_iload_n hx hb dX2_copyOf_11 rfl (lv_at hl 2 rfl) ?_
        obtain ⟨hi_12, hf⟩ := ck_some hf
        refine va_aldq hx hb hC.1 hC.2.1 1 4 rfl rfl hi_12 dX2_copyOf_12 ?_
        refine lv_aload_n hx hb dX2_copyOf_13 rfl (lv_at hl 1 rfl) ?_
        refine va_get (ci := 2) (v := .ref (tb 1)) (C := RX2) (T := TX2) (N := 12) hx hb hts in_X2 hown hC.1 hC.2.1 (16) rfl rfl 0 (by decide) (hts _ q175) (fun _ h9 => h9) rfl dX2_copyOf_14 ?_
        refine lv_iload_n hx hb dX2_copyOf_17 rfl (lv_at hl 2 rfl) ?_
        obtain ⟨hi_18, hf⟩ := ck_some hf
        refine va_aldq hx hb hC.1 hC.2.1 17 4 rfl rfl hi_18 dX2_copyOf_18 ?_
        obtain ⟨many_19, slip_19, hcall, hf⟩ := bnd2_some hf
        refine hc_v (va_runV (C := RX3) (As := [.ref (tb (2 + x2_2.toNatClampNeg))]) (rest := []) ⟨hx, hb, hml, hown, hts⟩ (c_x_scopy (vp_lt hi_12) hcall) (cwV 1 hts (lw_V q783 q784 q785 q51 q786) rfl rfl rfl (by decide +kernel) ⟨(Nat.le_trans (Nat.le_of_ble_eq_true rfl) hRf), (Nat.le_trans (Nat.le_of_ble_eq_true rfl) hRl)⟩) (pre_V (q0 := 2 + x2_2.toNatClampNeg) (ci := 3) NX.calling (fun U _ hW => NX.warm hW hN) hC rfl (t2_sl (vp_lt hi_12))) rfl rfl hl.1 rfl (lv_room (Nat.le_of_ble_eq_true rfl)) dX2_copyOf_19 ⟨hRc, hRs⟩) hA hC (fun H locs hC => ?_)
        have hC : HC D gcl (gty d) A (tw d ta many_19 slip_19 became left what which whose place deeds day won lost kept ++ tw d tb b_many b_slip b_became b_left b_what b_which b_whose b_place b_deeds b_day b_won b_lost b_kept) s H locs := hC
        refine lv_iinc (v := x2_2 + 1) (lv' := [(2, .int (x2_2 + 1)), (0, .ref (ta 0)), (1, .ref (tb 0))]) hx hb dX2_copyOf_22 hl (k := 2) rfl rfl (by decide) rfl (fun ls hl => ?_)
        refine lv_goto (tgt := 2) hx hb dX2_copyOf_25 (by decide) ?_
        exact ih _ _ _ hf H locs ls hC (lv_sub hl [1, 2, 0] rfl)
  exact L_2 _ _ _ _ hL H locs ls hC (lv_sub hl [1, 2, 0] rfl)
set_option maxRecDepth 100000 in
theorem c_x_tcopy {l : Launch} {sz : Nat} {D : va_G} {d : Nat → ClassId} {ta : Nat → Nat} {tb : Nat → Nat} {many : Nat → Int32} {slip : Nat → Nat → Int32} {became : Nat → Int32} {left : Nat → Int32} {what : Nat → Int32} {which : Nat → Int32} {whose : Nat → Int32} {place : Nat → Int32} {deeds : Int32} {day : Int32} {won : Int32} {lost : Int32} {kept : Int32} {b_many : Nat → Int32} {b_slip : Nat → Nat → Int32} {b_became : Nat → Int32} {b_left : Nat → Int32} {b_what : Nat → Int32} {b_which : Nat → Int32} {b_whose : Nat → Int32} {b_place : Nat → Int32} {b_deeds : Int32} {b_day : Int32} {b_won : Int32} {b_lost : Int32} {b_kept : Int32} {many_r : Nat → Int32} {slip_r : Nat → Nat → Int32} {became_r : Nat → Int32} {left_r : Nat → Int32} {what_r : Nat → Int32} {which_r : Nat → Int32} {whose_r : Nat → Int32} {place_r : Nat → Int32} {deeds_r : Int32} {day_r : Int32} {won_r : Int32} {lost_r : Int32} (hf : x_tcopy many slip became left what which whose place b_many b_slip b_became b_left b_what b_which b_whose b_place b_deeds b_day b_won b_lost = some (many_r, slip_r, became_r, left_r, what_r, which_r, whose_r, place_r, deeds_r, day_r, won_r, lost_r)) : MV l yX2_copyOf (ws_ yX2_copyOf cX2_copyOf 3 none) { frames := 2, cells := 0, slots := 0, locals := 81 } D gcl (gty d) NX (tw d ta many slip became left what which whose place deeds day won lost kept ++ tw d tb b_many b_slip b_became b_left b_what b_which b_whose b_place b_deeds b_day b_won b_lost b_kept) (tw d ta many_r slip_r became_r left_r what_r which_r whose_r place_r deeds_r day_r won_r lost_r kept ++ tw d tb b_many b_slip b_became b_left b_what b_which b_whose b_place b_deeds b_day b_won b_lost b_kept) sz [.ref (ta 0), .ref (tb 0)] :=
  MV.of (by decide) [.ref (ta 0), .ref (tb 0)] [(0, .ref (ta 0)), (1, .ref (tb 0))] (Nat.le_of_ble_eq_true rfl) rfl (fun p e s m below meth c ls Q hx hb hml hown hts hN hA hC hl K => w_x_tcopy hx hb hml hown hts hN hA (Nat.le_refl _) (Nat.le_refl _) (Nat.le_refl _) (Nat.le_refl _) hf hC hl K)

def x_keep (many : Nat → Int32) (slip : Nat → Nat → Int32) (became : Nat → Int32) (left : Nat → Int32) (what : Nat → Int32) (which : Nat → Int32) (whose : Nat → Int32) (place : Nat → Int32) (deeds : Int32) (day : Int32) (won : Int32) (lost : Int32) (i0_many : Nat → Int32) (i0_slip : Nat → Nat → Int32) (i0_became : Nat → Int32) (i0_left : Nat → Int32) (i0_what : Nat → Int32) (i0_which : Nat → Int32) (i0_whose : Nat → Int32) (i0_place : Nat → Int32) (i0_deeds : Int32) (i0_day : Int32) (i0_won : Int32) (i0_lost : Int32) (i0_kept : Int32) (i1_many : Nat → Int32) (i1_slip : Nat → Nat → Int32) (i1_became : Nat → Int32) (i1_left : Nat → Int32) (i1_what : Nat → Int32) (i1_which : Nat → Int32) (i1_whose : Nat → Int32) (i1_place : Nat → Int32) (i1_deeds : Int32) (i1_day : Int32) (i1_won : Int32) (i1_lost : Int32) (i1_kept : Int32) (x1 : Int32) : Option (Int32 × (Nat → Int32) × (Nat → Nat → Int32) × (Nat → Int32) × (Nat → Int32) × (Nat → Int32) × (Nat → Int32) × (Nat → Int32) × (Nat → Int32) × Int32 × Int32 × Int32 × Int32 × Int32 × (Nat → Int32) × (Nat → Nat → Int32) × (Nat → Int32) × (Nat → Int32) × (Nat → Int32) × (Nat → Int32) × (Nat → Int32) × (Nat → Int32) × Int32 × Int32 × Int32 × Int32 × Int32) :=
  bnd (x_in x1 0 1) fun r_3 =>
  if r_3 = 0 then (some ((-1), i0_many, i0_slip, i0_became, i0_left, i0_what, i0_which, i0_whose, i0_place, i0_deeds, i0_day, i0_won, i0_lost, i0_kept, i1_many, i1_slip, i1_became, i1_left, i1_what, i1_which, i1_whose, i1_place, i1_deeds, i1_day, i1_won, i1_lost, i1_kept)) else
  if x1 = 0 then (bnd12 (x_tcopy i0_many i0_slip i0_became i0_left i0_what i0_which i0_whose i0_place many slip became left what which whose place deeds day won lost) fun many_21 slip_21 became_21 left_21 what_21 which_21 whose_21 place_21 deeds_21 day_21 won_21 lost_21 =>
  some (day, many_21, slip_21, became_21, left_21, what_21, which_21, whose_21, place_21, deeds_21, day_21, won_21, lost_21, 1, i1_many, i1_slip, i1_became, i1_left, i1_what, i1_which, i1_whose, i1_place, i1_deeds, i1_day, i1_won, i1_lost, i1_kept)) else
  if x1 = 1 then (bnd12 (x_tcopy i1_many i1_slip i1_became i1_left i1_what i1_which i1_whose i1_place many slip became left what which whose place deeds day won lost) fun many_21 slip_21 became_21 left_21 what_21 which_21 whose_21 place_21 deeds_21 day_21 won_21 lost_21 =>
  some (day, i0_many, i0_slip, i0_became, i0_left, i0_what, i0_which, i0_whose, i0_place, i0_deeds, i0_day, i0_won, i0_lost, i0_kept, many_21, slip_21, became_21, left_21, what_21, which_21, whose_21, place_21, deeds_21, day_21, won_21, lost_21, 1)) else
  none
set_option maxHeartbeats 4000000 in
set_option maxRecDepth 100000 in
theorem w_x_keep {p : Program} {l : Launch} {e : Env} {R : Room} {s : State} {m : MethodId} {args : Array Value} {below : List Frame} {meth : Method} {c : Code} {H : Heap} {locs : List Loc} {cells slots : Nat} {Q : State → Prop} {A : Nat → Prop} {ls : Array Slot} {D : va_G} {d : Nat → ClassId} {ad : Nat → Nat} {ba : Nat → Nat} {ta : Nat → Nat} {i0 : Nat → Nat} {i1 : Nat → Nat} {room : Nat → Int32} {work : Nat → Int32} {price : Nat → Int32} {whom : Nat → Int32} {bday : Nat → Int32} {units : Nat → Int32} {worth : Nat → Int32} {due : Nat → Int32} {under : Nat → Int32} {people : Int32} {askings : Int32} {hangs : Int32} {items : Int32} {many : Nat → Int32} {slip : Nat → Nat → Int32} {became : Nat → Int32} {left : Nat → Int32} {what : Nat → Int32} {which : Nat → Int32} {whose : Nat → Int32} {place : Nat → Int32} {deeds : Int32} {day : Int32} {won : Int32} {lost : Int32} {kept : Int32} {text : Nat → Int32} {typed : Int32} {rest : Nat → Int32} {bestSet : Int32} {tenths : Nat → Int32} {sortWorth : Nat → Int32} {sortDays : Nat → Int32} {row : Nat → Int32} {trace : Int64} {i0_many : Nat → Int32} {i0_slip : Nat → Nat → Int32} {i0_became : Nat → Int32} {i0_left : Nat → Int32} {i0_what : Nat → Int32} {i0_which : Nat → Int32} {i0_whose : Nat → Int32} {i0_place : Nat → Int32} {i0_deeds : Int32} {i0_day : Int32} {i0_won : Int32} {i0_lost : Int32} {i0_kept : Int32} {i1_many : Nat → Int32} {i1_slip : Nat → Nat → Int32} {i1_became : Nat → Int32} {i1_left : Nat → Int32} {i1_what : Nat → Int32} {i1_which : Nat → Int32} {i1_whose : Nat → Int32} {i1_place : Nat → Int32} {i1_deeds : Int32} {i1_day : Int32} {i1_won : Int32} {i1_lost : Int32} {i1_kept : Int32} {x1 : Int32} {r : Int32} {i0_many_r : Nat → Int32} {i0_slip_r : Nat → Nat → Int32} {i0_became_r : Nat → Int32} {i0_left_r : Nat → Int32} {i0_what_r : Nat → Int32} {i0_which_r : Nat → Int32} {i0_whose_r : Nat → Int32} {i0_place_r : Nat → Int32} {i0_deeds_r : Int32} {i0_day_r : Int32} {i0_won_r : Int32} {i0_lost_r : Int32} {i0_kept_r : Int32} {i1_many_r : Nat → Int32} {i1_slip_r : Nat → Nat → Int32} {i1_became_r : Nat → Int32} {i1_left_r : Nat → Int32} {i1_what_r : Nat → Int32} {i1_which_r : Nat → Int32} {i1_whose_r : Nat → Int32} {i1_place_r : Nat → Int32} {i1_deeds_r : Int32} {i1_day_r : Int32} {i1_won_r : Int32} {i1_lost_r : Int32} {i1_kept_r : Int32} (hx : p.tables.exec = Jvm.exec) (hb : c.code = cX0_keep) (hml : c.maxLocals = 2) (hown : s.vm.findClass RX0 = some m.cls) (hts : ∀ w ∈ lw_all, w.before args s = true) (hN : NX s) (hA : ∀ q, s.heap.size ≤ q → A q) (hRf : 3 ≤ R.frames) (hRl : 103 ≤ R.locals) (hRc : cells ≤ R.cells) (hRs : slots ≤ R.slots) (hf : x_keep many slip became left what which whose place deeds day won lost i0_many i0_slip i0_became i0_left i0_what i0_which i0_whose i0_place i0_deeds i0_day i0_won i0_lost i0_kept i1_many i1_slip i1_became i1_left i1_what i1_which i1_whose i1_place i1_deeds i1_day i1_won i1_lost i1_kept x1 = some (r, i0_many_r, i0_slip_r, i0_became_r, i0_left_r, i0_what_r, i0_which_r, i0_whose_r, i0_place_r, i0_deeds_r, i0_day_r, i0_won_r, i0_lost_r, i0_kept_r, i1_many_r, i1_slip_r, i1_became_r, i1_left_r, i1_what_r, i1_which_r, i1_whose_r, i1_place_r, i1_deeds_r, i1_day_r, i1_won_r, i1_lost_r, i1_kept_r)) (hC : HC D gcl (gty d) A (xw d ad ba ta (iw d ad i0 i1 i0_many i0_slip i0_became i0_left i0_what i0_which i0_whose i0_place i0_deeds i0_day i0_won i0_lost i0_kept i1_many i1_slip i1_became i1_left i1_what i1_which i1_whose i1_place i1_deeds i1_day i1_won i1_lost i1_kept) room work price whom bday units worth due under people askings hangs items many slip became left what which whose place deeds day won lost kept text typed rest bestSet tenths sortWorth sortDays row trace) s H locs) (hl : lv_has ls 2 [(0, .ref (ad 0)), (1, .int x1)]) (K : ∀ (H : Heap) (locs : List Loc) (ls : Array Slot) (pc : Nat), narrow .int (.int r) = .int r → HC D gcl (gty d) A (xw d ad ba ta (iw d ad i0 i1 i0_many_r i0_slip_r i0_became_r i0_left_r i0_what_r i0_which_r i0_whose_r i0_place_r i0_deeds_r i0_day_r i0_won_r i0_lost_r i0_kept_r i1_many_r i1_slip_r i1_became_r i1_left_r i1_what_r i1_which_r i1_whose_r i1_place_r i1_deeds_r i1_day_r i1_won_r i1_lost_r i1_kept_r) room work price whom bday units worth due under people askings hangs items many slip became left what which whose place deeds day won lost kept text typed rest bestSet tenths sortWorth sortDays row trace) s H locs → decode cX0_keep pc = .ok (.ireturn, 1) → W p l e R s m args below meth c H locs cells slots Q (F0 m pc ls [.int r])) : W p l e R s m args below meth c H locs cells slots Q (F0 m 0 ls []) := by
  unfold x_keep at hf
  refine lv_iload_n hx hb dX0_keep_0 rfl (lv_at hl 1 rfl) ?_
  refine lv_iconst (v := 0) hx hb dX0_keep_1 (by decide) ?_
  refine lv_iconst (v := 1) hx hb dX0_keep_2 (by decide) ?_
  obtain ⟨r_3, hcall, hf⟩ := bnd_some hf
  refine hc_i (va_runS (As := [.int x1, .int 0, .int 1]) (rest := []) ⟨hx, hb, hml, hown, hts⟩ (c_x_in hcall) (va_cwS 3 hts (lw_S q358 q359 q48 q360) rfl rfl rfl (by decide +kernel) ⟨(Nat.le_trans (Nat.le_of_ble_eq_true rfl) hRf), (Nat.le_trans (Nat.le_of_ble_eq_true rfl) hRl)⟩) (pre_S (fun _ _ _ _ h => h) (fun _ _ _ => trivial) hC) rfl rfl hl.1 rfl (lv_room (Nat.le_of_ble_eq_true rfl)) dX0_keep_3 ⟨hRc, hRs⟩) hA hC (fun H locs hC => ?_)
  refine lv_if_ne (tgt := 11) hx hb dX0_keep_6 (by decide) (fun c_6 => ?_) (fun c_6 => ?_)
  · have hf := if_f hf c_6
    refine lv_aload_n hx hb dX0_keep_11 rfl (lv_at hl 0 rfl) ?_
    refine va_get (ci := 0) (v := .ref (ad 20)) (C := RX0) (T := TX0) (N := 13) hx hb hts in_X0 hown hC.1 hC.2.1 (26) rfl rfl 2 (by decide) (hts _ q308) (fun _ h9 => h9) rfl dX0_keep_12 ?_
    refine lv_iload_n hx hb dX0_keep_15 rfl (lv_at hl 1 rfl) ?_
    by_cases ci_0 : x1 = 0
    · have hf := if_t hf ci_0
      refine va_aldq hx hb hC.1 hC.2.1 40 5 rfl rfl (by rw [ci_0]; exact vp_in_iff.mpr (by decide)) dX0_keep_16 ?_
      refine W.eq (g2 := F0 m 17 ls [.ref (i0 0)]) (by rw [ci_0]; rfl) ?_
      refine lv_aload_n hx hb dX0_keep_17 rfl (lv_at hl 0 rfl) ?_
      refine va_get (ci := 0) (v := .ref (ta 0)) (C := RX0) (T := TX0) (N := 13) hx hb hts in_X0 hown hC.1 hC.2.1 (26) rfl rfl 1 (by decide) (hts _ q305) (fun _ h9 => h9) rfl dX0_keep_18 ?_
      have hC : HC D gcl (gty d) A (([] : va_W) ++ ((tw d i0 i0_many i0_slip i0_became i0_left i0_what i0_which i0_whose i0_place i0_deeds i0_day i0_won i0_lost i0_kept ++ tw d ta many slip became left what which whose place deeds day won lost kept) ++ (bw d ba room work price whom bday units worth due under people askings hangs items ++ (xr d ad ba ta text typed rest bestSet tenths sortWorth sortDays row trace ++ ((ad 20, .inl (d 5, 2, .inr (.inr (.inr (.inr (fun k => some (if k = 0 then i0 0 else i1 0))))))) :: tw d i1 i1_many i1_slip i1_became i1_left i1_what i1_which i1_whose i1_place i1_deeds i1_day i1_won i1_lost i1_kept))))) s H locs := hC.perm [41, 42, 43, 44, 45, 46, 47, 48, 49, 50, 51, 52, 53, 54, 55, 56, 10, 11, 12, 13, 14, 15, 16, 17, 18, 19, 20, 21, 22, 23, 24, 25, 0, 1, 2, 3, 4, 5, 6, 7, 8, 9, 26, 27, 28, 29, 30, 31, 32, 33, 34, 35, 36, 37, 38, 39, 40, 57, 58, 59, 60, 61, 62, 63, 64, 65, 66, 67, 68, 69, 70, 71, 72] rfl (by decide) rfl
      obtain ⟨many_21, slip_21, became_21, left_21, what_21, which_21, whose_21, place_21, deeds_21, day_21, won_21, lost_21, hcall, hf⟩ := bnd12_some hf
      refine hs_v (va_runV (C := RX2) (As := [.ref (ta 0)]) (rest := []) ⟨hx, hb, hml, hown, hts⟩ (c_x_tcopy hcall) (cwV 1 hts (lw_V q779 q780 q781 q50 q782) rfl rfl rfl (by decide +kernel) ⟨(Nat.le_trans (Nat.le_of_ble_eq_true rfl) hRf), (Nat.le_trans (Nat.le_of_ble_eq_true rfl) hRl)⟩) (pre_VG (q0 := 0) (ci := 2) NX.calling (fun U _ hW => NX.warm hW hN) hC [0, 1, 2, 3, 4, 5, 6] rfl rfl rfl) rfl rfl hl.1 rfl (lv_room (Nat.le_of_ble_eq_true rfl)) dX0_keep_21 ⟨hRc, hRs⟩) hA hC (fun H locs hC => ?_)
      have hC : HC D gcl (gty d) A (([] : va_W) ++ ((tw d i0 many_21 slip_21 became_21 left_21 what_21 which_21 whose_21 place_21 deeds_21 day_21 won_21 lost_21 i0_kept ++ tw d ta many slip became left what which whose place deeds day won lost kept) ++ (bw d ba room work price whom bday units worth due under people askings hangs items ++ (xr d ad ba ta text typed rest bestSet tenths sortWorth sortDays row trace ++ ((ad 20, .inl (d 5, 2, .inr (.inr (.inr (.inr (fun k => some (if k = 0 then i0 0 else i1 0))))))) :: tw d i1 i1_many i1_slip i1_became i1_left i1_what i1_which i1_whose i1_place i1_deeds i1_day i1_won i1_lost i1_kept))))) s H locs := hC
      have hC : HC D gcl (gty d) A (xw d ad ba ta (iw d ad i0 i1 many_21 slip_21 became_21 left_21 what_21 which_21 whose_21 place_21 deeds_21 day_21 won_21 lost_21 i0_kept i1_many i1_slip i1_became i1_left i1_what i1_which i1_whose i1_place i1_deeds i1_day i1_won i1_lost i1_kept) room work price whom bday units worth due under people askings hangs items many slip became left what which whose place deeds day won lost kept text typed rest bestSet tenths sortWorth sortDays row trace) s H locs := hC.perm [32, 33, 34, 35, 36, 37, 38, 39, 40, 41, 16, 17, 18, 19, 20, 21, 22, 23, 24, 25, 26, 27, 28, 29, 30, 31, 42, 43, 44, 45, 46, 47, 48, 49, 50, 51, 52, 53, 54, 55, 56, 0, 1, 2, 3, 4, 5, 6, 7, 8, 9, 10, 11, 12, 13, 14, 15, 57, 58, 59, 60, 61, 62, 63, 64, 65, 66, 67, 68, 69, 70, 71, 72] rfl (by decide) rfl
      refine lv_aload_n hx hb dX0_keep_24 rfl (lv_at hl 0 rfl) ?_
      refine va_get (ci := 0) (v := .ref (ad 20)) (C := RX0) (T := TX0) (N := 13) hx hb hts in_X0 hown hC.1 hC.2.1 (26) rfl rfl 2 (by decide) (hts _ q308) (fun _ h9 => h9) rfl dX0_keep_25 ?_
      refine lv_iload_n hx hb dX0_keep_28 rfl (lv_at hl 1 rfl) ?_
      refine va_aldq hx hb hC.1 hC.2.1 40 5 rfl rfl (by rw [ci_0]; exact vp_in_iff.mpr (by decide)) dX0_keep_29 ?_
      refine W.eq (g2 := F0 m 30 ls [.ref (i0 0)]) (by rw [ci_0]; rfl) ?_
      refine lv_iconst (v := 1) hx hb dX0_keep_30 (by decide) ?_
      refine va_putN (ci := 2) (v := .int 1) (ty := .boolean) (C := RX2) (T := TX2) (N := 12) (host := "SleeveSlips") hx hb hts in_X2 tyX2 tyX2_ok nmX2 hown hC.1 hC.2.1 hC.2.2.1 hC.2.2.2 (41) rfl rfl 11 (by decide) (va_Nw.use rfl (hN.1 45)) (fun _ h9 => h9) rfl (tyX2_ok 11 (by decide)) rfl rfl (Nat.le_of_ble_eq_true rfl) dX0_keep_31 (fun H locs hP hD hS => ?_)
      have hC : HC D gcl (gty d) A (xw d ad ba ta (iw d ad i0 i1 many_21 slip_21 became_21 left_21 what_21 which_21 whose_21 place_21 deeds_21 day_21 won_21 lost_21 1 i1_many i1_slip i1_became i1_left i1_what i1_which i1_whose i1_place i1_deeds i1_day i1_won i1_lost i1_kept) room work price whom bday units worth due under people askings hangs items many slip became left what which whose place deeds day won lost kept text typed rest bestSet tenths sortWorth sortDays row trace) s H locs := ⟨hC.1, hP, hD, hS⟩
      refine lv_aload_n hx hb dX0_keep_34 rfl (lv_at hl 0 rfl) ?_
      refine va_get (ci := 0) (v := .ref (ta 0)) (C := RX0) (T := TX0) (N := 13) hx hb hts in_X0 hown hC.1 hC.2.1 (26) rfl rfl 1 (by decide) (hts _ q305) (fun _ h9 => h9) rfl dX0_keep_35 ?_
      refine va_getN (ci := 2) (v := .int day) (C := RX2) (T := TX2) (N := 12) (host := "SleeveSlips") hx hb hts in_X2 hown hC.1 hC.2.1 (10) rfl rfl 8 (by decide) (va_Nw.use rfl (hN.1 42)) (fun _ h9 => h9) rfl dX0_keep_38 ?_
      obtain ⟨e_1, e_2, e_3, e_4, e_5, e_6, e_7, e_8, e_9, e_10, e_11, e_12, e_13, e_14, e_15, e_16, e_17, e_18, e_19, e_20, e_21, e_22, e_23, e_24, e_25, e_26, e_27⟩ := so_27 (Option.some.inj hf)
      subst e_1
      subst e_2
      subst e_3
      subst e_4
      subst e_5
      subst e_6
      subst e_7
      subst e_8
      subst e_9
      subst e_10
      subst e_11
      subst e_12
      subst e_13
      subst e_14
      subst e_15
      subst e_16
      subst e_17
      subst e_18
      subst e_19
      subst e_20
      subst e_21
      subst e_22
      subst e_23
      subst e_24
      subst e_25
      subst e_26
      subst e_27
      exact K H locs ls _ rfl hC dX0_keep_41
    · have hf := if_f hf ci_0
      by_cases ci_1 : x1 = 1
      · have hf := if_t hf ci_1
        refine va_aldq hx hb hC.1 hC.2.1 40 5 rfl rfl (by rw [ci_1]; exact vp_in_iff.mpr (by decide)) dX0_keep_16 ?_
        refine W.eq (g2 := F0 m 17 ls [.ref (i1 0)]) (by rw [ci_1]; rfl) ?_
        refine lv_aload_n hx hb dX0_keep_17 rfl (lv_at hl 0 rfl) ?_
        refine va_get (ci := 0) (v := .ref (ta 0)) (C := RX0) (T := TX0) (N := 13) hx hb hts in_X0 hown hC.1 hC.2.1 (26) rfl rfl 1 (by decide) (hts _ q305) (fun _ h9 => h9) rfl dX0_keep_18 ?_
        have hC : HC D gcl (gty d) A (([] : va_W) ++ ((tw d i1 i1_many i1_slip i1_became i1_left i1_what i1_which i1_whose i1_place i1_deeds i1_day i1_won i1_lost i1_kept ++ tw d ta many slip became left what which whose place deeds day won lost kept) ++ (bw d ba room work price whom bday units worth due under people askings hangs items ++ (xr d ad ba ta text typed rest bestSet tenths sortWorth sortDays row trace ++ ((ad 20, .inl (d 5, 2, .inr (.inr (.inr (.inr (fun k => some (if k = 0 then i0 0 else i1 0))))))) :: tw d i0 i0_many i0_slip i0_became i0_left i0_what i0_which i0_whose i0_place i0_deeds i0_day i0_won i0_lost i0_kept))))) s H locs := hC.perm [57, 58, 59, 60, 61, 62, 63, 64, 65, 66, 67, 68, 69, 70, 71, 72, 10, 11, 12, 13, 14, 15, 16, 17, 18, 19, 20, 21, 22, 23, 24, 25, 0, 1, 2, 3, 4, 5, 6, 7, 8, 9, 26, 27, 28, 29, 30, 31, 32, 33, 34, 35, 36, 37, 38, 39, 40, 41, 42, 43, 44, 45, 46, 47, 48, 49, 50, 51, 52, 53, 54, 55, 56] rfl (by decide) rfl
        obtain ⟨many_21, slip_21, became_21, left_21, what_21, which_21, whose_21, place_21, deeds_21, day_21, won_21, lost_21, hcall, hf⟩ := bnd12_some hf
        refine hs_v (va_runV (C := RX2) (As := [.ref (ta 0)]) (rest := []) ⟨hx, hb, hml, hown, hts⟩ (c_x_tcopy hcall) (cwV 1 hts (lw_V q779 q780 q781 q50 q782) rfl rfl rfl (by decide +kernel) ⟨(Nat.le_trans (Nat.le_of_ble_eq_true rfl) hRf), (Nat.le_trans (Nat.le_of_ble_eq_true rfl) hRl)⟩) (pre_VG (q0 := 0) (ci := 2) NX.calling (fun U _ hW => NX.warm hW hN) hC [0, 1, 2, 3, 4, 5, 6] rfl rfl rfl) rfl rfl hl.1 rfl (lv_room (Nat.le_of_ble_eq_true rfl)) dX0_keep_21 ⟨hRc, hRs⟩) hA hC (fun H locs hC => ?_)
        have hC : HC D gcl (gty d) A (([] : va_W) ++ ((tw d i1 many_21 slip_21 became_21 left_21 what_21 which_21 whose_21 place_21 deeds_21 day_21 won_21 lost_21 i1_kept ++ tw d ta many slip became left what which whose place deeds day won lost kept) ++ (bw d ba room work price whom bday units worth due under people askings hangs items ++ (xr d ad ba ta text typed rest bestSet tenths sortWorth sortDays row trace ++ ((ad 20, .inl (d 5, 2, .inr (.inr (.inr (.inr (fun k => some (if k = 0 then i0 0 else i1 0))))))) :: tw d i0 i0_many i0_slip i0_became i0_left i0_what i0_which i0_whose i0_place i0_deeds i0_day i0_won i0_lost i0_kept))))) s H locs := hC
        have hC : HC D gcl (gty d) A (xw d ad ba ta (iw d ad i0 i1 i0_many i0_slip i0_became i0_left i0_what i0_which i0_whose i0_place i0_deeds i0_day i0_won i0_lost i0_kept many_21 slip_21 became_21 left_21 what_21 which_21 whose_21 place_21 deeds_21 day_21 won_21 lost_21 i1_kept) room work price whom bday units worth due under people askings hangs items many slip became left what which whose place deeds day won lost kept text typed rest bestSet tenths sortWorth sortDays row trace) s H locs := hC.perm [32, 33, 34, 35, 36, 37, 38, 39, 40, 41, 16, 17, 18, 19, 20, 21, 22, 23, 24, 25, 26, 27, 28, 29, 30, 31, 42, 43, 44, 45, 46, 47, 48, 49, 50, 51, 52, 53, 54, 55, 56, 57, 58, 59, 60, 61, 62, 63, 64, 65, 66, 67, 68, 69, 70, 71, 72, 0, 1, 2, 3, 4, 5, 6, 7, 8, 9, 10, 11, 12, 13, 14, 15] rfl (by decide) rfl
        refine lv_aload_n hx hb dX0_keep_24 rfl (lv_at hl 0 rfl) ?_
        refine va_get (ci := 0) (v := .ref (ad 20)) (C := RX0) (T := TX0) (N := 13) hx hb hts in_X0 hown hC.1 hC.2.1 (26) rfl rfl 2 (by decide) (hts _ q308) (fun _ h9 => h9) rfl dX0_keep_25 ?_
        refine lv_iload_n hx hb dX0_keep_28 rfl (lv_at hl 1 rfl) ?_
        refine va_aldq hx hb hC.1 hC.2.1 40 5 rfl rfl (by rw [ci_1]; exact vp_in_iff.mpr (by decide)) dX0_keep_29 ?_
        refine W.eq (g2 := F0 m 30 ls [.ref (i1 0)]) (by rw [ci_1]; rfl) ?_
        refine lv_iconst (v := 1) hx hb dX0_keep_30 (by decide) ?_
        refine va_putN (ci := 2) (v := .int 1) (ty := .boolean) (C := RX2) (T := TX2) (N := 12) (host := "SleeveSlips") hx hb hts in_X2 tyX2 tyX2_ok nmX2 hown hC.1 hC.2.1 hC.2.2.1 hC.2.2.2 (57) rfl rfl 11 (by decide) (va_Nw.use rfl (hN.1 45)) (fun _ h9 => h9) rfl (tyX2_ok 11 (by decide)) rfl rfl (Nat.le_of_ble_eq_true rfl) dX0_keep_31 (fun H locs hP hD hS => ?_)
        have hC : HC D gcl (gty d) A (xw d ad ba ta (iw d ad i0 i1 i0_many i0_slip i0_became i0_left i0_what i0_which i0_whose i0_place i0_deeds i0_day i0_won i0_lost i0_kept many_21 slip_21 became_21 left_21 what_21 which_21 whose_21 place_21 deeds_21 day_21 won_21 lost_21 1) room work price whom bday units worth due under people askings hangs items many slip became left what which whose place deeds day won lost kept text typed rest bestSet tenths sortWorth sortDays row trace) s H locs := ⟨hC.1, hP, hD, hS⟩
        refine lv_aload_n hx hb dX0_keep_34 rfl (lv_at hl 0 rfl) ?_
        refine va_get (ci := 0) (v := .ref (ta 0)) (C := RX0) (T := TX0) (N := 13) hx hb hts in_X0 hown hC.1 hC.2.1 (26) rfl rfl 1 (by decide) (hts _ q305) (fun _ h9 => h9) rfl dX0_keep_35 ?_
        refine va_getN (ci := 2) (v := .int day) (C := RX2) (T := TX2) (N := 12) (host := "SleeveSlips") hx hb hts in_X2 hown hC.1 hC.2.1 (10) rfl rfl 8 (by decide) (va_Nw.use rfl (hN.1 42)) (fun _ h9 => h9) rfl dX0_keep_38 ?_
        obtain ⟨e_1, e_2, e_3, e_4, e_5, e_6, e_7, e_8, e_9, e_10, e_11, e_12, e_13, e_14, e_15, e_16, e_17, e_18, e_19, e_20, e_21, e_22, e_23, e_24, e_25, e_26, e_27⟩ := so_27 (Option.some.inj hf)
        subst e_1
        subst e_2
        subst e_3
        subst e_4
        subst e_5
        subst e_6
        subst e_7
        subst e_8
        subst e_9
        subst e_10
        subst e_11
        subst e_12
        subst e_13
        subst e_14
        subst e_15
        subst e_16
        subst e_17
        subst e_18
        subst e_19
        subst e_20
        subst e_21
        subst e_22
        subst e_23
        subst e_24
        subst e_25
        subst e_26
        subst e_27
        exact K H locs ls _ rfl hC dX0_keep_41
      · have hf := if_f hf ci_1
        cases hf
  · have hf := if_t hf c_6
    refine lv_iconst (v := (-1)) hx hb dX0_keep_9 (by decide) ?_
    obtain ⟨e_1, e_2, e_3, e_4, e_5, e_6, e_7, e_8, e_9, e_10, e_11, e_12, e_13, e_14, e_15, e_16, e_17, e_18, e_19, e_20, e_21, e_22, e_23, e_24, e_25, e_26, e_27⟩ := so_27 (Option.some.inj hf)
    subst e_1
    subst e_2
    subst e_3
    subst e_4
    subst e_5
    subst e_6
    subst e_7
    subst e_8
    subst e_9
    subst e_10
    subst e_11
    subst e_12
    subst e_13
    subst e_14
    subst e_15
    subst e_16
    subst e_17
    subst e_18
    subst e_19
    subst e_20
    subst e_21
    subst e_22
    subst e_23
    subst e_24
    subst e_25
    subst e_26
    subst e_27
    exact K H locs ls _ rfl hC dX0_keep_10
set_option maxRecDepth 100000 in
theorem c_x_keep {l : Launch} {sz : Nat} {D : va_G} {d : Nat → ClassId} {ad : Nat → Nat} {ba : Nat → Nat} {ta : Nat → Nat} {i0 : Nat → Nat} {i1 : Nat → Nat} {room : Nat → Int32} {work : Nat → Int32} {price : Nat → Int32} {whom : Nat → Int32} {bday : Nat → Int32} {units : Nat → Int32} {worth : Nat → Int32} {due : Nat → Int32} {under : Nat → Int32} {people : Int32} {askings : Int32} {hangs : Int32} {items : Int32} {many : Nat → Int32} {slip : Nat → Nat → Int32} {became : Nat → Int32} {left : Nat → Int32} {what : Nat → Int32} {which : Nat → Int32} {whose : Nat → Int32} {place : Nat → Int32} {deeds : Int32} {day : Int32} {won : Int32} {lost : Int32} {kept : Int32} {text : Nat → Int32} {typed : Int32} {rest : Nat → Int32} {bestSet : Int32} {tenths : Nat → Int32} {sortWorth : Nat → Int32} {sortDays : Nat → Int32} {row : Nat → Int32} {trace : Int64} {i0_many : Nat → Int32} {i0_slip : Nat → Nat → Int32} {i0_became : Nat → Int32} {i0_left : Nat → Int32} {i0_what : Nat → Int32} {i0_which : Nat → Int32} {i0_whose : Nat → Int32} {i0_place : Nat → Int32} {i0_deeds : Int32} {i0_day : Int32} {i0_won : Int32} {i0_lost : Int32} {i0_kept : Int32} {i1_many : Nat → Int32} {i1_slip : Nat → Nat → Int32} {i1_became : Nat → Int32} {i1_left : Nat → Int32} {i1_what : Nat → Int32} {i1_which : Nat → Int32} {i1_whose : Nat → Int32} {i1_place : Nat → Int32} {i1_deeds : Int32} {i1_day : Int32} {i1_won : Int32} {i1_lost : Int32} {i1_kept : Int32} {x1 : Int32} {r : Int32} {i0_many_r : Nat → Int32} {i0_slip_r : Nat → Nat → Int32} {i0_became_r : Nat → Int32} {i0_left_r : Nat → Int32} {i0_what_r : Nat → Int32} {i0_which_r : Nat → Int32} {i0_whose_r : Nat → Int32} {i0_place_r : Nat → Int32} {i0_deeds_r : Int32} {i0_day_r : Int32} {i0_won_r : Int32} {i0_lost_r : Int32} {i0_kept_r : Int32} {i1_many_r : Nat → Int32} {i1_slip_r : Nat → Nat → Int32} {i1_became_r : Nat → Int32} {i1_left_r : Nat → Int32} {i1_what_r : Nat → Int32} {i1_which_r : Nat → Int32} {i1_whose_r : Nat → Int32} {i1_place_r : Nat → Int32} {i1_deeds_r : Int32} {i1_day_r : Int32} {i1_won_r : Int32} {i1_lost_r : Int32} {i1_kept_r : Int32} (hf : x_keep many slip became left what which whose place deeds day won lost i0_many i0_slip i0_became i0_left i0_what i0_which i0_whose i0_place i0_deeds i0_day i0_won i0_lost i0_kept i1_many i1_slip i1_became i1_left i1_what i1_which i1_whose i1_place i1_deeds i1_day i1_won i1_lost i1_kept x1 = some (r, i0_many_r, i0_slip_r, i0_became_r, i0_left_r, i0_what_r, i0_which_r, i0_whose_r, i0_place_r, i0_deeds_r, i0_day_r, i0_won_r, i0_lost_r, i0_kept_r, i1_many_r, i1_slip_r, i1_became_r, i1_left_r, i1_what_r, i1_which_r, i1_whose_r, i1_place_r, i1_deeds_r, i1_day_r, i1_won_r, i1_lost_r, i1_kept_r)) : MI l yX0_keep (ws_ yX0_keep cX0_keep 2 (some .int)) { frames := 3, cells := 0, slots := 0, locals := 103 } D gcl (gty d) NX (xw d ad ba ta (iw d ad i0 i1 i0_many i0_slip i0_became i0_left i0_what i0_which i0_whose i0_place i0_deeds i0_day i0_won i0_lost i0_kept i1_many i1_slip i1_became i1_left i1_what i1_which i1_whose i1_place i1_deeds i1_day i1_won i1_lost i1_kept) room work price whom bday units worth due under people askings hangs items many slip became left what which whose place deeds day won lost kept text typed rest bestSet tenths sortWorth sortDays row trace) (xw d ad ba ta (iw d ad i0 i1 i0_many_r i0_slip_r i0_became_r i0_left_r i0_what_r i0_which_r i0_whose_r i0_place_r i0_deeds_r i0_day_r i0_won_r i0_lost_r i0_kept_r i1_many_r i1_slip_r i1_became_r i1_left_r i1_what_r i1_which_r i1_whose_r i1_place_r i1_deeds_r i1_day_r i1_won_r i1_lost_r i1_kept_r) room work price whom bday units worth due under people askings hangs items many slip became left what which whose place deeds day won lost kept text typed rest bestSet tenths sortWorth sortDays row trace) sz [.ref (ad 0), .int x1] r :=
  MI.of (by decide) [.ref (ad 0), .int x1] [(0, .ref (ad 0)), (1, .int x1)] (Nat.le_of_ble_eq_true rfl) rfl (fun p e s m below meth c ls Q hx hb hml hown hts hN hA hC hl K => w_x_keep hx hb hml hown hts hN hA (Nat.le_refl _) (Nat.le_refl _) (Nat.le_refl _) (Nat.le_refl _) hf hC hl K)

def x_back (many : Nat → Int32) (slip : Nat → Nat → Int32) (became : Nat → Int32) (left : Nat → Int32) (what : Nat → Int32) (which : Nat → Int32) (whose : Nat → Int32) (place : Nat → Int32) (deeds : Int32) (day : Int32) (won : Int32) (lost : Int32) (i0_many : Nat → Int32) (i0_slip : Nat → Nat → Int32) (i0_became : Nat → Int32) (i0_left : Nat → Int32) (i0_what : Nat → Int32) (i0_which : Nat → Int32) (i0_whose : Nat → Int32) (i0_place : Nat → Int32) (i0_deeds : Int32) (i0_day : Int32) (i0_won : Int32) (i0_lost : Int32) (i0_kept : Int32) (i1_many : Nat → Int32) (i1_slip : Nat → Nat → Int32) (i1_became : Nat → Int32) (i1_left : Nat → Int32) (i1_what : Nat → Int32) (i1_which : Nat → Int32) (i1_whose : Nat → Int32) (i1_place : Nat → Int32) (i1_deeds : Int32) (i1_day : Int32) (i1_won : Int32) (i1_lost : Int32) (i1_kept : Int32) (x1 : Int32) : Option (Int32 × (Nat → Int32) × (Nat → Nat → Int32) × (Nat → Int32) × (Nat → Int32) × (Nat → Int32) × (Nat → Int32) × (Nat → Int32) × (Nat → Int32) × Int32 × Int32 × Int32 × Int32) :=
  bnd (x_in x1 0 1) fun r_3 =>
  if r_3 = 0 then (some ((-1), many, slip, became, left, what, which, whose, place, deeds, day, won, lost)) else
  if x1 = 0 then (if i0_kept = 0 then (some ((-2), many, slip, became, left, what, which, whose, place, deeds, day, won, lost)) else
  bnd12 (x_tcopy many slip became left what which whose place i0_many i0_slip i0_became i0_left i0_what i0_which i0_whose i0_place i0_deeds i0_day i0_won i0_lost) fun many_36 slip_36 became_36 left_36 what_36 which_36 whose_36 place_36 deeds_36 day_36 won_36 lost_36 =>
  some (day_36, many_36, slip_36, became_36, left_36, what_36, which_36, whose_36, place_36, deeds_36, day_36, won_36, lost_36)) else
  if x1 = 1 then (if i1_kept = 0 then (some ((-2), many, slip, became, left, what, which, whose, place, deeds, day, won, lost)) else
  bnd12 (x_tcopy many slip became left what which whose place i1_many i1_slip i1_became i1_left i1_what i1_which i1_whose i1_place i1_deeds i1_day i1_won i1_lost) fun many_36 slip_36 became_36 left_36 what_36 which_36 whose_36 place_36 deeds_36 day_36 won_36 lost_36 =>
  some (day_36, many_36, slip_36, became_36, left_36, what_36, which_36, whose_36, place_36, deeds_36, day_36, won_36, lost_36)) else
  none
set_option maxHeartbeats 4000000 in
set_option maxRecDepth 100000 in
theorem w_x_back {p : Program} {l : Launch} {e : Env} {R : Room} {s : State} {m : MethodId} {args : Array Value} {below : List Frame} {meth : Method} {c : Code} {H : Heap} {locs : List Loc} {cells slots : Nat} {Q : State → Prop} {A : Nat → Prop} {ls : Array Slot} {D : va_G} {d : Nat → ClassId} {ad : Nat → Nat} {ba : Nat → Nat} {ta : Nat → Nat} {i0 : Nat → Nat} {i1 : Nat → Nat} {room : Nat → Int32} {work : Nat → Int32} {price : Nat → Int32} {whom : Nat → Int32} {bday : Nat → Int32} {units : Nat → Int32} {worth : Nat → Int32} {due : Nat → Int32} {under : Nat → Int32} {people : Int32} {askings : Int32} {hangs : Int32} {items : Int32} {many : Nat → Int32} {slip : Nat → Nat → Int32} {became : Nat → Int32} {left : Nat → Int32} {what : Nat → Int32} {which : Nat → Int32} {whose : Nat → Int32} {place : Nat → Int32} {deeds : Int32} {day : Int32} {won : Int32} {lost : Int32} {kept : Int32} {text : Nat → Int32} {typed : Int32} {rest : Nat → Int32} {bestSet : Int32} {tenths : Nat → Int32} {sortWorth : Nat → Int32} {sortDays : Nat → Int32} {row : Nat → Int32} {trace : Int64} {i0_many : Nat → Int32} {i0_slip : Nat → Nat → Int32} {i0_became : Nat → Int32} {i0_left : Nat → Int32} {i0_what : Nat → Int32} {i0_which : Nat → Int32} {i0_whose : Nat → Int32} {i0_place : Nat → Int32} {i0_deeds : Int32} {i0_day : Int32} {i0_won : Int32} {i0_lost : Int32} {i0_kept : Int32} {i1_many : Nat → Int32} {i1_slip : Nat → Nat → Int32} {i1_became : Nat → Int32} {i1_left : Nat → Int32} {i1_what : Nat → Int32} {i1_which : Nat → Int32} {i1_whose : Nat → Int32} {i1_place : Nat → Int32} {i1_deeds : Int32} {i1_day : Int32} {i1_won : Int32} {i1_lost : Int32} {i1_kept : Int32} {x1 : Int32} {r : Int32} {many_r : Nat → Int32} {slip_r : Nat → Nat → Int32} {became_r : Nat → Int32} {left_r : Nat → Int32} {what_r : Nat → Int32} {which_r : Nat → Int32} {whose_r : Nat → Int32} {place_r : Nat → Int32} {deeds_r : Int32} {day_r : Int32} {won_r : Int32} {lost_r : Int32} (hx : p.tables.exec = Jvm.exec) (hb : c.code = cX0_back) (hml : c.maxLocals = 2) (hown : s.vm.findClass RX0 = some m.cls) (hts : ∀ w ∈ lw_all, w.before args s = true) (hN : NX s) (hA : ∀ q, s.heap.size ≤ q → A q) (hRf : 3 ≤ R.frames) (hRl : 103 ≤ R.locals) (hRc : cells ≤ R.cells) (hRs : slots ≤ R.slots) (hf : x_back many slip became left what which whose place deeds day won lost i0_many i0_slip i0_became i0_left i0_what i0_which i0_whose i0_place i0_deeds i0_day i0_won i0_lost i0_kept i1_many i1_slip i1_became i1_left i1_what i1_which i1_whose i1_place i1_deeds i1_day i1_won i1_lost i1_kept x1 = some (r, many_r, slip_r, became_r, left_r, what_r, which_r, whose_r, place_r, deeds_r, day_r, won_r, lost_r)) (hC : HC D gcl (gty d) A (xw d ad ba ta (iw d ad i0 i1 i0_many i0_slip i0_became i0_left i0_what i0_which i0_whose i0_place i0_deeds i0_day i0_won i0_lost i0_kept i1_many i1_slip i1_became i1_left i1_what i1_which i1_whose i1_place i1_deeds i1_day i1_won i1_lost i1_kept) room work price whom bday units worth due under people askings hangs items many slip became left what which whose place deeds day won lost kept text typed rest bestSet tenths sortWorth sortDays row trace) s H locs) (hl : lv_has ls 2 [(0, .ref (ad 0)), (1, .int x1)]) (K : ∀ (H : Heap) (locs : List Loc) (ls : Array Slot) (pc : Nat), narrow .int (.int r) = .int r → HC D gcl (gty d) A (xw d ad ba ta (iw d ad i0 i1 i0_many i0_slip i0_became i0_left i0_what i0_which i0_whose i0_place i0_deeds i0_day i0_won i0_lost i0_kept i1_many i1_slip i1_became i1_left i1_what i1_which i1_whose i1_place i1_deeds i1_day i1_won i1_lost i1_kept) room work price whom bday units worth due under people askings hangs items many_r slip_r became_r left_r what_r which_r whose_r place_r deeds_r day_r won_r lost_r kept text typed rest bestSet tenths sortWorth sortDays row trace) s H locs → decode cX0_back pc = .ok (.ireturn, 1) → W p l e R s m args below meth c H locs cells slots Q (F0 m pc ls [.int r])) : W p l e R s m args below meth c H locs cells slots Q (F0 m 0 ls []) := by
  unfold x_back at hf
  refine lv_iload_n hx hb dX0_back_0 rfl (lv_at hl 1 rfl) ?_
  refine lv_iconst (v := 0) hx hb dX0_back_1 (by decide) ?_
  refine lv_iconst (v := 1) hx hb dX0_back_2 (by decide) ?_
  obtain ⟨r_3, hcall, hf⟩ := bnd_some hf
  refine hc_i (va_runS (As := [.int x1, .int 0, .int 1]) (rest := []) ⟨hx, hb, hml, hown, hts⟩ (c_x_in hcall) (va_cwS 3 hts (lw_S q358 q359 q48 q360) rfl rfl rfl (by decide +kernel) ⟨(Nat.le_trans (Nat.le_of_ble_eq_true rfl) hRf), (Nat.le_trans (Nat.le_of_ble_eq_true rfl) hRl)⟩) (pre_S (fun _ _ _ _ h => h) (fun _ _ _ => trivial) hC) rfl rfl hl.1 rfl (lv_room (Nat.le_of_ble_eq_true rfl)) dX0_back_3 ⟨hRc, hRs⟩) hA hC (fun H locs hC => ?_)
  refine lv_if_ne (tgt := 11) hx hb dX0_back_6 (by decide) (fun c_6 => ?_) (fun c_6 => ?_)
  · have hf := if_f hf c_6
    refine lv_aload_n hx hb dX0_back_11 rfl (lv_at hl 0 rfl) ?_
    refine va_get (ci := 0) (v := .ref (ad 20)) (C := RX0) (T := TX0) (N := 13) hx hb hts in_X0 hown hC.1 hC.2.1 (26) rfl rfl 2 (by decide) (hts _ q308) (fun _ h9 => h9) rfl dX0_back_12 ?_
    refine lv_iload_n hx hb dX0_back_15 rfl (lv_at hl 1 rfl) ?_
    by_cases ci_0 : x1 = 0
    · have hf := if_t hf ci_0
      refine va_aldq hx hb hC.1 hC.2.1 40 5 rfl rfl (by rw [ci_0]; exact vp_in_iff.mpr (by decide)) dX0_back_16 ?_
      refine W.eq (g2 := F0 m 17 ls [.ref (i0 0)]) (by rw [ci_0]; rfl) ?_
      refine va_getN (ci := 2) (v := .int i0_kept) (C := RX2) (T := TX2) (N := 12) (host := "SleeveSlips") hx hb hts in_X2 hown hC.1 hC.2.1 (41) rfl rfl 11 (by decide) (va_Nw.use rfl (hN.1 45)) (fun _ h9 => h9) rfl dX0_back_17 ?_
      refine lv_if_ne (tgt := 26) hx hb dX0_back_20 (by decide) (fun c_20 => ?_) (fun c_20 => ?_)
      · have hf := if_f hf c_20
        refine lv_aload_n hx hb dX0_back_26 rfl (lv_at hl 0 rfl) ?_
        refine va_get (ci := 0) (v := .ref (ta 0)) (C := RX0) (T := TX0) (N := 13) hx hb hts in_X0 hown hC.1 hC.2.1 (26) rfl rfl 1 (by decide) (hts _ q305) (fun _ h9 => h9) rfl dX0_back_27 ?_
        refine lv_aload_n hx hb dX0_back_30 rfl (lv_at hl 0 rfl) ?_
        refine va_get (ci := 0) (v := .ref (ad 20)) (C := RX0) (T := TX0) (N := 13) hx hb hts in_X0 hown hC.1 hC.2.1 (26) rfl rfl 2 (by decide) (hts _ q308) (fun _ h9 => h9) rfl dX0_back_31 ?_
        refine lv_iload_n hx hb dX0_back_34 rfl (lv_at hl 1 rfl) ?_
        refine va_aldq hx hb hC.1 hC.2.1 40 5 rfl rfl (by rw [ci_0]; exact vp_in_iff.mpr (by decide)) dX0_back_35 ?_
        refine W.eq (g2 := F0 m 36 ls [.ref (i0 0), .ref (ta 0)]) (by rw [ci_0]; rfl) ?_
        have hC : HC D gcl (gty d) A (([] : va_W) ++ ((tw d ta many slip became left what which whose place deeds day won lost kept ++ tw d i0 i0_many i0_slip i0_became i0_left i0_what i0_which i0_whose i0_place i0_deeds i0_day i0_won i0_lost i0_kept) ++ (bw d ba room work price whom bday units worth due under people askings hangs items ++ (xr d ad ba ta text typed rest bestSet tenths sortWorth sortDays row trace ++ ((ad 20, .inl (d 5, 2, .inr (.inr (.inr (.inr (fun k => some (if k = 0 then i0 0 else i1 0))))))) :: tw d i1 i1_many i1_slip i1_became i1_left i1_what i1_which i1_whose i1_place i1_deeds i1_day i1_won i1_lost i1_kept))))) s H locs := hC.perm [10, 11, 12, 13, 14, 15, 16, 17, 18, 19, 20, 21, 22, 23, 24, 25, 41, 42, 43, 44, 45, 46, 47, 48, 49, 50, 51, 52, 53, 54, 55, 56, 0, 1, 2, 3, 4, 5, 6, 7, 8, 9, 26, 27, 28, 29, 30, 31, 32, 33, 34, 35, 36, 37, 38, 39, 40, 57, 58, 59, 60, 61, 62, 63, 64, 65, 66, 67, 68, 69, 70, 71, 72] rfl (by decide) rfl
        obtain ⟨many_36, slip_36, became_36, left_36, what_36, which_36, whose_36, place_36, deeds_36, day_36, won_36, lost_36, hcall, hf⟩ := bnd12_some hf
        refine hs_v (va_runV (C := RX2) (As := [.ref (i0 0)]) (rest := []) ⟨hx, hb, hml, hown, hts⟩ (c_x_tcopy hcall) (cwV 1 hts (lw_V q779 q780 q781 q50 q782) rfl rfl rfl (by decide +kernel) ⟨(Nat.le_trans (Nat.le_of_ble_eq_true rfl) hRf), (Nat.le_trans (Nat.le_of_ble_eq_true rfl) hRl)⟩) (pre_VG (q0 := 0) (ci := 2) NX.calling (fun U _ hW => NX.warm hW hN) hC [0, 1, 2, 3, 4, 5, 6] rfl rfl rfl) rfl rfl hl.1 rfl (lv_room (Nat.le_of_ble_eq_true rfl)) dX0_back_36 ⟨hRc, hRs⟩) hA hC (fun H locs hC => ?_)
        have hC : HC D gcl (gty d) A (([] : va_W) ++ ((tw d ta many_36 slip_36 became_36 left_36 what_36 which_36 whose_36 place_36 deeds_36 day_36 won_36 lost_36 kept ++ tw d i0 i0_many i0_slip i0_became i0_left i0_what i0_which i0_whose i0_place i0_deeds i0_day i0_won i0_lost i0_kept) ++ (bw d ba room work price whom bday units worth due under people askings hangs items ++ (xr d ad ba ta text typed rest bestSet tenths sortWorth sortDays row trace ++ ((ad 20, .inl (d 5, 2, .inr (.inr (.inr (.inr (fun k => some (if k = 0 then i0 0 else i1 0))))))) :: tw d i1 i1_many i1_slip i1_became i1_left i1_what i1_which i1_whose i1_place i1_deeds i1_day i1_won i1_lost i1_kept))))) s H locs := hC
        have hC : HC D gcl (gty d) A (xw d ad ba ta (iw d ad i0 i1 i0_many i0_slip i0_became i0_left i0_what i0_which i0_whose i0_place i0_deeds i0_day i0_won i0_lost i0_kept i1_many i1_slip i1_became i1_left i1_what i1_which i1_whose i1_place i1_deeds i1_day i1_won i1_lost i1_kept) room work price whom bday units worth due under people askings hangs items many_36 slip_36 became_36 left_36 what_36 which_36 whose_36 place_36 deeds_36 day_36 won_36 lost_36 kept text typed rest bestSet tenths sortWorth sortDays row trace) s H locs := hC.perm [32, 33, 34, 35, 36, 37, 38, 39, 40, 41, 0, 1, 2, 3, 4, 5, 6, 7, 8, 9, 10, 11, 12, 13, 14, 15, 42, 43, 44, 45, 46, 47, 48, 49, 50, 51, 52, 53, 54, 55, 56, 16, 17, 18, 19, 20, 21, 22, 23, 24, 25, 26, 27, 28, 29, 30, 31, 57, 58, 59, 60, 61, 62, 63, 64, 65, 66, 67, 68, 69, 70, 71, 72] rfl (by decide) rfl
        refine lv_aload_n hx hb dX0_back_39 rfl (lv_at hl 0 rfl) ?_
        refine va_get (ci := 0) (v := .ref (ta 0)) (C := RX0) (T := TX0) (N := 13) hx hb hts in_X0 hown hC.1 hC.2.1 (26) rfl rfl 1 (by decide) (hts _ q305) (fun _ h9 => h9) rfl dX0_back_40 ?_
        refine va_getN (ci := 2) (v := .int day_36) (C := RX2) (T := TX2) (N := 12) (host := "SleeveSlips") hx hb hts in_X2 hown hC.1 hC.2.1 (10) rfl rfl 8 (by decide) (va_Nw.use rfl (hN.1 42)) (fun _ h9 => h9) rfl dX0_back_43 ?_
        obtain ⟨e_1, e_2, e_3, e_4, e_5, e_6, e_7, e_8, e_9, e_10, e_11, e_12, e_13⟩ := so_13 (Option.some.inj hf)
        subst e_1
        subst e_2
        subst e_3
        subst e_4
        subst e_5
        subst e_6
        subst e_7
        subst e_8
        subst e_9
        subst e_10
        subst e_11
        subst e_12
        subst e_13
        exact K H locs ls _ rfl hC dX0_back_46
      · have hf := if_t hf c_20
        refine lv_bipush (v := (-2)) hx hb dX0_back_23 (by decide) ?_
        obtain ⟨e_1, e_2, e_3, e_4, e_5, e_6, e_7, e_8, e_9, e_10, e_11, e_12, e_13⟩ := so_13 (Option.some.inj hf)
        subst e_1
        subst e_2
        subst e_3
        subst e_4
        subst e_5
        subst e_6
        subst e_7
        subst e_8
        subst e_9
        subst e_10
        subst e_11
        subst e_12
        subst e_13
        exact K H locs ls _ rfl hC dX0_back_25
    · have hf := if_f hf ci_0
      by_cases ci_1 : x1 = 1
      · have hf := if_t hf ci_1
        refine va_aldq hx hb hC.1 hC.2.1 40 5 rfl rfl (by rw [ci_1]; exact vp_in_iff.mpr (by decide)) dX0_back_16 ?_
        refine W.eq (g2 := F0 m 17 ls [.ref (i1 0)]) (by rw [ci_1]; rfl) ?_
        refine va_getN (ci := 2) (v := .int i1_kept) (C := RX2) (T := TX2) (N := 12) (host := "SleeveSlips") hx hb hts in_X2 hown hC.1 hC.2.1 (57) rfl rfl 11 (by decide) (va_Nw.use rfl (hN.1 45)) (fun _ h9 => h9) rfl dX0_back_17 ?_
        refine lv_if_ne (tgt := 26) hx hb dX0_back_20 (by decide) (fun c_20 => ?_) (fun c_20 => ?_)
        · have hf := if_f hf c_20
          refine lv_aload_n hx hb dX0_back_26 rfl (lv_at hl 0 rfl) ?_
          refine va_get (ci := 0) (v := .ref (ta 0)) (C := RX0) (T := TX0) (N := 13) hx hb hts in_X0 hown hC.1 hC.2.1 (26) rfl rfl 1 (by decide) (hts _ q305) (fun _ h9 => h9) rfl dX0_back_27 ?_
          refine lv_aload_n hx hb dX0_back_30 rfl (lv_at hl 0 rfl) ?_
          refine va_get (ci := 0) (v := .ref (ad 20)) (C := RX0) (T := TX0) (N := 13) hx hb hts in_X0 hown hC.1 hC.2.1 (26) rfl rfl 2 (by decide) (hts _ q308) (fun _ h9 => h9) rfl dX0_back_31 ?_
          refine lv_iload_n hx hb dX0_back_34 rfl (lv_at hl 1 rfl) ?_
          refine va_aldq hx hb hC.1 hC.2.1 40 5 rfl rfl (by rw [ci_1]; exact vp_in_iff.mpr (by decide)) dX0_back_35 ?_
          refine W.eq (g2 := F0 m 36 ls [.ref (i1 0), .ref (ta 0)]) (by rw [ci_1]; rfl) ?_
          have hC : HC D gcl (gty d) A (([] : va_W) ++ ((tw d ta many slip became left what which whose place deeds day won lost kept ++ tw d i1 i1_many i1_slip i1_became i1_left i1_what i1_which i1_whose i1_place i1_deeds i1_day i1_won i1_lost i1_kept) ++ (bw d ba room work price whom bday units worth due under people askings hangs items ++ (xr d ad ba ta text typed rest bestSet tenths sortWorth sortDays row trace ++ ((ad 20, .inl (d 5, 2, .inr (.inr (.inr (.inr (fun k => some (if k = 0 then i0 0 else i1 0))))))) :: tw d i0 i0_many i0_slip i0_became i0_left i0_what i0_which i0_whose i0_place i0_deeds i0_day i0_won i0_lost i0_kept))))) s H locs := hC.perm [10, 11, 12, 13, 14, 15, 16, 17, 18, 19, 20, 21, 22, 23, 24, 25, 57, 58, 59, 60, 61, 62, 63, 64, 65, 66, 67, 68, 69, 70, 71, 72, 0, 1, 2, 3, 4, 5, 6, 7, 8, 9, 26, 27, 28, 29, 30, 31, 32, 33, 34, 35, 36, 37, 38, 39, 40, 41, 42, 43, 44, 45, 46, 47, 48, 49, 50, 51, 52, 53, 54, 55, 56] rfl (by decide) rfl
          obtain ⟨many_36, slip_36, became_36, left_36, what_36, which_36, whose_36, place_36, deeds_36, day_36, won_36, lost_36, hcall, hf⟩ := bnd12_some hf
          refine hs_v (va_runV (C := RX2) (As := [.ref (i1 0)]) (rest := []) ⟨hx, hb, hml, hown, hts⟩ (c_x_tcopy hcall) (cwV 1 hts (lw_V q779 q780 q781 q50 q782) rfl rfl rfl (by decide +kernel) ⟨(Nat.le_trans (Nat.le_of_ble_eq_true rfl) hRf), (Nat.le_trans (Nat.le_of_ble_eq_true rfl) hRl)⟩) (pre_VG (q0 := 0) (ci := 2) NX.calling (fun U _ hW => NX.warm hW hN) hC [0, 1, 2, 3, 4, 5, 6] rfl rfl rfl) rfl rfl hl.1 rfl (lv_room (Nat.le_of_ble_eq_true rfl)) dX0_back_36 ⟨hRc, hRs⟩) hA hC (fun H locs hC => ?_)
          have hC : HC D gcl (gty d) A (([] : va_W) ++ ((tw d ta many_36 slip_36 became_36 left_36 what_36 which_36 whose_36 place_36 deeds_36 day_36 won_36 lost_36 kept ++ tw d i1 i1_many i1_slip i1_became i1_left i1_what i1_which i1_whose i1_place i1_deeds i1_day i1_won i1_lost i1_kept) ++ (bw d ba room work price whom bday units worth due under people askings hangs items ++ (xr d ad ba ta text typed rest bestSet tenths sortWorth sortDays row trace ++ ((ad 20, .inl (d 5, 2, .inr (.inr (.inr (.inr (fun k => some (if k = 0 then i0 0 else i1 0))))))) :: tw d i0 i0_many i0_slip i0_became i0_left i0_what i0_which i0_whose i0_place i0_deeds i0_day i0_won i0_lost i0_kept))))) s H locs := hC
          have hC : HC D gcl (gty d) A (xw d ad ba ta (iw d ad i0 i1 i0_many i0_slip i0_became i0_left i0_what i0_which i0_whose i0_place i0_deeds i0_day i0_won i0_lost i0_kept i1_many i1_slip i1_became i1_left i1_what i1_which i1_whose i1_place i1_deeds i1_day i1_won i1_lost i1_kept) room work price whom bday units worth due under people askings hangs items many_36 slip_36 became_36 left_36 what_36 which_36 whose_36 place_36 deeds_36 day_36 won_36 lost_36 kept text typed rest bestSet tenths sortWorth sortDays row trace) s H locs := hC.perm [32, 33, 34, 35, 36, 37, 38, 39, 40, 41, 0, 1, 2, 3, 4, 5, 6, 7, 8, 9, 10, 11, 12, 13, 14, 15, 42, 43, 44, 45, 46, 47, 48, 49, 50, 51, 52, 53, 54, 55, 56, 57, 58, 59, 60, 61, 62, 63, 64, 65, 66, 67, 68, 69, 70, 71, 72, 16, 17, 18, 19, 20, 21, 22, 23, 24, 25, 26, 27, 28, 29, 30, 31] rfl (by decide) rfl
          refine lv_aload_n hx hb dX0_back_39 rfl (lv_at hl 0 rfl) ?_
          refine va_get (ci := 0) (v := .ref (ta 0)) (C := RX0) (T := TX0) (N := 13) hx hb hts in_X0 hown hC.1 hC.2.1 (26) rfl rfl 1 (by decide) (hts _ q305) (fun _ h9 => h9) rfl dX0_back_40 ?_
          refine va_getN (ci := 2) (v := .int day_36) (C := RX2) (T := TX2) (N := 12) (host := "SleeveSlips") hx hb hts in_X2 hown hC.1 hC.2.1 (10) rfl rfl 8 (by decide) (va_Nw.use rfl (hN.1 42)) (fun _ h9 => h9) rfl dX0_back_43 ?_
          obtain ⟨e_1, e_2, e_3, e_4, e_5, e_6, e_7, e_8, e_9, e_10, e_11, e_12, e_13⟩ := so_13 (Option.some.inj hf)
          subst e_1
          subst e_2
          subst e_3
          subst e_4
          subst e_5
          subst e_6
          subst e_7
          subst e_8
          subst e_9
          subst e_10
          subst e_11
          subst e_12
          subst e_13
          exact K H locs ls _ rfl hC dX0_back_46
        · have hf := if_t hf c_20
          refine lv_bipush (v := (-2)) hx hb dX0_back_23 (by decide) ?_
          obtain ⟨e_1, e_2, e_3, e_4, e_5, e_6, e_7, e_8, e_9, e_10, e_11, e_12, e_13⟩ := so_13 (Option.some.inj hf)
          subst e_1
          subst e_2
          subst e_3
          subst e_4
          subst e_5
          subst e_6
          subst e_7
          subst e_8
          subst e_9
          subst e_10
          subst e_11
          subst e_12
          subst e_13
          exact K H locs ls _ rfl hC dX0_back_25
      · have hf := if_f hf ci_1
        cases hf
  · have hf := if_t hf c_6
    refine lv_iconst (v := (-1)) hx hb dX0_back_9 (by decide) ?_
    obtain ⟨e_1, e_2, e_3, e_4, e_5, e_6, e_7, e_8, e_9, e_10, e_11, e_12, e_13⟩ := so_13 (Option.some.inj hf)
    subst e_1
    subst e_2
    subst e_3
    subst e_4
    subst e_5
    subst e_6
    subst e_7
    subst e_8
    subst e_9
    subst e_10
    subst e_11
    subst e_12
    subst e_13
    exact K H locs ls _ rfl hC dX0_back_10
set_option maxRecDepth 100000 in
theorem c_x_back {l : Launch} {sz : Nat} {D : va_G} {d : Nat → ClassId} {ad : Nat → Nat} {ba : Nat → Nat} {ta : Nat → Nat} {i0 : Nat → Nat} {i1 : Nat → Nat} {room : Nat → Int32} {work : Nat → Int32} {price : Nat → Int32} {whom : Nat → Int32} {bday : Nat → Int32} {units : Nat → Int32} {worth : Nat → Int32} {due : Nat → Int32} {under : Nat → Int32} {people : Int32} {askings : Int32} {hangs : Int32} {items : Int32} {many : Nat → Int32} {slip : Nat → Nat → Int32} {became : Nat → Int32} {left : Nat → Int32} {what : Nat → Int32} {which : Nat → Int32} {whose : Nat → Int32} {place : Nat → Int32} {deeds : Int32} {day : Int32} {won : Int32} {lost : Int32} {kept : Int32} {text : Nat → Int32} {typed : Int32} {rest : Nat → Int32} {bestSet : Int32} {tenths : Nat → Int32} {sortWorth : Nat → Int32} {sortDays : Nat → Int32} {row : Nat → Int32} {trace : Int64} {i0_many : Nat → Int32} {i0_slip : Nat → Nat → Int32} {i0_became : Nat → Int32} {i0_left : Nat → Int32} {i0_what : Nat → Int32} {i0_which : Nat → Int32} {i0_whose : Nat → Int32} {i0_place : Nat → Int32} {i0_deeds : Int32} {i0_day : Int32} {i0_won : Int32} {i0_lost : Int32} {i0_kept : Int32} {i1_many : Nat → Int32} {i1_slip : Nat → Nat → Int32} {i1_became : Nat → Int32} {i1_left : Nat → Int32} {i1_what : Nat → Int32} {i1_which : Nat → Int32} {i1_whose : Nat → Int32} {i1_place : Nat → Int32} {i1_deeds : Int32} {i1_day : Int32} {i1_won : Int32} {i1_lost : Int32} {i1_kept : Int32} {x1 : Int32} {r : Int32} {many_r : Nat → Int32} {slip_r : Nat → Nat → Int32} {became_r : Nat → Int32} {left_r : Nat → Int32} {what_r : Nat → Int32} {which_r : Nat → Int32} {whose_r : Nat → Int32} {place_r : Nat → Int32} {deeds_r : Int32} {day_r : Int32} {won_r : Int32} {lost_r : Int32} (hf : x_back many slip became left what which whose place deeds day won lost i0_many i0_slip i0_became i0_left i0_what i0_which i0_whose i0_place i0_deeds i0_day i0_won i0_lost i0_kept i1_many i1_slip i1_became i1_left i1_what i1_which i1_whose i1_place i1_deeds i1_day i1_won i1_lost i1_kept x1 = some (r, many_r, slip_r, became_r, left_r, what_r, which_r, whose_r, place_r, deeds_r, day_r, won_r, lost_r)) : MI l yX0_back (ws_ yX0_back cX0_back 2 (some .int)) { frames := 3, cells := 0, slots := 0, locals := 103 } D gcl (gty d) NX (xw d ad ba ta (iw d ad i0 i1 i0_many i0_slip i0_became i0_left i0_what i0_which i0_whose i0_place i0_deeds i0_day i0_won i0_lost i0_kept i1_many i1_slip i1_became i1_left i1_what i1_which i1_whose i1_place i1_deeds i1_day i1_won i1_lost i1_kept) room work price whom bday units worth due under people askings hangs items many slip became left what which whose place deeds day won lost kept text typed rest bestSet tenths sortWorth sortDays row trace) (xw d ad ba ta (iw d ad i0 i1 i0_many i0_slip i0_became i0_left i0_what i0_which i0_whose i0_place i0_deeds i0_day i0_won i0_lost i0_kept i1_many i1_slip i1_became i1_left i1_what i1_which i1_whose i1_place i1_deeds i1_day i1_won i1_lost i1_kept) room work price whom bday units worth due under people askings hangs items many_r slip_r became_r left_r what_r which_r whose_r place_r deeds_r day_r won_r lost_r kept text typed rest bestSet tenths sortWorth sortDays row trace) sz [.ref (ad 0), .int x1] r :=
  MI.of (by decide) [.ref (ad 0), .int x1] [(0, .ref (ad 0)), (1, .int x1)] (Nat.le_of_ble_eq_true rfl) rfl (fun p e s m below meth c ls Q hx hb hml hown hts hN hA hC hl K => w_x_back hx hb hml hown hts hN hA (Nat.le_refl _) (Nat.le_refl _) (Nat.le_refl _) (Nat.le_refl _) hf hC hl K)
