/-! STRINGS: the three words, and what the JDK's methods answer of them -/
set_option maxRecDepth 100000
def SLEN : List Nat := [6, 3, 5]
def SBYT : List (List Int32) := [[112, 101, 114, 115, 111, 110], [97, 115, 107], [104, 97, 110, 103, 115]]
/-- the constants: the words, the statics; none of their cells is in A -/
def SX (adK adV : Nat → Nat) (tW : Nat) (A : Nat → Prop) (U : State) (H : Heap) : Prop := vk_S 3 SLEN SBYT adK adV A U H ∧ va_Z "java/lang/String" "COMPACT_STRINGS" "Z" (.int 1) A U H ∧ va_Zq "jdk/internal/util/Preconditions" "SIOOBE_FORMATTER" "Ljava/util/function/BiFunction;" A U H ∧ va_Z "SleeveSlips" "WORDS" "[Ljava/lang/String;" (.ref tW) A U H ∧ va_T (.object "java/lang/String") tW 3 (fun j => .ref (adK j)) A U H ∧ va_Zq "java/lang/Throwable" "UNASSIGNED_STACK" "[Ljava/lang/StackTraceElement;" A U H ∧ va_Zq "java/lang/Throwable" "SUPPRESSED_SENTINEL" "Ljava/util/List;" A U H
def SN (adK adV : Nat → Nat) (tW : Nat) (ws : va_W) (U : State) : Prop := SX adK adV tW (va_A ws U.heap.size) U U.heap
theorem SX.pass {adK adV : Nat → Nat} {tW : Nat} {A B : Nat → Prop} {s U : State} {H : Heap} {locs : List Loc} (h : SX adK adV tW A s s.heap) (hS : va_S A s.heap H locs) (hAB : ∀ q, B q → A q) (hal : s.vm.Alike U.vm) : SX adK adV tW B U H :=
  ⟨((h.1.kept hS.2.1).moved hal).narrow hAB, ((h.2.1.kept hS.2.1).moved hal).narrow hAB, ((h.2.2.1.kept hS.2.1).moved hal).narrow hAB, ((h.2.2.2.1.kept hS.2.1).moved hal).narrow hAB, ((h.2.2.2.2.1.kept hS.2.1).moved hal).narrow hAB, ((h.2.2.2.2.2.1.kept hS.2.1).moved hal).narrow hAB, ((h.2.2.2.2.2.2.kept hS.2.1).moved hal).narrow hAB⟩
theorem SN.calling {adK adV : Nat → Nat} {tW : Nat} {ws : va_W} (U : State) (g : JFrame) (mk : MethodId) (a : Array Value) (h : SN adK adV tW ws U) : SN adK adV tW ws (U.calling g mk a) :=
  SX.pass (s := U) (U := U.calling g mk a) (H := U.heap) (locs := []) h va_S.rf (fun _ q => q) (Vm.Alike.refl U.vm)
theorem SN.warm {adK adV : Nat → Nat} {tW : Nat} {A : Nat → Prop} {ws : va_W} {s U : State} {H : Heap} {locs : List Loc} (h : SX adK adV tW A s s.heap) (hS : va_S A s.heap H locs) (hF : ∀ q, va_A ws H.size q → A q) (hU : U.heap = H) (hW : s.WarmedH U.vm) : SN adK adV tW ws U := by
  unfold SN
  rw [hU]
  exact SX.pass h hS hF hW.alike
theorem zq_or {C n d : String} {A : Nat → Prop} {U : State} {H : Heap} (h : va_Zq C n d A U H) : ∃ v : Value, (v = .null ∨ ∃ t, v = .ref t) ∧ va_Z C n d v A U H := by
  rcases h with h | ⟨t, h⟩
  · exact ⟨.null, Or.inl rfl, h⟩
  · exact ⟨.ref t, Or.inr ⟨t, rfl⟩, h⟩
section STR
variable {l : Launch} {D : va_G} {cl : List vw_C} {tys : List (ClassId × FieldType)} {ws : va_W} {sz : Nat} {adK adV : Nat → Nat} {tW : Nat}
set_option maxHeartbeats 4000000 in
/-- Preconditions.checkIndex, in range -/
theorem c_j_pchk {x0 x1 : Int32} {v : Value} (hv : v = .null ∨ ∃ t, v = .ref t) (h0 : ¬ x0 < 0) (h1 : x0 < x1) : MI l yJ3_checkIndex (ws_ yJ3_checkIndex cJ3_checkIndex 3 (some .int)) { frames := 0, cells := 0, slots := 0, locals := 0 } D cl tys (fun _ => True) ws ws sz [.int x0, .int x1, v] x0 := by
  have walk : ∀ lv : List (Nat × Value), lv = [(0, .int x0), (1, .int x1), (2, v)] → Walk l D cl tys (fun _ => True) ws ws yJ3_checkIndex cJ3_checkIndex 3 { frames := 0, cells := 0, slots := 0, locals := 0 } [.int x0, .int x1, v] lv .ireturn (narrow .int (.int x0) = .int x0) [.int x0] := by
    intro lv hlv p e s m below meth c ls Q hx hb hml hown hts hN hA hC hl K
    subst hlv
    refine lv_iload_n hx hb dJ3_checkIndex_0 rfl (lv_at hl 0 rfl) ?_
    refine lv_if_lt (tgt := 9) hx hb dJ3_checkIndex_1 (by decide) (fun c0 => absurd c0 h0) (fun _ => ?_)
    refine lv_iload_n hx hb dJ3_checkIndex_4 rfl (lv_at hl 0 rfl) ?_
    refine lv_iload_n hx hb dJ3_checkIndex_5 rfl (lv_at hl 1 rfl) ?_
    refine lv_icmp_lt (tgt := 16) hx hb dJ3_checkIndex_6 (by decide) (fun _ => ?_) (fun c0 => absurd h1 c0)
    refine lv_iload_n hx hb dJ3_checkIndex_16 rfl (lv_at hl 0 rfl) ?_
    exact K _ _ _ _ rfl hC dJ3_checkIndex_17
  rcases hv with rfl | ⟨t, rfl⟩
  · exact MI.of (by decide) _ _ (Nat.le_of_ble_eq_true rfl) rfl (walk _ rfl)
  · exact MI.of (by decide) _ _ (Nat.le_of_ble_eq_true rfl) rfl (walk _ rfl)
set_option maxHeartbeats 4000000 in
/-- String.checkIndex, in range -/
theorem c_j_schk {x0 x1 : Int32} (h0 : ¬ x0 < 0) (h1 : x0 < x1) : MV l yJ1_checkIndex (ws_ yJ1_checkIndex cJ1_checkIndex 2 none) { frames := 1, cells := 0, slots := 0, locals := 22 } D cl tys (SN adK adV tW ws) ws ws sz [.int x0, .int x1] := by
  refine MV.of (by decide) _ [(0, .int x0), (1, .int x1)] (Nat.le_of_ble_eq_true rfl) rfl ?_
  intro p e s m below meth c ls Q hx hb hml hown hts hN hA hC hl K
  obtain ⟨v, hv, hz⟩ := zq_or hN.2.2.1
  refine lv_iload_n hx hb dJ1_checkIndex_0 rfl (lv_at hl 0 rfl) ?_
  refine lv_iload_n hx hb dJ1_checkIndex_1 rfl (lv_at hl 1 rfl) ?_
  refine va_gets hx hb hz hC.2.2.2 hown (hts _ q440) (fun _ h => h) dJ1_checkIndex_2 ?_
  refine hc_i (va_runS (As := [.int x0, .int x1, v]) (rest := []) ⟨hx, hb, hml, hown, hts⟩ (c_j_pchk hv h0 h1) (va_cwS 3 hts (lw_S q442 q443 q63 q444) rfl rfl rfl (by decide +kernel) ⟨Nat.le_of_ble_eq_true rfl, Nat.le_of_ble_eq_true rfl⟩) (pre_S (fun _ _ _ _ h => h) (fun _ _ _ => trivial) hC) rfl rfl hl.1 rfl (lv_room (Nat.le_of_ble_eq_true rfl)) dJ1_checkIndex_5 ⟨Nat.le_refl _, Nat.le_refl _⟩) hA hC (fun H locs hC => ?_)
  refine lv_pop hx hb dJ1_checkIndex_8 rfl ?_
  exact K _ _ _ _ trivial hC dJ1_checkIndex_9
set_option maxHeartbeats 4000000 in
theorem c_j_coder {k : Nat} (hk : k < 3) : MI l yJ1_coder (ws_ yJ1_coder cJ1_coder 1 (some .byte)) { frames := 0, cells := 0, slots := 0, locals := 0 } D cl tys (SN adK adV tW ws) ws ws sz [.ref (adK k)] 0 := by
  refine MI.of (by decide) _ [(0, .ref (adK k))] (Nat.le_of_ble_eq_true rfl) rfl ?_
  intro p e s m below meth c ls Q hx hb hml hown hts hN hA hC hl K
  refine va_gets hx hb hN.2.1 hC.2.2.2 hown (hts _ q424) (fun _ h => h) dJ1_coder_0 ?_
  refine lv_if_eq (tgt := 13) hx hb dJ1_coder_3 (by decide) (fun c0 => absurd c0 (by decide)) (fun _ => ?_)
  refine lv_aload_n hx hb dJ1_coder_6 rfl (lv_at hl 0 rfl) ?_
  refine vk_getf hx hb (hN.1.1 k hk).2.1 hC.2.2.2 hown (hts _ q1145) (fun _ h => h) dJ1_coder_7 ?_
  refine lv_goto (tgt := 14) hx hb dJ1_coder_10 (by decide) ?_
  exact K _ _ _ _ rfl hC dJ1_coder_14
set_option maxHeartbeats 4000000 in
theorem c_j_isL1 {k : Nat} (hk : k < 3) : MI l yJ1_isLatin1 (ws_ yJ1_isLatin1 cJ1_isLatin1 1 (some .boolean)) { frames := 0, cells := 0, slots := 0, locals := 0 } D cl tys (SN adK adV tW ws) ws ws sz [.ref (adK k)] 1 := by
  refine MI.of (by decide) _ [(0, .ref (adK k))] (Nat.le_of_ble_eq_true rfl) rfl ?_
  intro p e s m below meth c ls Q hx hb hml hown hts hN hA hC hl K
  refine va_gets hx hb hN.2.1 hC.2.2.2 hown (hts _ q424) (fun _ h => h) dJ1_isLatin1_0 ?_
  refine lv_if_eq (tgt := 17) hx hb dJ1_isLatin1_3 (by decide) (fun c0 => absurd c0 (by decide)) (fun _ => ?_)
  refine lv_aload_n hx hb dJ1_isLatin1_6 rfl (lv_at hl 0 rfl) ?_
  refine vk_getf hx hb (hN.1.1 k hk).2.1 hC.2.2.2 hown (hts _ q1145) (fun _ h => h) dJ1_isLatin1_7 ?_
  refine lv_if_ne (tgt := 17) hx hb dJ1_isLatin1_10 (by decide) (fun c0 => absurd rfl c0) (fun _ => ?_)
  refine lv_iconst (v := 1) hx hb dJ1_isLatin1_13 (by decide) ?_
  refine lv_goto (tgt := 18) hx hb dJ1_isLatin1_14 (by decide) ?_
  exact K _ _ _ _ rfl hC dJ1_isLatin1_18
set_option maxHeartbeats 4000000 in
/-- String.length of a word -/
theorem c_j_len {k : Nat} (hk : k < 3) : MI l yJ1_length (ws_ yJ1_length cJ1_length 1 (some .int)) { frames := 1, cells := 0, slots := 0, locals := 20 } D cl tys (SN adK adV tW ws) ws ws sz [.ref (adK k)] (Int32.ofNat (SLEN.getD k 0)) := by
  refine MI.of (by decide) _ [(0, .ref (adK k))] (Nat.le_of_ble_eq_true rfl) rfl ?_
  intro p e s m below meth c ls Q hx hb hml hown hts hN hA hC hl K
  refine lv_aload_n hx hb dJ1_length_0 rfl (lv_at hl 0 rfl) ?_
  refine vk_getf hx hb (hN.1.1 k hk).2.2.1 hC.2.2.2 hown (hts _ q1144) (fun _ h => h) dJ1_length_1 ?_
  refine va_tlen hx hb (hN.1.1 k hk).2.2.2 hC.2.2.2 rfl dJ1_length_4 ?_
  refine lv_aload_n hx hb dJ1_length_5 rfl (lv_at hl 0 rfl) ?_
  refine hc_i (va_runV (C := "java/lang/String") (As := []) (rest := [.int (Int32.ofNat (SLEN.getD k 0))]) ⟨hx, hb, hml, hown, hts⟩ (c_j_coder hk) (cwV 0 hts (lw_V q420 q421 q422 q61 q423) rfl rfl rfl (by decide +kernel) ⟨Nat.le_of_ble_eq_true rfl, Nat.le_of_ble_eq_true rfl⟩) ⟨pre_b SN.calling, vk_recv hN.1 hk hC.2.2.2, pre_h (fun U hU hW => SN.warm hN hC.2.2.2 (all_free hC.2.2.1 hC.2.2.2 hA) hU hW) hC.1 hC.2.1 hC.2.2.1⟩ rfl rfl hl.1 rfl (lv_room (Nat.le_of_ble_eq_true rfl)) dJ1_length_6 ⟨Nat.le_refl _, Nat.le_refl _⟩) hA hC (fun H locs hC => ?_)
  refine lv_ishr hx hb dJ1_length_9 ?_
  refine lv_nmi (sb_shr0 _) ?_
  exact K _ _ _ _ rfl hC dJ1_length_10
set_option maxHeartbeats 4000000 in
/-- StringLatin1.charAt of a word's bytes -/
theorem c_j_l1char {k : Nat} {x1 : Int32} (hk : k < 3) (hi : vp_in x1 (SLEN.getD k 0)) : MI l yJ2_charAt (ws_ yJ2_charAt cJ2_charAt 2 (some .char)) { frames := 2, cells := 0, slots := 0, locals := 43 } D cl tys (SN adK adV tW ws) ws ws sz [.ref (adV k), .int x1] ((SBYT.getD k []).getD x1.toNatClampNeg 0 &&& 255) := by
  refine MI.of (by decide) _ [(0, .ref (adV k)), (1, .int x1)] (Nat.le_of_ble_eq_true rfl) rfl ?_
  intro p e s m below meth c ls Q hx hb hml hown hts hN hA hC hl K
  have hlen : SLEN.getD k 0 < 2 ^ 31 := by
    match k, hk with
    | 0, _ => decide
    | 1, _ => decide
    | 2, _ => decide
  have hlt : x1 < Int32.ofNat (SLEN.getD k 0) := by
    obtain ⟨j, hj, rfl⟩ := vp_in_of hi hlen
    exact nI_lt hj hlen
  refine lv_iload_n hx hb dJ2_charAt_0 rfl (lv_at hl 1 rfl) ?_
  refine lv_aload_n hx hb dJ2_charAt_1 rfl (lv_at hl 0 rfl) ?_
  refine va_tlen hx hb (hN.1.1 k hk).2.2.2 hC.2.2.2 rfl dJ2_charAt_2 ?_
  refine hc_v (va_runS (As := [.int x1, .int (Int32.ofNat (SLEN.getD k 0))]) (rest := []) ⟨hx, hb, hml, hown, hts⟩ (c_j_schk (fun q => hi (Or.inl q)) hlt) (va_cwS 2 hts (lw_S q437 q438 q61 q439) rfl rfl rfl (by decide +kernel) ⟨Nat.le_of_ble_eq_true rfl, Nat.le_of_ble_eq_true rfl⟩) (pre_S SN.calling (fun U hU hW => SN.warm hN hC.2.2.2 (all_free hC.2.2.1 hC.2.2.2 hA) hU hW) hC) rfl rfl hl.1 rfl (lv_room (Nat.le_of_ble_eq_true rfl)) dJ2_charAt_3 ⟨Nat.le_refl _, Nat.le_refl _⟩) hA hC (fun H locs hC => ?_)
  refine lv_aload_n hx hb dJ2_charAt_6 rfl (lv_at hl 0 rfl) ?_
  refine lv_iload_n hx hb dJ2_charAt_7 rfl (lv_at hl 1 rfl) ?_
  refine va_tb hx hb (hN.1.1 k hk).2.2.2 hC.2.2.2 hi rfl dJ2_charAt_8 ?_
  refine lv_sipush (v := 255) hx hb dJ2_charAt_9 (by decide) ?_
  refine lv_iand hx hb dJ2_charAt_12 ?_
  refine lv_i2c (v := (SBYT.getD k []).getD x1.toNatClampNeg 0 &&& 255) hx hb dJ2_charAt_13 (sc_c2 _) ?_
  exact K _ _ _ _ (sc_nar _) hC dJ2_charAt_14
set_option maxHeartbeats 4000000 in
/-- String.charAt of a word -/
theorem c_j_char {k : Nat} {x1 : Int32} (hk : k < 3) (hi : vp_in x1 (SLEN.getD k 0)) : MI l yJ1_charAt (ws_ yJ1_charAt cJ1_charAt 2 (some .char)) { frames := 3, cells := 0, slots := 0, locals := 64 } D cl tys (SN adK adV tW ws) ws ws sz [.ref (adK k), .int x1] ((SBYT.getD k []).getD x1.toNatClampNeg 0 &&& 255) := by
  refine MI.of (by decide) _ [(0, .ref (adK k)), (1, .int x1)] (Nat.le_of_ble_eq_true rfl) rfl ?_
  intro p e s m below meth c ls Q hx hb hml hown hts hN hA hC hl K
  refine lv_aload_n hx hb dJ1_charAt_0 rfl (lv_at hl 0 rfl) ?_
  refine hc_i (va_runV (C := "java/lang/String") (As := []) (rest := []) ⟨hx, hb, hml, hown, hts⟩ (c_j_isL1 hk) (cwV 0 hts (lw_V q430 q431 q432 q61 q433) rfl rfl rfl (by decide +kernel) ⟨Nat.le_of_ble_eq_true rfl, Nat.le_of_ble_eq_true rfl⟩) ⟨pre_b SN.calling, vk_recv hN.1 hk hC.2.2.2, pre_h (fun U hU hW => SN.warm hN hC.2.2.2 (all_free hC.2.2.1 hC.2.2.2 hA) hU hW) hC.1 hC.2.1 hC.2.2.1⟩ rfl rfl hl.1 rfl (lv_room (Nat.le_of_ble_eq_true rfl)) dJ1_charAt_1 ⟨Nat.le_refl _, Nat.le_refl _⟩) hA hC (fun H locs hC => ?_)
  refine lv_if_eq (tgt := 16) hx hb dJ1_charAt_4 (by decide) (fun c0 => absurd c0 (by decide)) (fun _ => ?_)
  refine lv_aload_n hx hb dJ1_charAt_7 rfl (lv_at hl 0 rfl) ?_
  refine vk_getf hx hb (hN.1.1 k hk).2.2.1 hC.2.2.2 hown (hts _ q1144) (fun _ h => h) dJ1_charAt_8 ?_
  refine lv_iload_n hx hb dJ1_charAt_11 rfl (lv_at hl 1 rfl) ?_
  refine hc_i (va_runS (As := [.ref (adV k), .int x1]) (rest := []) ⟨hx, hb, hml, hown, hts⟩ (c_j_l1char hk hi) (va_cwS 2 hts (lw_S q434 q435 q62 q436) rfl rfl rfl (by decide +kernel) ⟨Nat.le_of_ble_eq_true rfl, Nat.le_of_ble_eq_true rfl⟩) (pre_S SN.calling (fun U hU hW => SN.warm hN hC.2.2.2 (all_free hC.2.2.1 hC.2.2.2 hA) hU hW) hC) rfl rfl hl.1 rfl (lv_room (Nat.le_of_ble_eq_true rfl)) dJ1_charAt_12 ⟨Nat.le_refl _, Nat.le_refl _⟩) hA hC (fun H locs hC => ?_)
  exact K _ _ _ _ (sc_nar _) hC dJ1_charAt_15
end STR
