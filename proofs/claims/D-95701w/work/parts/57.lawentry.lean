set_option maxRecDepth 100000
theorem ent_F {s : State} {b : Nat} (hts0 : ∀ w ∈ lw_tbl, w.before #[Value.ref b] s = true) : ∀ k, va_Nw (nF k) s
  | 0 => va_Nw.of rfl (hts0 _ q87)
  | 1 => va_Nw.of rfl (hts0 _ q88)
  | 2 => va_Nw.of rfl (hts0 _ q89)
  | 3 => va_Nw.of rfl (hts0 _ q91)
  | 4 => va_Nw.of rfl (hts0 _ q92)
  | 5 => va_Nw.of rfl (hts0 _ q93)
  | 6 => va_Nw.of rfl (hts0 _ q95)
  | 7 => va_Nw.of rfl (hts0 _ q96)
  | 8 => va_Nw.of rfl (hts0 _ q98)
  | 9 => va_Nw.of rfl (hts0 _ q99)
  | 10 => va_Nw.of rfl (hts0 _ q101)
  | 11 => va_Nw.of rfl (hts0 _ q102)
  | 12 => va_Nw.of rfl (hts0 _ q104)
  | 13 => va_Nw.of rfl (hts0 _ q105)
  | 14 => va_Nw.of rfl (hts0 _ q107)
  | 15 => va_Nw.of rfl (hts0 _ q108)
  | 16 => va_Nw.of rfl (hts0 _ q110)
  | 17 => va_Nw.of rfl (hts0 _ q111)
  | 18 => va_Nw.of rfl (hts0 _ q113)
  | 19 => va_Nw.of rfl (hts0 _ q114)
  | 20 => va_Nw.of rfl (hts0 _ q115)
  | 21 => va_Nw.of rfl (hts0 _ q116)
  | 22 => va_Nw.of rfl (hts0 _ q117)
  | 23 => va_Nw.of rfl (hts0 _ q118)
  | 24 => va_Nw.of rfl (hts0 _ q119)
  | 25 => va_Nw.of rfl (hts0 _ q120)
  | 26 => va_Nw.of rfl (hts0 _ q121)
  | 27 => va_Nw.of rfl (hts0 _ q122)
  | 28 => va_Nw.of rfl (hts0 _ q165)
  | 29 => va_Nw.of rfl (hts0 _ q167)
  | 30 => va_Nw.of rfl (hts0 _ q168)
  | 31 => va_Nw.of rfl (hts0 _ q169)
  | 32 => va_Nw.of rfl (hts0 _ q176)
  | 33 => va_Nw.of rfl (hts0 _ q177)
  | 34 => va_Nw.of rfl (hts0 _ q179)
  | 35 => va_Nw.of rfl (hts0 _ q181)
  | 36 => va_Nw.of rfl (hts0 _ q183)
  | 37 => va_Nw.of rfl (hts0 _ q185)
  | 38 => va_Nw.of rfl (hts0 _ q187)
  | 39 => va_Nw.of rfl (hts0 _ q189)
  | 40 => va_Nw.of rfl (hts0 _ q191)
  | 41 => va_Nw.of rfl (hts0 _ q192)
  | 42 => va_Nw.of rfl (hts0 _ q194)
  | 43 => va_Nw.of rfl (hts0 _ q196)
  | 44 => va_Nw.of rfl (hts0 _ q198)
  | 45 => va_Nw.of rfl (hts0 _ q199)
  | 46 => va_Nw.of rfl (hts0 _ q303)
  | 47 => va_Nw.of rfl (hts0 _ q304)
  | 48 => va_Nw.of rfl (hts0 _ q306)
  | 49 => va_Nw.of rfl (hts0 _ q307)
  | 50 => va_Nw.of rfl (hts0 _ q309)
  | 51 => va_Nw.of rfl (hts0 _ q311)
  | 52 => va_Nw.of rfl (hts0 _ q319)
  | 53 => va_Nw.of rfl (hts0 _ q320)
  | 54 => va_Nw.of rfl (hts0 _ q321)
  | 55 => va_Nw.of rfl (hts0 _ q322)
  | 56 => va_Nw.of rfl (hts0 _ q323)
  | 57 => va_Nw.of rfl (hts0 _ q324)
  | 58 => va_Nw.of rfl (hts0 _ q410)
  | _ + 59 => va_Nw.of rfl (hts0 _ q527)
theorem ent_M {s : State} {b : Nat} (hts0 : ∀ w ∈ lw_tbl, w.before #[Value.ref b] s = true) : ∀ k, va_Nw (nM k) s
  | 0 => va_Nw.of rfl (hts0 _ q82)
  | 1 => va_Nw.of rfl (hts0 _ q153)
  | 2 => va_Nw.of rfl (hts0 _ q160)
  | 3 => va_Nw.of rfl (hts0 _ q229)
  | 4 => va_Nw.of rfl (hts0 _ q240)
  | 5 => va_Nw.of rfl (hts0 _ q243)
  | 6 => va_Nw.of rfl (hts0 _ q251)
  | 7 => va_Nw.of rfl (hts0 _ q254)
  | 8 => va_Nw.of rfl (hts0 _ q262)
  | 9 => va_Nw.of rfl (hts0 _ q265)
  | 10 => va_Nw.of rfl (hts0 _ q274)
  | 11 => va_Nw.of rfl (hts0 _ q277)
  | 12 => va_Nw.of rfl (hts0 _ q286)
  | 13 => va_Nw.of rfl (hts0 _ q289)
  | 14 => va_Nw.of rfl (hts0 _ q372)
  | 15 => va_Nw.of rfl (hts0 _ q377)
  | 16 => va_Nw.of rfl (hts0 _ q409)
  | _ + 17 => va_Nw.of rfl (hts0 _ q766)
theorem ent_NX {s : State} {b : Nat} (hts0 : ∀ w ∈ lw_tbl, w.before #[Value.ref b] s = true) : NX s := ⟨ent_F hts0, ent_M hts0, va_AO.of (hts0 _ q158), va_AO.of (hts0 _ q225), va_AO.of (hts0 _ q227)⟩
theorem ent_NCX {s : State} {b : Nat} (hts0 : ∀ w ∈ lw_tbl, w.before #[Value.ref b] s = true) : NCX s := by
  intro k
  match k with
  | 0 => exact va_Nw.of rfl (hts0 _ q1139)
  | 1 => exact va_Nw.of rfl (hts0 _ q1140)
  | 2 => exact va_Nw.of rfl (hts0 _ q1141)
  | 3 => exact va_Nw.of rfl (hts0 _ q1142)
  | _ + 4 => exact va_Nw.of rfl (hts0 _ q1143)
theorem NCX.calling (U : State) (g : JFrame) (mk : MethodId) (a : Array Value) (h : NCX U) : NCX (U.calling g mk a) := fun k => va_Nw.same rfl rfl (h k)
theorem NCX.warm {s U : State} (hW : s.WarmedH U.vm) (h : NCX s) : NCX U := fun k => va_Nw.warmC hW (h k)
theorem ent_K {s : State} {b : Nat} (hts0 : ∀ w ∈ lw_tbl, w.before #[Value.ref b] s = true) : ∃ (D : va_G) (d : Nat → ClassId), va_K D gcl (gty d) s := by
  have hts : ∀ w ∈ lw_all, w.before #[Value.ref b] s = true := fun w h => hts0 w (lw_all_tbl h)
  obtain ⟨c0, i0, h0⟩ := u_known (n := 13) hts in_X0 (hts _ q73)
  obtain ⟨c1, i1, h1⟩ := u_known (n := 13) hts in_X1 (hts _ q81)
  obtain ⟨c2, i2, h2⟩ := u_known (n := 12) hts in_X2 (hts _ q152)
  obtain ⟨c3, i3, h3⟩ := u_known (n := 2) hts in_X3 (hts _ q159)
  obtain ⟨c4, i4, h4⟩ := u_known (n := 1) hts in_X4 (hts _ q228)
  obtain ⟨c5, i5, h5⟩ := u_known (n := 2) hts in_X5 (hts _ q239)
  obtain ⟨c6, i6, h6⟩ := u_known (n := 2) hts in_X6 (hts _ q250)
  obtain ⟨c7, i7, h7⟩ := u_known (n := 3) hts in_X7 (hts _ q261)
  obtain ⟨c8, i8, h8⟩ := u_known (n := 3) hts in_X8 (hts _ q273)
  obtain ⟨c9, i9, h9⟩ := u_known (n := 2) hts in_X9 (hts _ q285)
  obtain ⟨c10, i10, h10⟩ := u_known (n := 28) hts in_X10 (hts _ q801)
  obtain ⟨c11, i11, h11⟩ := u_known (n := 6) hts in_X11 (hts _ q371)
  obtain ⟨c12, i12, h12⟩ := u_known (n := 7) hts in_X12 (hts _ q476)
  obtain ⟨d0, k0, p0, e0, f0, g0⟩ := Cond.arrayClass_spec (hts _ q150)
  obtain ⟨d1, k1, p1, e1, f1, g1⟩ := Cond.arrayClass_spec (hts _ q237)
  obtain ⟨d2, k2, p2, e2, f2, g2⟩ := Cond.arrayClass_spec (hts _ q891)
  obtain ⟨d3, k3, p3, e3, f3, g3⟩ := Cond.arrayClass_spec (hts _ q892)
  obtain ⟨p4, d4, k4, a4, -, f4, g4, e4⟩ := Cond.arrayOver_spec (hts0 _ q158)
  obtain ⟨p5, d5, k5, a5, -, f5, g5, e5⟩ := Cond.arrayOver_spec (hts0 _ q225)
  obtain ⟨p6, d6, k6, a6, -, f6, g6, e6⟩ := Cond.arrayOver_spec (hts0 _ q227)
  refine ⟨(fun k => ([c0, c1, c2, c3, c4, c5, c6, c7, c8, c9, c10, c11, c12] : List ClassId).getD k c0, fun k => ([i0, i1, i2, i3, i4, i5, i6, i7, i8, i9, i10, i11, i12] : List (Nat → Nat)).getD k i0), fun k => ([d0, d1, d2, d3, d4, d5, d6] : List ClassId).getD k d0, ?_, ?_⟩
  · intro c q h
    match c, h with
    | 0, h => cases h; exact h0
    | 1, h => cases h; exact h1
    | 2, h => cases h; exact h2
    | 3, h => cases h; exact h3
    | 4, h => cases h; exact h4
    | 5, h => cases h; exact h5
    | 6, h => cases h; exact h6
    | 7, h => cases h; exact h7
    | 8, h => cases h; exact h8
    | 9, h => cases h; exact h9
    | 10, h => cases h; exact h10
    | 11, h => cases h; exact h11
    | 12, h => cases h; exact h12
    | n + 13, h => cases h
  · intro c q h
    match c, h with
    | 0, h => cases h; exact ⟨fun N z => ⟨(fun k h => by cases h), k0, f0, p0, g0⟩, e0⟩
    | 1, h => cases h; exact ⟨fun N z => ⟨(fun k h => by cases h), k1, f1, p1, g1⟩, e1⟩
    | 2, h => cases h; exact ⟨fun N z => ⟨(fun k h => by cases h), k2, f2, p2, g2⟩, e2⟩
    | 3, h => cases h; exact ⟨fun N z => ⟨(fun k h => by cases h), k3, f3, p3, g3⟩, e3⟩
    | 4, h => cases h; exact ⟨fun N z => ⟨(fun k h => by cases h), k4, f4, p4, g4⟩, ⟨k4, p4, f4, g4, a4, e4⟩⟩
    | 5, h => cases h; exact ⟨fun N z => ⟨(fun k h => by cases h), k5, f5, p5, g5⟩, ⟨k5, p5, f5, g5, a5, e5⟩⟩
    | 6, h => cases h; exact ⟨fun N z => ⟨(fun k h => by cases h), k6, f6, p6, g6⟩, ⟨k6, p6, f6, g6, a6, e6⟩⟩
    | n + 7, h => cases h

set_option maxHeartbeats 8000000 in
theorem ent_SX {s : State} {b : Nat} (hts0 : ∀ w ∈ lw_tbl, w.before #[Value.ref b] s = true) (hgv : (Jvm.Cond.and given_1 narrow_1).before #[Value.ref b] s = true) : ∃ (adK adV : Nat → Nat) (tW : Nat), SX adK adV tW (fun q => s.heap.size ≤ q) s s.heap := by
  have hts : ∀ w ∈ lw_all, w.before #[Value.ref b] s = true := fun w h => hts0 w (lw_all_tbl h)
  have fl := flat_of_before _ hgv
  have hA : ∀ a : Nat, a < s.heap.size → ¬ (fun q => s.heap.size ≤ q) a := fun a h q => absurd h (Nat.not_lt.mpr q)
  obtain ⟨adK, adV, hK, hev⟩ := vk_Sof (args := #[Value.ref b]) (s := s) (N := 3) (tm := fun i => Term.string "SleeveSlips" (296 + 2 * i)) (len := SLEN) (byt := SBYT) (A := (fun q => s.heap.size ≤ q)) (fun i hi => match i, hi with | 0, _ => by decide | 1, _ => by decide | 2, _ => by decide) (fun i hi => match i, hi with | 0, _ => (fl (Cond.exactly (Term.string "SleeveSlips" 296) "java/lang/String") (by decide +kernel)) | 1, _ => (fl (Cond.exactly (Term.string "SleeveSlips" 298) "java/lang/String") (by decide +kernel)) | 2, _ => (fl (Cond.exactly (Term.string "SleeveSlips" 300) "java/lang/String") (by decide +kernel))) (fun i hi => match i, hi with | 0, _ => (fl (Cond.eq (Term.field (Term.string "SleeveSlips" 296) "java/lang/String" "coder" "B") (Term.int 0)) (by decide +kernel)) | 1, _ => (fl (Cond.eq (Term.field (Term.string "SleeveSlips" 298) "java/lang/String" "coder" "B") (Term.int 0)) (by decide +kernel)) | 2, _ => (fl (Cond.eq (Term.field (Term.string "SleeveSlips" 300) "java/lang/String" "coder" "B") (Term.int 0)) (by decide +kernel))) (fun i hi => match i, hi with | 0, _ => (fl (Cond.arrayOf (Term.field (Term.string "SleeveSlips" 296) "java/lang/String" "value" "[B") FieldType.byte) (by decide +kernel)) | 1, _ => (fl (Cond.arrayOf (Term.field (Term.string "SleeveSlips" 298) "java/lang/String" "value" "[B") FieldType.byte) (by decide +kernel)) | 2, _ => (fl (Cond.arrayOf (Term.field (Term.string "SleeveSlips" 300) "java/lang/String" "value" "[B") FieldType.byte) (by decide +kernel))) (fun i hi => match i, hi with | 0, _ => (fl (Cond.eq (Term.length (Term.field (Term.string "SleeveSlips" 296) "java/lang/String" "value" "[B")) (Term.int 6)) (by decide +kernel)) | 1, _ => (fl (Cond.eq (Term.length (Term.field (Term.string "SleeveSlips" 298) "java/lang/String" "value" "[B")) (Term.int 3)) (by decide +kernel)) | 2, _ => (fl (Cond.eq (Term.length (Term.field (Term.string "SleeveSlips" 300) "java/lang/String" "value" "[B")) (Term.int 5)) (by decide +kernel))) (fun i hi => match i, hi with | 0, _ => (fun j hj => match j, hj with | 0, _ => (fl (Cond.eq (Term.elem (Term.field (Term.string "SleeveSlips" 296) "java/lang/String" "value" "[B") (Term.int 0)) (Term.int 112)) (by decide +kernel)) | 1, _ => (fl (Cond.eq (Term.elem (Term.field (Term.string "SleeveSlips" 296) "java/lang/String" "value" "[B") (Term.int 1)) (Term.int 101)) (by decide +kernel)) | 2, _ => (fl (Cond.eq (Term.elem (Term.field (Term.string "SleeveSlips" 296) "java/lang/String" "value" "[B") (Term.int 2)) (Term.int 114)) (by decide +kernel)) | 3, _ => (fl (Cond.eq (Term.elem (Term.field (Term.string "SleeveSlips" 296) "java/lang/String" "value" "[B") (Term.int 3)) (Term.int 115)) (by decide +kernel)) | 4, _ => (fl (Cond.eq (Term.elem (Term.field (Term.string "SleeveSlips" 296) "java/lang/String" "value" "[B") (Term.int 4)) (Term.int 111)) (by decide +kernel)) | 5, _ => (fl (Cond.eq (Term.elem (Term.field (Term.string "SleeveSlips" 296) "java/lang/String" "value" "[B") (Term.int 5)) (Term.int 110)) (by decide +kernel))) | 1, _ => (fun j hj => match j, hj with | 0, _ => (fl (Cond.eq (Term.elem (Term.field (Term.string "SleeveSlips" 298) "java/lang/String" "value" "[B") (Term.int 0)) (Term.int 97)) (by decide +kernel)) | 1, _ => (fl (Cond.eq (Term.elem (Term.field (Term.string "SleeveSlips" 298) "java/lang/String" "value" "[B") (Term.int 1)) (Term.int 115)) (by decide +kernel)) | 2, _ => (fl (Cond.eq (Term.elem (Term.field (Term.string "SleeveSlips" 298) "java/lang/String" "value" "[B") (Term.int 2)) (Term.int 107)) (by decide +kernel))) | 2, _ => (fun j hj => match j, hj with | 0, _ => (fl (Cond.eq (Term.elem (Term.field (Term.string "SleeveSlips" 300) "java/lang/String" "value" "[B") (Term.int 0)) (Term.int 104)) (by decide +kernel)) | 1, _ => (fl (Cond.eq (Term.elem (Term.field (Term.string "SleeveSlips" 300) "java/lang/String" "value" "[B") (Term.int 1)) (Term.int 97)) (by decide +kernel)) | 2, _ => (fl (Cond.eq (Term.elem (Term.field (Term.string "SleeveSlips" 300) "java/lang/String" "value" "[B") (Term.int 2)) (Term.int 110)) (by decide +kernel)) | 3, _ => (fl (Cond.eq (Term.elem (Term.field (Term.string "SleeveSlips" 300) "java/lang/String" "value" "[B") (Term.int 3)) (Term.int 103)) (by decide +kernel)) | 4, _ => (fl (Cond.eq (Term.elem (Term.field (Term.string "SleeveSlips" 300) "java/lang/String" "value" "[B") (Term.int 4)) (Term.int 115)) (by decide +kernel)))) (fun i j hi hj hne => match i, j, hi, hj, hne with | 0, 0, _, _, hne => absurd rfl hne | 0, 1, _, _, hne => Or.inl (fl (Cond.not (Cond.eq (Term.string "SleeveSlips" 296) (Term.string "SleeveSlips" 298))) (by decide +kernel)) | 0, 2, _, _, hne => Or.inl (fl (Cond.not (Cond.eq (Term.string "SleeveSlips" 296) (Term.string "SleeveSlips" 300))) (by decide +kernel)) | 1, 0, _, _, hne => Or.inr (fl (Cond.not (Cond.eq (Term.string "SleeveSlips" 296) (Term.string "SleeveSlips" 298))) (by decide +kernel)) | 1, 1, _, _, hne => absurd rfl hne | 1, 2, _, _, hne => Or.inl (fl (Cond.not (Cond.eq (Term.string "SleeveSlips" 298) (Term.string "SleeveSlips" 300))) (by decide +kernel)) | 2, 0, _, _, hne => Or.inr (fl (Cond.not (Cond.eq (Term.string "SleeveSlips" 296) (Term.string "SleeveSlips" 300))) (by decide +kernel)) | 2, 1, _, _, hne => Or.inr (fl (Cond.not (Cond.eq (Term.string "SleeveSlips" 298) (Term.string "SleeveSlips" 300))) (by decide +kernel)) | 2, 2, _, _, hne => absurd rfl hne) hA
  obtain ⟨tW, hW1, hW2⟩ := va_Tof (args := #[Value.ref b]) (s := s) (tm := (Term.static "SleeveSlips" "WORDS" "[Ljava/lang/String;")) (ty := FieldType.object "java/lang/String") (N := 3) (f := fun j => .ref (adK j)) (A := (fun q => s.heap.size ≤ q)) (by decide) (fl (Cond.arrayOf (Term.static "SleeveSlips" "WORDS" "[Ljava/lang/String;") (FieldType.object "java/lang/String")) (by decide +kernel)) (Cond.eq_int (fl (Cond.eq (Term.length (Term.static "SleeveSlips" "WORDS" "[Ljava/lang/String;")) (Term.int 3)) (by decide +kernel)) rfl) (fun j hj => match j, hj with | 0, _ => Cond.eq_refs (fl (Cond.eq (Term.elem (Term.static "SleeveSlips" "WORDS" "[Ljava/lang/String;") (Term.int 0)) (Term.string "SleeveSlips" 296)) (by decide +kernel)) (hev 0 (by decide)) rfl | 1, _ => Cond.eq_refs (fl (Cond.eq (Term.elem (Term.static "SleeveSlips" "WORDS" "[Ljava/lang/String;") (Term.int 1)) (Term.string "SleeveSlips" 298)) (by decide +kernel)) (hev 1 (by decide)) rfl | 2, _ => Cond.eq_refs (fl (Cond.eq (Term.elem (Term.static "SleeveSlips" "WORDS" "[Ljava/lang/String;") (Term.int 2)) (Term.string "SleeveSlips" 300)) (by decide +kernel)) (hev 2 (by decide)) rfl) hA
  exact ⟨adK, adV, tW, hK, va_Zof (hts0 _ q425) (hts _ q61) (Cond.eq_int (fl (Cond.eq (Term.static "java/lang/String" "COMPACT_STRINGS" "Z") (Term.int 1)) (by decide +kernel)) rfl) hA, va_Zqof (hts0 _ q441) (hts _ q63) (fl (Cond.isRef (Term.static "jdk/internal/util/Preconditions" "SIOOBE_FORMATTER" "Ljava/util/function/BiFunction;")) (by decide +kernel)) hA, va_Zof (hts0 _ q411) (hts _ q48) hW1 hA, hW2, va_Zqof (hts0 _ q502) (hts _ q66) (fl (Cond.isRef (Term.static "java/lang/Throwable" "UNASSIGNED_STACK" "[Ljava/lang/StackTraceElement;")) (by decide +kernel)) hA, va_Zqof (hts0 _ q504) (hts _ q66) (fl (Cond.isRef (Term.static "java/lang/Throwable" "SUPPRESSED_SENTINEL" "Ljava/util/List;")) (by decide +kernel)) hA⟩

set_option maxHeartbeats 8000000 in
theorem whole_pre {RR : RRT} (hLS : LawSteps RR) (h0 : RR (fun _ => 0) (fun _ => 0) (fun _ => 0) (fun _ => 0) (fun _ => 0) (fun _ => 0) (fun _ => 0) (fun _ => 0) (fun _ => 0) 0 0 0 0 (fun _ => 0) (fun _ _ => 0) (fun _ => 0) (fun _ => 0) (fun _ => 0) (fun _ => 0) (fun _ => 0) (fun _ => 0) 0 0 0 0 0 (fun _ => 0) 0 (fun _ => 0) 0 (fun _ => 0) (fun _ => 0) (fun _ => 0) (fun _ => 0) 0 (fun _ => 0) (fun _ _ => 0) (fun _ => 0) (fun _ => 0) (fun _ => 0) (fun _ => 0) (fun _ => 0) (fun _ => 0) 0 0 0 0 0 (fun _ => 0) (fun _ _ => 0) (fun _ => 0) (fun _ => 0) (fun _ => 0) (fun _ => 0) (fun _ => 0) (fun _ => 0) 0 0 0 0 0 (fun _ => 0) (fun _ => 0) 0 (fun _ => 0) (fun _ => 0) (fun _ => 0) 0 (fun _ => 0) 0 (fun _ => 0) (fun _ => 0) (fun _ => 0) (fun _ => 0) 0 (fun _ => 0) 0 0 0 0 0 (fun _ => 0) 0 (fun _ => 0) 0 (fun _ => 0) (fun _ => 0) (fun _ => 0) (fun _ => 0)) {p : Program} {e : Env} {s : State} {m : MethodId} {below : List Frame} {meth : Method} {c : Code} (l : Launch) {b L : Nat} {xs : Nat → Int32} (hL : L ≤ 320) (C0 : lw_At p s m meth c b L xs) : W p l e room_1 s m #[Value.ref b] below meth c s.heap [] 0 0 (lw_Z below #[Value.ref b] s) (entryFrame m ([Value.ref b] : List Value).toArray 4) := by
  obtain ⟨hx, hb, hr, hml, hown, hts0, hX, hbl, hlocks, hgv⟩ := C0
  have hts : ∀ w ∈ lw_all, w.before #[Value.ref b] s = true := fun w h => hts0 w (lw_all_tbl h)
  have hNX := ent_NX hts0
  have hNC := ent_NCX hts0
  obtain ⟨D, d, hK⟩ := ent_K hts0
  obtain ⟨adK, adV, tW, hSX⟩ := ent_SX hts0 hgv
  have hA : ∀ q, s.heap.size ≤ q → (fun q => s.heap.size ≤ q) q := fun q h => h
  have hC : HC D gcl (gty d) (fun q => s.heap.size ≤ q) [] s s.heap [] := ⟨hK, (fun k q h => by cases h), ⟨(fun i j p q h => by cases h), (fun k q h => by cases h)⟩, va_S.rf⟩
  have hl := lv_entry [Value.ref b] (n := 4) (Nat.le_of_ble_eq_true rfl)
  rw [lg_entry_eq]
  generalize (lg_sl [Value.ref b] ++ List.replicate (4 - (lg_sl [Value.ref b]).length) Slot.unset).toArray = ls at hl ⊢
  have hl : lv_has ls 4 [(0, .ref b)] := hl
  refine va_new (ci := 0) (fs := [.null, .null, .null, .null, .int 0, .null, .int 0, .null, .null, .null, .null, .long 0, .null]) (C := RX0) (T := TX0) (N := 13) hx hb hts in_X0 tyX0 tyX0_ok hown (hts _ q72) (hts _ q73) (hts _ q48) hC.1 hC.2.1 hC.2.2.1 hC.2.2.2 hA rfl (fun j hj => match j, hj with | 0, _ => rfl | 1, _ => rfl | 2, _ => rfl | 3, _ => rfl | 4, _ => rfl | 5, _ => rfl | 6, _ => rfl | 7, _ => rfl | 8, _ => rfl | 9, _ => rfl | 10, _ => rfl | 11, _ => rfl | 12, _ => rfl) (Nat.le_of_ble_eq_true rfl) (Nat.le_of_ble_eq_true rfl) dL_law_0 (fun q1 H hP hD hS => ?_)
  have hC : HC D gcl (gty d) (fun q => s.heap.size ≤ q) (([] : va_W) ++ ([(q1, .inr (0, [.null, .null, .null, .null, .int 0, .null, .int 0, .null, .null, .null, .null, .long 0, .null]))] ++ [])) s H _ := ⟨hC.1, hP, hD, hS⟩
  refine W.widen (k := 1) (n := 13) (Nat.le_of_ble_eq_true rfl) (Nat.le_of_ble_eq_true rfl) ?_
  refine lv_dup hx hb dL_law_3 rfl ?_
  refine hs_n (va_runI (As := []) (rest := [.ref q1]) ⟨hx, hb, hml, hown, hts⟩ c_x_new (cwI 0 hts (lw_meth q76) rfl rfl rfl (hts _ q48) (hts _ q74) (hts _ q75) rfl (by decide +kernel) ⟨(Nat.le_of_ble_eq_true rfl), (Nat.le_of_ble_eq_true rfl)⟩) (pre_SG (fun U g mk a h => ⟨NX.calling U g mk a h.1, NCX.calling U g mk a h.2⟩) (fun U _ hW => ⟨NX.warm hW hNX, NCX.warm hW hNC⟩) hC) rfl rfl hl.1 rfl (lv_room (Nat.le_of_ble_eq_true rfl)) dL_law_4 ⟨(Nat.le_of_ble_eq_true rfl), (Nat.le_of_ble_eq_true rfl)⟩) hA hC (fun u1 H locs hC => ?_)
  refine W.widen (k := 73) (n := 756) (Nat.le_of_ble_eq_true rfl) (Nat.le_of_ble_eq_true rfl) ?_
  have hC : HC D gcl (gty d) (fun q => s.heap.size ≤ q) (xw d (adr q1 (u1 0)) (u1 1) (u1 2) (iw d (adr q1 (u1 0)) (u1 3) (u1 4) (fun _ => 0) (fun _ _ => 0) (fun _ => 0) (fun _ => 0) (fun _ => 0) (fun _ => 0) (fun _ => 0) (fun _ => 0) 0 0 0 0 0 (fun _ => 0) (fun _ _ => 0) (fun _ => 0) (fun _ => 0) (fun _ => 0) (fun _ => 0) (fun _ => 0) (fun _ => 0) 0 0 0 0 0) (fun _ => 0) (fun _ => 0) (fun _ => 0) (fun _ => 0) (fun _ => 0) (fun _ => 0) (fun _ => 0) (fun _ => 0) (fun _ => 0) 0 0 0 0 (fun _ => 0) (fun _ _ => 0) (fun _ => 0) (fun _ => 0) (fun _ => 0) (fun _ => 0) (fun _ => 0) (fun _ => 0) 0 0 0 0 0 (fun _ => 0) 0 (fun _ => 0) 0 (fun _ => 0) (fun _ => 0) (fun _ => 0) (fun _ => 0) 0) s H locs := hC
  refine lv_astore_n (lv' := [(1, .ref q1), (0, .ref b)]) hx hb dL_law_7 rfl hl (by decide) rfl (fun ls hl => ?_)
  refine va_new (ci := 10) (fs := [.null, .null, .int 0, .null, .null, .null, .int 0, .null, .int 0, .null, .null, .null, .null, .int 0, .null, .int 0, .long 0, .int 0, .int 0, .int 0, .null, .int 0, .null, .int 0, .null, .null, .null, .null]) (C := RX10) (T := TX10) (N := 28) hx hb hts in_X10 tyX10 tyX10_ok hown (hts _ q800) (hts _ q801) (hts _ q59) hC.1 hC.2.1 hC.2.2.1 hC.2.2.2 hA rfl (fun j hj => match j, hj with | 0, _ => rfl | 1, _ => rfl | 2, _ => rfl | 3, _ => rfl | 4, _ => rfl | 5, _ => rfl | 6, _ => rfl | 7, _ => rfl | 8, _ => rfl | 9, _ => rfl | 10, _ => rfl | 11, _ => rfl | 12, _ => rfl | 13, _ => rfl | 14, _ => rfl | 15, _ => rfl | 16, _ => rfl | 17, _ => rfl | 18, _ => rfl | 19, _ => rfl | 20, _ => rfl | 21, _ => rfl | 22, _ => rfl | 23, _ => rfl | 24, _ => rfl | 25, _ => rfl | 26, _ => rfl | 27, _ => rfl | n + 28, h => absurd h (by omega)) (Nat.le_of_ble_eq_true rfl) (Nat.le_of_ble_eq_true rfl) dL_law_8 (fun q2 H hP hD hS => ?_)
  have hC : HC D gcl (gty d) (fun q => s.heap.size ≤ q) ((xw d (adr q1 (u1 0)) (u1 1) (u1 2) (iw d (adr q1 (u1 0)) (u1 3) (u1 4) (fun _ => 0) (fun _ _ => 0) (fun _ => 0) (fun _ => 0) (fun _ => 0) (fun _ => 0) (fun _ => 0) (fun _ => 0) 0 0 0 0 0 (fun _ => 0) (fun _ _ => 0) (fun _ => 0) (fun _ => 0) (fun _ => 0) (fun _ => 0) (fun _ => 0) (fun _ => 0) 0 0 0 0 0) (fun _ => 0) (fun _ => 0) (fun _ => 0) (fun _ => 0) (fun _ => 0) (fun _ => 0) (fun _ => 0) (fun _ => 0) (fun _ => 0) 0 0 0 0 (fun _ => 0) (fun _ _ => 0) (fun _ => 0) (fun _ => 0) (fun _ => 0) (fun _ => 0) (fun _ => 0) (fun _ => 0) 0 0 0 0 0 (fun _ => 0) 0 (fun _ => 0) 0 (fun _ => 0) (fun _ => 0) (fun _ => 0) (fun _ => 0) 0) ++ ([(q2, .inr (10, [.null, .null, .int 0, .null, .null, .null, .int 0, .null, .int 0, .null, .null, .null, .null, .int 0, .null, .int 0, .long 0, .int 0, .int 0, .int 0, .null, .int 0, .null, .int 0, .null, .null, .null, .null]))] ++ [])) s H _ := ⟨hC.1, hP, hD, hS⟩
  refine W.widen (k := 74) (n := 784) (Nat.le_of_ble_eq_true rfl) (Nat.le_of_ble_eq_true rfl) ?_
  refine lv_dup hx hb dL_law_11 rfl ?_
  refine hs_n (va_runI (As := []) (rest := [.ref q2]) ⟨hx, hb, hml, hown, hts⟩ c_m_new (cwI 0 hts (lw_meth q804) rfl rfl rfl (hts _ q59) (hts _ q802) (hts _ q803) rfl (by decide +kernel) ⟨(Nat.le_of_ble_eq_true rfl), (Nat.le_of_ble_eq_true rfl)⟩) (pre_SG NX.calling (fun U _ hW => NX.warm hW hNX) hC) rfl rfl hl.1 rfl (lv_room (Nat.le_of_ble_eq_true rfl)) dL_law_12 ⟨(Nat.le_of_ble_eq_true rfl), (Nat.le_of_ble_eq_true rfl)⟩) hA hC (fun u2 H locs hC => ?_)
  refine W.widen (k := 91 + 12 * 0) (n := 1563 + 86 * 0) (Nat.le_of_ble_eq_true rfl) (Nat.le_of_ble_eq_true rfl) ?_
  refine lv_astore_n (lv' := [(2, .ref q2), (1, .ref q1), (0, .ref b)]) hx hb dL_law_15 rfl hl (by decide) rfl (fun ls hl => ?_)
  refine lv_iconst (v := 0) hx hb dL_law_16 (by decide) ?_
  refine lv_istore_n (lv' := [(3, .int 0), (2, .ref q2), (1, .ref q1), (0, .ref b)]) hx hb dL_law_17 rfl hl (by decide) rfl (fun ls hl => ?_)
  exact law_loop (ad := adr q1 (u1 0)) (mad := adr q2 (u2 0)) (ta := u1 2) (i0 := u1 3) (i1 := u1 4) hLS hL hx hb hr hlocks hml hown hts hNX hSX hX hbl 64 0 (by omega) (by omega) (u1 1) (fun _ => 0) (fun _ => 0) (fun _ => 0) (fun _ => 0) (fun _ => 0) (fun _ => 0) (fun _ => 0) (fun _ => 0) (fun _ => 0) 0 0 0 0 (fun _ => 0) (fun _ _ => 0) (fun _ => 0) (fun _ => 0) (fun _ => 0) (fun _ => 0) (fun _ => 0) (fun _ => 0) 0 0 0 0 0 (fun _ => 0) 0 (fun _ => 0) 0 (fun _ => 0) (fun _ => 0) (fun _ => 0) (fun _ => 0) 0 (fun _ => 0) (fun _ _ => 0) (fun _ => 0) (fun _ => 0) (fun _ => 0) (fun _ => 0) (fun _ => 0) (fun _ => 0) 0 0 0 0 0 (fun _ => 0) (fun _ _ => 0) (fun _ => 0) (fun _ => 0) (fun _ => 0) (fun _ => 0) (fun _ => 0) (fun _ => 0) 0 0 0 0 0 (fun _ => 0) (fun _ => 0) 0 (fun _ => 0) (fun _ => 0) (fun _ => 0) 0 (fun _ => 0) 0 (fun _ => 0) (fun _ => 0) (fun _ => 0) (fun _ => 0) 0 (fun _ => 0) 0 0 0 0 0 (fun _ => 0) 0 (fun _ => 0) 0 (fun _ => 0) (fun _ => 0) (fun _ => 0) (fun _ => 0) h0 H locs ls hC hl
