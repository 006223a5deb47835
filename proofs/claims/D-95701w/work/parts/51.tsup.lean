/-! SUPPORT for a method with handlers: its contract (an int answer, cells made), the call of it -/
set_option maxRecDepth 100000
abbrev MIN (l : Launch) (y : MethodName) (wsy : List Cond) (rm : Room) (D : va_G) (cl : List vw_C) (tys : List (ClassId × FieldType)) (N : State → Prop) (ws : va_W) (ws' : (Nat → Nat → Nat) → va_W) (sz : Nat) (av : List Value) (r : Int32) (mc ms : Nat) : Prop := Met l y wsy rm (va_Pc av (fun U => U.heap.size = sz ∧ N U ∧ HW D cl tys (fun _ => True) ws U)) (va_Qi (fun (r' : Int32) (_ : Nat → Nat → Nat) => r' = r) (fun u t => HW D cl tys (va_A ws sz) (ws' u) t) (va_A ws sz)) mc ms (va_A ws sz)
section MIW
variable {l : Launch} {D : va_G} {cl : List vw_C} {tys : List (ClassId × FieldType)} {ws : va_W} {ws' : (Nat → Nat → Nat) → va_W} {N : State → Prop} {y : MethodName} {cc : ByteArray} {maxL sz mc ms : Nat} {rm : Room} {hh : List (Nat × Nat × Nat × Nat)}
abbrev WalkIW (l : Launch) (D : va_G) (cl : List vw_C) (tys : List (ClassId × FieldType)) (N : State → Prop) (ws : va_W) (ws' : (Nat → Nat → Nat) → va_W) (y : MethodName) (cc : ByteArray) (maxL : Nat) (rm : Room) (av : List Value) (lv : List (Nat × Value)) (mc ms : Nat) (hh : List (Nat × Nat × Nat × Nat)) (nr : Prop) (r : Int32) : Prop :=
  ∀ (p : Program) (e : Env) (s : State) (m : MethodId) (below : List Frame) (meth : Method) (c : Code) (ls : Array Slot) (Q : State → Prop), p.tables.exec = Jvm.exec → c.code = cc → c.maxLocals = maxL → s.vm.findClass y.cls = some m.cls → (∀ w ∈ lw_all, w.before av.toArray s = true) → N s → (∀ q, s.heap.size ≤ q → va_A ws s.heap.size q) → HC D cl tys (va_A ws s.heap.size) ws s s.heap [] → lv_has ls maxL lv → List.map (fun h => (h.startPc, h.endPc, h.handlerPc, h.catchType)) c.exceptionTable.toList = hh →
    (∀ (u : Nat → Nat → Nat) (H : Heap) (locs : List Loc) (ls : Array Slot) (pc : Nat), nr → HC D cl tys (va_A ws s.heap.size) (ws' u) s H locs → decode cc pc = .ok (.ireturn, 1) → W p l e rm s m av.toArray below meth c H locs mc ms Q (F0 m pc ls [.int r])) → W p l e rm s m av.toArray below meth c s.heap [] 0 0 Q (F0 m 0 ls [])
theorem MIN.ofW {ret : FieldType} {r : Int32} (hy : plainName y.cls = true) (av : List Value) (lv : List (Nat × Value)) (hav : (lg_sl av).length ≤ maxL) (hlv : lv_args 0 av = lv) (walk : WalkIW l D cl tys N ws ws' y cc maxL rm av lv mc ms hh (narrow ret (.int r) = .int r) r) : MIN l y (wsW_ y cc maxL (some ret) hh) rm D cl tys N ws ws' sz av r mc ms := by
  refine va_MetW (cc := cc) (maxL := maxL) (ret := some ret) (hh := hh) hy rfl ?_
  intro p e s m args below meth c s₁ B hml hv
  obtain ⟨rfl, hsz, hN, hK, hP, hD0⟩ := hv
  subst hsz
  have hts0 := atoms_spec (ws := wsW_ y cc maxL (some ret) hh) B.pre
  have hts : ∀ w ∈ lw_all, w.before av.toArray s = true := fun w h => hts0 w (List.mem_cons_of_mem _ h)
  have htab : List.map (fun h => (h.startPc, h.endPc, h.handlerPc, h.catchType)) c.exceptionTable.toList = hh := by
    obtain ⟨m9, meth9, c9, h1, h2, h3, -, -, h4, -⟩ := Cond.codeWith_spec (hts0 _ List.mem_cons_self)
    cases B.named.symm.trans h1
    cases B.method.symm.trans h2
    have h5 := B.here.code
    rw [State.code?_eq, B.state] at h5
    have h6 : (s.vm.method? m).bind (fun z => z.code) = some c := h5
    rw [B.method] at h6
    have h7 : meth.code = some c := h6
    cases h3.symm.trans h7
    exact h4
  have hl := lv_entry av (n := maxL) hav
  rw [lg_entry_eq]
  generalize (lg_sl av ++ List.replicate (maxL - (lg_sl av).length) Slot.unset).toArray = ls at hl ⊢
  rw [hlv] at hl
  have hlocks := B.notSynchronized
  exact walk p e s m below meth c ls _ B.exec B.bytes hml (findClass_of_methodNamed B.named) hts hN (fun q h => Or.inr h) ⟨hK, hP, hD0.self, va_S.rf⟩ hl htab (fun u H locs ls pc hn hC hdg => W.zret B.exec B.bytes B.returns hn (fun t ht hW => ⟨⟨r, u, rfl, rfl, va_K.moved hW.alike hC.1, by rw [ht]; exact hC.2.1, hC.2.2.1⟩, hC.2.2.2.F ht⟩) hC.2.2.2.2.2 hdg)
end MIW
section RVW
variable {p : Program} {l : Launch} {e : Env} {R : Room} {s : State} {m : MethodId} {args : Array Value} {below : List Frame} {meth : Method} {c : Code} {H : Heap} {locs : List Loc} {cells slots : Nat} {Q : State → Prop}
variable {y : MethodName} {bytes cc : ByteArray} {maxL nL mc ms n index : Nat} {ret : Option FieldType} {ws : List Cond} {rm : Room} {Pc : Array Value → State → Prop} {Qc : Array Value → State → Outcome → State → Prop} {free : Addr → Prop} {Ts : List Cond} {own C : String} {b : Addr} {As rest : List Value} {g : JFrame} {hh : List (Nat × Nat × Nat × Nat)}
theorem va_runVW (S : CallFix p m c cc nL s args Ts own) (hM : Met l y ws rm Pc Qc mc ms free) (hrc : rm.cells = mc) (hrs : rm.slots = ms) (hfr : rm.frames + 1 ≤ R.frames) (hlo : 8 + (maxL + 11) + rm.locals ≤ R.locals) (hG : GoodIn Ts ws) (hcw : Cond.codeWith y bytes maxL ret hh ∈ ws) (hini : (Cond.initialized y.cls).before args s = true) (hy : y.cls ≠ "java/lang/invoke/MethodHandle" ∧ y.cls ≠ "java/lang/invoke/VarHandle") (hlen : (parseMethodDescriptor y.desc).map (fun d => d.parameters.length) = some n) (hl : (Cond.methodLink own index y).before args s = true) (hin : (Cond.instanceMethod y).before args s = true) (hse : (Cond.selects C y y).before args s = true) (hp : PreV s H C b Pc As)
    (hg : g.method = m) (hn : As.length = n) (hsize : g.locals.size = nL) (hstack : g.stack = As.reverse ++ .ref b :: rest) (hW : 2 * g.monitorRoom + (rest.map fun v => v.category).sum ≤ 8) (hdg : decode cc g.pc = .ok (.invokevirtual index, 3)) (hf : cells + mc ≤ R.cells ∧ slots + ms ≤ R.slots) :
    va_Run p l e R s m args below meth c H locs cells slots mc ms g rest (Qc (Value.ref b :: As).toArray) (free) := by
  obtain ⟨hx, hb, hml, ho, hts⟩ := S
  have hK : Back l R p e below s args y 3 8 (PreOf R mc ms Pc) (PostOf Qc mc ms free) := va_backW (hh := hh) (bytes := bytes) (maxL := maxL) (ret := ret) hM hp.1 hrc hrs hfr hlo (pay_in hts hG) hcw (fun a' U hW => word_at hW (Or.inl (by first | rfl | simp [Cond.onTables, Cond.keeps, Cond.steady])) hini)
  obtain ⟨-, ⟨cellB, hcB, hoB, hclB⟩, hPc⟩ := hp
  intro T hT X
  obtain ⟨mk, methM, hnamed, hmethM, hstM, habM⟩ := Cond.instanceMethod_spec hin
  obtain ⟨m9, meth9, c9, hn9, hm9, -, -, -, -, -, -, hsigM⟩ := Cond.codeWith_spec (hts _ (hG _ hcw).1)
  cases hnamed.symm.trans hn9
  cases hmethM.symm.trans hm9
  obtain ⟨c2, r2, m2, q1, q2, q3, q4, kP, hkP, hkPi⟩ := Cond.selects_spec hse
  cases hclB.symm.trans q1
  cases (State.methodFound?_of_named hnamed hy).symm.trans q2
  cases hnamed.symm.trans q3
  have hselP : selectMethod e.platform s.vm cellB.cls mk = .method mk := by rw [Launch.admits_selectMethod X.admits]; exact q4
  have hlen2 : n = methM.sig.parameters.length := by
    rw [hsigM] at hlen
    exact (Option.some.inj hlen).symm
  obtain ⟨vm₁, X₁, hstep₁⟩ := X.invokevirtual hx ho hl hnamed hmethM hstM hkP hkPi hy (a := b) (cell := cellB) (by rw [hT]; exact hcB)
    (fun z h => by rw [h] at hoB; cases hoB) hselP hmethM habM hkP hkPi (g := g) hg (argsL := As) (rest := rest) (hn.trans hlen2) hstack (by rw [hb]; exact hdg)
  obtain ⟨v, ⟨U', l2, c2, s2⟩, X', ⟨g', mk', t, L, e1, e2, hq, h1, hL, h2, h3⟩, hsteps⟩ := hK m meth c ⟨T.setVm vm₁, locs, cells, slots⟩ { g with stack := rest } (.invokevirtual index) mk (Value.ref b :: As).toArray X₁ hg (hsize.trans hml.symm) (by rw [hb]; exact hdg) hW (X₁.named hnamed) ⟨hf.1, hf.2, hPc (T.setVm vm₁) hT X₁.warmed⟩
  dsimp only [Pt.U, Pt.locs, Pt.cells, Pt.slots] at X' e1 e2 h1 h2 h3 hsteps
  subst h1; subst h2; subst h3
  exact ⟨v, (T.setVm vm₁).calling g' mk' (Value.ref b :: As).toArray, t, U', L, hT, X', hL, e1, e2, hq, fun target h => hstep₁ _ fun acts => by rw [doInvoke_state]; exact hsteps.trans h⟩
end RVW
section HSIN
variable {p : Program} {l : Launch} {e : Env} {R : Room} {s : State} {m : MethodId} {args : Array Value} {below : List Frame} {meth : Method} {c : Code} {H : Heap} {locs : List Loc} {cells slots : Nat} {Q : State → Prop}
variable {D : va_G} {cl : List vw_C} {tys tysc : List (ClassId × FieldType)} {A : Nat → Prop} {ws pre mid post : va_W} {mid' : (Nat → Nat → Nat) → va_W} {N : State → Prop} {pc mc ms : Nat} {ls : Array Slot} {rest st0 : List Value} {a : Array Value} {r : Int32}
theorem hs_in (hr : va_Run p l e R s m args below meth c H locs cells slots mc ms (F0 m pc ls st0) rest (va_Qi (fun (r' : Int32) (_ : Nat → Nat → Nat) => r' = r) (fun u t => HW D cl tysc (va_A mid H.size) (mid' u) t) (va_A mid H.size) a) (va_A mid H.size)) (hA : ∀ q, s.heap.size ≤ q → A q) (hC : HC D cl tys A (pre ++ (mid ++ post)) s H locs) (kk : ∀ (u : Nat → Nat → Nat) (H1 : Heap) (locs1 : List Loc), HC D cl tys A (pre ++ (mid' u ++ post)) s H1 locs1 → W p l e R s m args below meth c H1 locs1 (cells + mc) (slots + ms) Q (F0 m (pc + 3) ls (.int r :: rest))) : W p l e R s m args below meth c H locs cells slots Q (F0 m pc ls st0) := by
  have hF := seg_free hC.2.2.1 hC.2.2.2 hA
  refine va_calli hr hC.2.2.2 (fun q _ h => hF q h) hF (fun r1 u t H1 locs1 ht hvm hp hB hz hk hS => ?_)
  subst hp
  obtain ⟨hK1, hP1, hD1⟩ := hB
  rw [ht] at hP1
  obtain ⟨hP2, hD2⟩ := seg_join hC.2.1 hC.2.2.1 hk hF hP1 hD1
  exact kk u H1 locs1 ⟨hC.1, hP2, hD2, hS⟩
theorem hs_l {mid2 : va_W} {r : Int64} (hr : va_Run p l e R s m args below meth c H locs cells slots 0 0 (F0 m pc ls st0) rest (va_Ql (fun (r' : Int64) (_ : Unit) => r' = r) (fun _ t => HW D cl tysc (va_A mid H.size) mid2 t) (va_A mid H.size) a) (va_A mid H.size)) (hA : ∀ q, s.heap.size ≤ q → A q) (hC : HC D cl tys A (pre ++ (mid ++ post)) s H locs) (kk : ∀ (H1 : Heap) (locs1 : List Loc), HC D cl tys A (pre ++ (mid2 ++ post)) s H1 locs1 → W p l e R s m args below meth c H1 locs1 cells slots Q (F0 m (pc + 3) ls (.long r :: rest))) : W p l e R s m args below meth c H locs cells slots Q (F0 m pc ls st0) := by
  have hF := seg_free hC.2.2.1 hC.2.2.2 hA
  refine va_calll hr hC.2.2.2 (fun q _ h => hF q h) hF (fun r1 u t H1 locs1 ht hvm hp hB hz hk hS => ?_)
  subst hp
  obtain ⟨hK1, hP1, hD1⟩ := hB
  rw [ht] at hP1
  obtain ⟨hP2, hD2⟩ := seg_join hC.2.1 hC.2.2.1 hk hF hP1 hD1
  exact kk H1 locs1 ⟨hC.1, hP2, hD2, hS⟩
end HSIN
