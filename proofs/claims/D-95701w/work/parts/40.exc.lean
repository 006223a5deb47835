/-! EXCEPTIONS: methods that throw, calls of them, out of the method or into its handler -/
set_option maxRecDepth 100000
def FEX (first t : State) (L : List Loc) (k n : Nat) : Prop := first.WarmedH t.vm ∧ first.sameButNew ({ t with vm := first.vm } : State) L k n
/-- a method that throws: x the exception's address, wt x the world behind it -/
def MT (l : Launch) (y : MethodName) (wsy : List Cond) (rm : Room) (D : va_G) (cl : List vw_C) (tys : List (ClassId × FieldType)) (N : State → Prop) (ws : va_W) (wt : Nat → va_W) (sz : Nat) (av : List Value) (mc ms : Nat) : Prop :=
  MetFree l y (headSpec wsy rm) (va_Pc av (fun U => U.heap.size = sz ∧ N U ∧ HW D cl tys (fun _ => True) ws U)) (fun _ _ _ _ _ => True)
    (fun _ st o t => ∃ x, o = .threw x ∧ HW D cl tys (va_A ws sz) (wt x) t ∧ va_F (va_A ws sz) st t ∧ ∃ L, FEX st t L mc ms ∧ ∀ q ∈ L, va_A ws sz q.base)
def WT (p : Program) (l : Launch) (e : Env) (R : Room) (s : State) (m : MethodId) (args : Array Value) (below : List Frame) (meth : Method) (c : Code) (H : Heap) (locs : List Loc) (cells slots : Nat) (Q : State → Prop) (x : Addr) : Prop :=
  ∀ T : State, T.heap = H → Stand p l e R s m args below meth c T locs cells slots → Q (T.setFrames (.throwing x :: below))
section EXW
variable {p : Program} {l : Launch} {e : Env} {R : Room} {s : State} {m : MethodId} {args : Array Value} {below : List Frame} {meth : Method} {c : Code} {H : Heap} {locs : List Loc} {cells slots : Nat} {Q : State → Prop}
theorem w_athrow {cc : ByteArray} (hexec : p.tables.exec = Jvm.exec) (hb : c.code = cc) (hne : c.exceptionTable.toList = []) (hlocks : meth.locks = false) {x pc : Nat} {ls : Array Slot} {rest : List Value} (hdg : decode cc pc = .ok (.athrow, 1)) (k : WT p l e R s m args below meth c H locs cells slots Q x) : W p l e R s m args below meth c H locs cells slots Q (F0 m pc ls (.ref x :: rest)) := by
  intro T hT X
  obtain ⟨h1, -⟩ := X.athrowLeaves hexec (g := F0 m pc ls (.ref x :: rest)) rfl rfl rfl (by rw [hne]; intro y hy; cases hy) rfl (by rw [hb]; exact hdg) hlocks
  exact ⟨_, h1, k T hT X⟩
end EXW
section EXO
variable {l : Launch} {D : va_G} {cl : List vw_C} {tys : List (ClassId × FieldType)} {ws : va_W} {wt : Nat → va_W} {N : State → Prop} {y : MethodName} {cc : ByteArray} {maxL sz mc ms : Nat} {ret : Option FieldType} {rm : Room}
abbrev WalkT (l : Launch) (D : va_G) (cl : List vw_C) (tys : List (ClassId × FieldType)) (N : State → Prop) (ws : va_W) (wt : Nat → va_W) (y : MethodName) (cc : ByteArray) (maxL : Nat) (rm : Room) (av : List Value) (lv : List (Nat × Value)) (mc ms : Nat) : Prop :=
  ∀ (p : Program) (e : Env) (s : State) (m : MethodId) (below : List Frame) (meth : Method) (c : Code) (ls : Array Slot) (Q : State → Prop), p.tables.exec = Jvm.exec → c.code = cc → c.maxLocals = maxL → s.vm.findClass y.cls = some m.cls → (∀ w ∈ lw_all, w.before av.toArray s = true) → N s → (∀ q, s.heap.size ≤ q → va_A ws s.heap.size q) → c.exceptionTable.toList = [] → meth.locks = false → HC D cl tys (va_A ws s.heap.size) ws s s.heap [] → lv_has ls maxL lv →
    (∀ (H : Heap) (locs : List Loc) (x : Addr), HC D cl tys (va_A ws s.heap.size) (wt x) s H locs → WT p l e rm s m av.toArray below meth c H locs mc ms Q x) → W p l e rm s m av.toArray below meth c s.heap [] 0 0 Q (F0 m 0 ls [])
theorem MT.of (hy : plainName y.cls = true) (av : List Value) (lv : List (Nat × Value)) (hav : (lg_sl av).length ≤ maxL) (hlv : lv_args 0 av = lv) (walk : WalkT l D cl tys N ws wt y cc maxL rm av lv mc ms) : MT l y (ws_ y cc maxL ret) rm D cl tys N ws wt sz av mc ms := by
  refine MetFree.of_bodyS (code := cc) (maxLocals := maxL) (ret := ret) hy ?_ ?_
  · intro args s m h hn
    obtain ⟨meth, c, h1, h2, h3, h4, h5, h6, -, -⟩ := Cond.code_spec hn (atoms_spec (ws := ws_ y cc maxL ret) h _ List.mem_cons_self)
    exact ⟨meth, c, h1, h2, h3, h4, h5, h6⟩
  · intro p e s m args below meth c s₁ B hml hv _
    obtain ⟨rfl, hsz, hN, hK, hP, hD0⟩ := hv
    subst hsz
    have hts0 := atoms_spec (ws := ws_ y cc maxL ret) B.pre
    have hts : ∀ w ∈ lw_all, w.before av.toArray s = true := fun w h => hts0 w (List.mem_cons_of_mem _ h)
    have hne : c.exceptionTable.toList = [] := by
      have h0 := BodyLoose.noHandlers B (hts0 _ List.mem_cons_self)
      have h1 : c.exceptionTable.size = 0 := by simpa [Array.isEmpty] using h0
      exact List.eq_nil_of_length_eq_zero (by simpa using h1)
    have hl := lv_entry av (n := maxL) hav
    have hlocks := B.notSynchronized
    have hh0 : s₁.heap = s.heap := by rw [B.state]; rfl
    have X₀ := Stand.of_body B
    have K : W p l e rm s m av.toArray below meth c s.heap [] 0 0 (fun t => ∃ x, t.status = .running ∧ Ended t below (.threw x) ∧ HW D cl tys (va_A ws s.heap.size) (wt x) t ∧ va_F (va_A ws s.heap.size) s t ∧ ∃ L, FEX s t L mc ms ∧ ∀ q ∈ L, va_A ws s.heap.size q.base) (entryFrame m av.toArray maxL) := by
      rw [lg_entry_eq]
      generalize (lg_sl av ++ List.replicate (maxL - (lg_sl av).length) Slot.unset).toArray = ls at hl ⊢
      rw [hlv] at hl
      refine walk p e s m below meth c ls _ B.exec B.bytes hml (findClass_of_methodNamed B.named) hts hN (fun q h => Or.inr h) hne hlocks ⟨hK, hP, hD0.self, va_S.rf⟩ hl (fun H locs x hC T hT X => ?_)
      obtain ⟨g₀, hfr⟩ := X.frames_eq
      have hht : (T.setFrames (.throwing x :: below)).heap = H := hT
      exact ⟨x, X.here.running, State.frames_setFrames _ (State.cur_lt_of_frames hfr), ⟨va_K.moved (X.ends (.throwing x :: below)).1.alike hC.1, by rw [hht]; exact hC.2.1, hC.2.2.1⟩, hC.2.2.2.F hht, locs, ⟨(X.ends _).1, (X.ends _).2⟩, hC.2.2.2.2.2⟩
    obtain ⟨t, a1, x, b1, b2, b3, b4, b5⟩ := K s₁ hh0 X₀
    exact ⟨t, .threw x, a1, b1, b2, x, rfl, b3, b4, b5⟩
end EXO
section EXB
variable {l : Launch} {R : Room} {p : Program} {e : Env} {below : List Frame} {s : State} {sargs : Array Value} {y : MethodName}
variable {D : va_G} {cl : List vw_C} {tysc : List (ClassId × FieldType)} {mid : va_W} {wt : Nat → va_W} {N : State → Prop}
/-- a callee that throws: the machine stands with the note over the caller's frame -/
theorem back_T {wsy : List Cond} {rm : Room} {sz mc ms : Nat} {av : List Value} {bytes : ByteArray} {maxL : Nat} {ret : Option FieldType}
    (hM : MT l y wsy rm D cl tysc N mid wt sz av mc ms) (hblind : FrameBlind (va_Pc av (fun U => U.heap.size = sz ∧ N U ∧ HW D cl tysc (fun _ => True) mid U))) (hrc : rm.cells = mc) (hrs : rm.slots = ms)
    (hframes : rm.frames + 1 ≤ R.frames) (hlocals : 8 + (maxL + 11) + rm.locals ≤ R.locals)
    (hws : ∀ w ∈ wsy, ∀ a' U, s.WarmedH U.vm → w.before a' U = true) (hcode : Cond.code y bytes maxL ret ∈ wsy) (hinit : ∀ a' U, s.WarmedH U.vm → (Cond.initialized y.cls).before a' U = true)
    (m : MethodId) (meth : Method) (c : Code) (A : Pt) (g : JFrame) (ig : Instr) (len : Nat) (mk : MethodId) (a : Array Value)
    (X : Stand p l e R s m sargs below meth c A.U A.locs A.cells A.slots) (hg : g.method = m) (hsize : g.locals.size = c.maxLocals) (hdg : decode c.code g.pc = .ok (ig, len))
    (hW : 2 * g.monitorRoom + (g.stack.map fun v => v.category).sum ≤ 8) (hn : A.U.methodNamed? y = some mk) (hp : PreOf R mc ms (va_Pc av (fun U => U.heap.size = sz ∧ N U ∧ HW D cl tysc (fun _ => True) mid U)) A a) :
    ∃ (x : Addr) (st₀ t T' : State) (L : List Loc), st₀.heap = A.U.heap ∧ Stand p l e R s m sargs below meth c T' (A.locs ++ L) (A.cells + mc) (A.slots + ms) ∧ (∀ q ∈ L, va_A mid sz q.base) ∧ T'.heap = t.heap ∧ T'.vm = t.vm ∧ HW D cl tysc (va_A mid sz) (wt x) t ∧ va_F (va_A mid sz) st₀ t ∧
      Steps p.tables e below (doInvoke e (A.U.setTop g) [] mk a).1 ((T'.setTop g).pushFrame (.throwing x)) := by
  obtain ⟨U, Ls, c0, s0⟩ := A
  dsimp only [Pt.U, Pt.locs, Pt.cells, Pt.slots] at X hn hp ⊢
  obtain ⟨h4, h5, hPc⟩ := hp
  dsimp only [Pt.U, Pt.locs, Pt.cells, Pt.slots] at h4 h5 hPc
  have h1 : (headSpec wsy rm).pre.before a U = true := atoms_intro fun w hw => hws w hw _ _ X.warmed
  have h2 := hws _ hcode a U X.warmed
  have h3 := hinit a U X.warmed
  obtain ⟨methY, cY, hmY, hcY, -, hlY, -⟩ := Cond.code_spec hn h2
  obtain ⟨kY, hkY, -⟩ := className_of_methodNamed hn
  have hinitY : kY.init = .initialized := Cond.initialized_spec (findClass_of_methodNamed hn) hkY h3
  have h : At U g.method c below := by rw [hg]; exact X.here
  have happ : (headSpec wsy rm).appliesLoose y e.platform (U.calling g mk a) = true :=
    Spec.appliesLoose_calling (g := g) h hdg hn hkY hinitY
      (X.room_calling (g := g) (R' := (headSpec wsy rm).room) hsize hmY hcY hframes (by rw [hlY]; show _ + rm.locals ≤ _; omega) (by show c0 + rm.cells ≤ _; rw [hrc]; exact h4) (by show s0 + rm.slots ≤ _; rw [hrs]; exact h5)) h1
  obtain ⟨mid0, hmid⟩ := h.above
  have hfr : (U.setTop g).frames = (.java g :: mid0) ++ below := by rw [State.frames_setTop' g h.top, hmid]; rfl
  obtain ⟨o, s₂, hsteps, -, hend, hq⟩ := Steps.callFree hM p X.admits X.cas X.clock (acts := []) hfr happ (hblind _ _ _ _ hPc) trivial
  rw [State.frames_setTop' g h.top] at hend
  obtain ⟨x, rfl, hHW, hF, L, hfe, hL⟩ := hq
  obtain ⟨hW₂, e2, q2, q3, q4, q5, q6⟩ := id hfe
  have e3 : s₂ = ({ (U.calling g mk a).setFrames s₂.frames with heap := s₂.heap, slotsUsed := s₂.slotsUsed } : State).setVm s₂.vm := by
    have : s₂ = ({ s₂ with vm := (U.calling g mk a).vm } : State).setVm s₂.vm := rfl
    rw [this]
    exact congrArg (fun z : State => z.setVm s₂.vm) e2
  have hf₂ : s₂.frames = .throwing x :: (.java g :: U.frames.tail) := hend
  have hW' : U.WarmedH s₂.vm := hW₂
  obtain ⟨g₀, hg0⟩ := Option.isSome_iff_exists.mp h.top
  obtain ⟨r, hr⟩ := State.topJava?_eq_some.mp hg0
  have hs₂ : s₂ = ((({ U with heap := s₂.heap, slotsUsed := s₂.slotsUsed } : State).setVm s₂.vm).setTop g).pushFrame (.throwing x) := by
    have hr' : (({ U with heap := s₂.heap, slotsUsed := s₂.slotsUsed } : State).setVm s₂.vm).frames = .java g₀ :: r := hr
    refine e3.trans ?_
    rw [hf₂, State.calling_eq h.top, State.setFrames_setFrames, State.pushFrame, State.frames_setTop _ hr', State.setTop_of_frames _ hr', State.setFrames_setFrames, hr]
    rfl
  have hsame : U.sameButNew ({ U with heap := s₂.heap, slotsUsed := s₂.slotsUsed } : State) L mc ms := by
    refine ⟨?_, q2, q3, q4, q5, q6⟩
    obtain ⟨t, ht, -⟩ := State.frames_cons hr
    show ({ U with heap := s₂.heap, slotsUsed := s₂.slotsUsed } : State) = { U.setFrames U.frames with heap := s₂.heap, slotsUsed := s₂.slotsUsed }
    rw [State.setFrames_self ht]
  subst hg
  refine ⟨x, U.calling g mk a, s₂, (({ U with heap := s₂.heap, slotsUsed := s₂.slotsUsed } : State).setVm s₂.vm), L, rfl,
    ⟨X.admits, X.cas, X.clock, X.frames, X.room, X.hears, X.method, X.code, (X.here.setHeapUsed s₂.heap s₂.slotsUsed).setVm hW'.alike, X.tail, State.WarmedH.trans X.warmed hW', X.limits, X.bytes, X.same.trans (hsame.setVm s.vm)⟩, hL, rfl, rfl, hHW, hF, ?_⟩
  rw [← hs₂]
  exact hsteps
end EXB
section EXC
variable {p : Program} {l : Launch} {e : Env} {R : Room} {s : State} {m : MethodId} {args : Array Value} {below : List Frame} {meth : Method} {c : Code} {H : Heap} {locs : List Loc} {cells slots : Nat} {Q : State → Prop}
variable {D : va_G} {cl : List vw_C} {tys tysc : List (ClassId × FieldType)} {A : Nat → Prop} {ws pre mid post : va_W} {wt : Nat → va_W} {N : State → Prop}
variable {y : MethodName} {bytes cc : ByteArray} {maxL nL mc ms n index : Nat} {ret : Option FieldType} {wsy : List Cond} {rm : Room} {Ts : List Cond} {own C : String} {b : Addr} {As rest : List Value} {g : JFrame}
/-- what a call that throws comes to -/
def RunT (p : Program) (l : Launch) (e : Env) (R : Room) (s : State) (m : MethodId) (args : Array Value) (below : List Frame) (meth : Method) (c : Code) (H : Heap) (locs : List Loc) (cells slots mc ms : Nat) (g : JFrame) (rest : List Value) (D : va_G) (cl : List vw_C) (tysc : List (ClassId × FieldType)) (mid : va_W) (wt : Nat → va_W) : Prop :=
  ∀ T : State, T.heap = H → Stand p l e R s m args below meth c T locs cells slots → ∃ (x : Addr) (st₀ t T' : State) (L : List Loc), st₀.heap = H ∧ Stand p l e R s m args below meth c T' (locs ++ L) (cells + mc) (slots + ms) ∧ (∀ q ∈ L, va_A mid H.size q.base) ∧ T'.heap = t.heap ∧ T'.vm = t.vm ∧ HW D cl tysc (va_A mid H.size) (wt x) t ∧ va_F (va_A mid H.size) st₀ t ∧
    ∀ target, Steps p.tables e below ((T'.setTop { g with stack := rest }).pushFrame (.throwing x)) target → Steps p.tables e below (T.setTop g) target
theorem runVT (S : CallFix p m c cc nL s args Ts own) (hM : MT l y wsy rm D cl tysc N mid wt H.size (.ref b :: As) mc ms) (cw : CallW R s args own C index y bytes maxL ret wsy rm mc ms n) (hp : PreV s H C b (va_Pc (.ref b :: As) (fun U => U.heap.size = H.size ∧ N U ∧ HW D cl tysc (fun _ => True) mid U)) As)
    (hg : g.method = m) (hn : As.length = n) (hsize : g.locals.size = nL) (hstack : g.stack = As.reverse ++ .ref b :: rest) (hW : 2 * g.monitorRoom + (rest.map fun v => v.category).sum ≤ 8) (hdg : decode cc g.pc = .ok (.invokevirtual index, 3)) (hf : cells + mc ≤ R.cells ∧ slots + ms ≤ R.slots) :
    RunT p l e R s m args below meth c H locs cells slots mc ms g rest D cl tysc mid wt := by
  obtain ⟨⟨hrc, hrs, hfr, hlo, hws, hcw, hcode, hini, hy, hlen, hl⟩, hin, hse⟩ := cw
  obtain ⟨hx, hb, hml, ho, -⟩ := S
  obtain ⟨hbl, ⟨cellB, hcB, hoB, hclB⟩, hPc⟩ := hp
  intro T hT X
  obtain ⟨mk, methM, hnamed, hmethM, hstM, habM⟩ := Cond.instanceMethod_spec hin
  obtain ⟨methM', cM, hmethM', -, -, -, -, -, -, hsigM⟩ := Cond.code_spec hnamed hcode
  cases hmethM.symm.trans hmethM'
  obtain ⟨c2, r2, m2, q1, q2, q3, q4, kP, hkP, hkPi⟩ := Cond.selects_spec hse
  cases hclB.symm.trans q1
  cases (State.methodFound?_of_named hnamed hy).symm.trans q2
  cases hnamed.symm.trans q3
  have hselP : selectMethod e.platform s.vm cellB.cls mk = .method mk := by rw [Launch.admits_selectMethod X.admits]; exact q4
  obtain ⟨vm₁, X₁, hstep₁⟩ := X.invokevirtual hx ho hl hnamed hmethM hstM hkP hkPi hy (a := b) (cell := cellB) (by rw [hT]; exact hcB)
    (fun z h => by rw [h] at hoB; cases hoB) hselP hmethM habM hkP hkPi (g := g) hg (argsL := As) (rest := rest) (hn.trans (hlen _ hsigM)) hstack (by rw [hb]; exact hdg)
  obtain ⟨x, st₀, t, T', L, h0, X', hL, e1, e2, hHW, hF, hsteps⟩ := back_T (bytes := bytes) (maxL := maxL) (ret := ret) hM hbl hrc hrs hfr hlo hws hcw (fun a' U hW => word_at hW (Or.inl (by first | rfl | simp [Cond.onTables, Cond.keeps, Cond.steady])) hini)
    m meth c ⟨T.setVm vm₁, locs, cells, slots⟩ { g with stack := rest } (.invokevirtual index) 3 mk (Value.ref b :: As).toArray X₁ hg (hsize.trans hml.symm) (by rw [hb]; exact hdg) hW (X₁.named hnamed) ⟨hf.1, hf.2, hPc (T.setVm vm₁) hT X₁.warmed⟩
  dsimp only [Pt.U, Pt.locs, Pt.cells, Pt.slots] at h0 X' hsteps
  exact ⟨x, st₀, t, T', L, h0.trans hT, X', hL, e1, e2, hHW, hF, fun target h => hstep₁ _ fun acts => by rw [doInvoke_state]; exact hsteps.trans h⟩
/-- the exception goes on out of the caller -/
theorem ht_out {pc : Nat} {ls : Array Slot} {st0 : List Value} (hr : RunT p l e R s m args below meth c H locs cells slots mc ms (F0 m pc ls st0) rest D cl tysc ws wt) (hne : c.exceptionTable.toList = []) (hlocks : meth.locks = false) (hA : ∀ q, s.heap.size ≤ q → A q) (hC : HC D cl tys A ws s H locs)
    (kk : ∀ (H1 : Heap) (locs1 : List Loc) (x : Addr), HC D cl tys A (wt x) s H1 locs1 → WT p l e R s m args below meth c H1 locs1 (cells + mc) (slots + ms) Q x) : W p l e R s m args below meth c H locs cells slots Q (F0 m pc ls st0) := by
  have hF := all_free hC.2.2.1 hC.2.2.2 hA
  intro T hT X
  obtain ⟨x, st₀, t, T', L, h0, X', hL, e1, e2, ⟨hK1, hP1, hD1⟩, ⟨hz, hk⟩, hsteps⟩ := hr T hT X
  rw [h0] at hz hk
  have hS : va_S A s.heap t.heap (locs ++ L) := ⟨Nat.le_trans hC.2.2.2.1 hz, fun q g1 g2 => by
      rw [hk q (Nat.lt_of_lt_of_le g1 hC.2.2.2.1) (fun z => g2 (hF q z))]; exact hC.2.2.2.2.1 q g1 g2, fun q hq => by
      rcases List.mem_append.mp hq with h | h
      · exact hC.2.2.2.2.2 q h
      · exact hF _ (hL q h)⟩
  obtain ⟨hwalk, -⟩ := X'.leaveThrown x (g := { F0 m pc ls st0 with stack := rest }) rfl rfl rfl (by rw [hne]; intro y hy; cases hy) hlocks
  exact ⟨_, hsteps _ hwalk, kk t.heap (locs ++ L) x ⟨hC.1, hP1, hD1.weaken (fun _ q _ h => hF q.1 h), hS⟩ T' e1 X'⟩
end EXC
