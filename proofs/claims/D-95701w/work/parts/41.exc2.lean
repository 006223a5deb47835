/-! EXCEPTIONS 2: into the handler of the method's own, whose class entry may be cold yet -/
set_option maxRecDepth 100000
section EX2
/-- the search finds the handler at hp, and leaves the tables vm' -/
def ex_Finds (e : Env) (s : State) (f : JFrame) (a : Addr) (hp : Nat) (vm' : Vm) : Prop := ∀ (Q : Handler → Pre) (E : CtlPost) (d : Bool) (acts : List Action), wp (findHandler f a) Q E e d acts s ↔ Q (.found hp) d acts (s.setVm vm')
theorem ex_first {e : Env} {s : State} {f : JFrame} {a : Addr} {meth : Method} {code : Code} {x : ExceptionTableEntry} {t : List ExceptionTableEntry} {c : ClassId} {cell : Cell} (hm : s.vm.method? f.method = some meth) (hc : meth.code = some code) (ht : code.exceptionTable.toList = x :: t) (hx : covers x f.pc = true) (h0 : x.catchType ≠ 0)
    (hl : s.vm.ClassLinks e.platform f.method.cls x.catchType c) (hcell : s.heap[a]? = some cell) (hobj : ∀ k, cell.vm ≠ .statics k) (hk : ∃ k, s.vm.classes[cell.cls]? = some k) (hcl : ∃ k, s.vm.classes[c]? = some k) (hfit : s.vm.assignable cell.cls c = true) :
    ex_Finds e s f a x.handlerPc (s.vm.noted f.method.cls x.catchType (.cls c)) := by
  intro Q E d acts
  rw [W.findHandler_eq hm hc, ht]
  have hx' := hx
  simp only [covers] at hx'
  obtain ⟨ha, hb⟩ := (resolveClass_links e.toSetting hl).op (op := VmOp.resolveClass f.method.cls x.catchType) rfl
  have hal : s.vm.Alike (s.vm.noted f.method.cls x.catchType (.cls c)) := (Vm.Alike.refl s.vm).noted _ _ _
  obtain ⟨k1, hk1⟩ := hk
  obtain ⟨k2, hk2⟩ := hcl
  obtain ⟨k1', hk1', -⟩ := hal.2.2 _ _ hk1
  obtain ⟨k2', hk2', -⟩ := hal.2.2 _ _ hk2
  have hfit' : (s.vm.noted f.method.cls x.catchType (.cls c)).assignable cell.cls c = true := by rw [hal.assignable]; exact hfit
  simp [findHandler.go, hx', h0, ha, hb, hcell, hobj, hk1', hk2', hfit', VmOp.dirties, VmOp.acts]
theorem ex_caught {tb : Tables} {e : Env} {s target : State} {g : JFrame} {c : Code} {below : List Frame} {a : Addr} (h : At s g.method c below) {pc : Nat} {vm' : Vm}
    (hfind : ex_Finds e ((s.setTop g).pushFrame (.throwing a)) g a pc vm') (hrest : Steps tb e below ((s.setVm vm').setTop { g with pc := pc, stack := [.ref a] }) target) :
    Steps tb e below ((s.setTop g).pushFrame (.throwing a)) target := by
  obtain ⟨hgo, hw⟩ := h.throwing a
  refine Steps.head hgo hw ?_
  have hstep : (stepThrowing e ((s.setTop g).pushFrame (.throwing a)) a (.java g :: s.frames.tail)).Is ((((s.setTop g).pushFrame (.throwing a)).setVm vm').setFrames (.java { g with pc := pc, stack := [.ref a] } :: s.frames.tail)) [] := by
    simp only [stepThrowing, searchFrame, vmDo]
    generalize hr : Sem.go _ e false [] ((s.setTop g).pushFrame (.throwing a)) = res
    obtain ⟨as, rfl, ha⟩ := Sem.eq_ok_of hr (a := Handler.found pc) (s' := ((s.setTop g).pushFrame (.throwing a)).setVm vm') (acts' := []) (by simp [hfind _ _ _ _])
    exact ⟨rfl, ha⟩
  rw [stepThread_throwing (frames_entered h.top _), hstep.1]
  obtain ⟨g₀, hg⟩ := Option.isSome_iff_exists.mp h.top
  obtain ⟨r, hr⟩ := State.topJava?_eq_some.mp hg
  have hr' : (s.setVm vm').frames = .java g₀ :: r := hr
  have e1 : (((s.setTop g).pushFrame (.throwing a)).setVm vm').setFrames (.java { g with pc := pc, stack := [.ref a] } :: s.frames.tail) = (s.setVm vm').setTop { g with pc := pc, stack := [.ref a] } := by
    rw [State.setTop_of_frames _ hr', hr, State.pushFrame, State.setTop_of_frames _ hr]
    have e2 : ∀ (u : State) (F G : List Frame), ((u.setFrames F).setVm vm').setFrames G = (u.setVm vm').setFrames G := fun u F G => by
      have : (u.setFrames F).setVm vm' = (u.setVm vm').setFrames F := rfl
      rw [this, State.setFrames_setFrames]
    rw [e2, e2]
    rfl
  rw [e1]
  exact hrest
variable {p : Program} {l : Launch} {e : Env} {R : Room} {s : State} {m : MethodId} {args : Array Value} {below : List Frame} {meth : Method} {c : Code} {H : Heap} {locs : List Loc} {cells slots mc ms : Nat} {Q : State → Prop}
variable {D : va_G} {cl : List vw_C} {tys tysc : List (ClassId × FieldType)} {A : Nat → Prop} {pre mid post : va_W} {wt : Nat → va_W} {rest : List Value}
/-- the exception is caught by the caller's first handler -/
theorem ht_catch {pc : Nat} {ls : Array Slot} {st0 : List Value} {own E : String} {ct hpc q0 ci : Nat} {T0 : u_T} {N0 : Nat} {xe : ExceptionTableEntry} {xt : List ExceptionTableEntry} (hr : RunT p l e R s m args below meth c H locs cells slots mc ms (F0 m pc ls st0) rest D cl tysc mid wt) (htab : c.exceptionTable.toList = xe :: xt) (hcov : covers xe pc = true) (hct : xe.catchType = ct) (hhp : xe.handlerPc = hpc) (h0 : ct ≠ 0) (hown : s.vm.findClass own = some m.cls) (hlink : (Cond.classLink own ct E).before args s = true)
    (hci : cl[ci]? = some (E, T0, N0)) (hwt : ∀ x, ∃ fs, (wt x)[q0]? = some (x, .inr (ci, fs))) (hA : ∀ q, s.heap.size ≤ q → A q) (hC : HC D cl tys A (pre ++ (mid ++ post)) s H locs)
    (kk : ∀ (H1 : Heap) (locs1 : List Loc) (x : Addr), HC D cl tys A (pre ++ (wt x ++ post)) s H1 locs1 → W p l e R s m args below meth c H1 locs1 (cells + mc) (slots + ms) Q (F0 m hpc ls [.ref x])) : W p l e R s m args below meth c H locs cells slots Q (F0 m pc ls st0) := by
  have hF := seg_free hC.2.2.1 hC.2.2.2 hA
  intro T hT X
  obtain ⟨x, st₀, t, T', L, hh, X', hL, e1, e2, ⟨hK1, hP1, hD1⟩, ⟨hz, hk⟩, hsteps⟩ := hr T hT X
  rw [hh] at hz hk
  have hS : va_S A s.heap t.heap (locs ++ L) := ⟨Nat.le_trans hC.2.2.2.1 hz, fun q g1 g2 => by
      rw [hk q (Nat.lt_of_lt_of_le g1 hC.2.2.2.1) (fun z => g2 (hF q z))]; exact hC.2.2.2.2.1 q g1 g2, fun q hq => by
      rcases List.mem_append.mp hq with h | h
      · exact hC.2.2.2.2.2 q h
      · exact hF _ (hL q h)⟩
  obtain ⟨hP2, hD2⟩ := seg_join hC.2.1 hC.2.2.1 hk hF hP1 hD1
  have hC2 : HC D cl tys A (pre ++ (wt x ++ post)) s t.heap (locs ++ L) := ⟨hC.1, hP2, hD2, hS⟩
  obtain ⟨fs, hw⟩ := hwt x
  obtain ⟨cell, hc1, hc2, hc3⟩ := va_recv hC.1 (pl_ (pr_ hP2)) hci hw
  have hpl : e.platform.magicAccessors = ({} : Platform).magicAccessors := by rw [X'.admits.platform]
  obtain ⟨cE, hfE, hlk⟩ := Cond.classLink_spec hown hlink e.platform hpl
  cases hfE.symm.trans hc3
  obtain ⟨dk, _, _, _, hd, _, _, _, _, _, _, hres⟩ := hlk.here
  have hWn : s.WarmedH (T'.vm.noted m.cls ct (.cls cell.cls)) := X'.warmed.noted hd hres (State.rightAt_cls hlk)
  have hlk' : T'.vm.ClassLinks e.platform m.cls ct cell.cls := X'.warmed.classLinks hlk
  have hkc : ∃ k, T'.vm.classes[cell.cls]? = some k := Vm.classAt_of_findClass (by rw [X'.warmed.alike.findClass]; exact hfE)
  have hm' : T'.vm.method? m = some meth := X'.method'
  have hc0 : T'.heap[x]? = some cell := by rw [e1]; exact hc1
  have hfind : ex_Finds e ((T'.setTop { F0 m pc ls st0 with stack := rest }).pushFrame (.throwing x)) { F0 m pc ls st0 with stack := rest } x hpc (T'.vm.noted m.cls ct (.cls cell.cls)) := by
    rw [← hhp, ← hct]
    exact ex_first (meth := meth) (code := c) (cell := cell) (by simpa [State.pushFrame, State.setFrames] using hm') X'.code htab hcov (by rw [hct]; exact h0) (by rw [hct]; exact hlk') (by simpa [State.pushFrame, State.setFrames] using hc0) (fun k h => by rw [h] at hc2; cases hc2) hkc hkc (va_asg _ _)
  obtain ⟨t2, s2, b2⟩ := kk t.heap (locs ++ L) x hC2 (T'.setVm (T'.vm.noted m.cls ct (.cls cell.cls))) e1 (X'.noted hWn)
  exact ⟨t2, hsteps _ (ex_caught X'.here hfind s2), b2⟩
end EX2
