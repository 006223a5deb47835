/-! CONSTRUCTORS' SUPPORT: contracts that make cells; arrays' classes are one; fields of one name -/
set_option maxRecDepth 100000
abbrev MN (l : Launch) (y : MethodName) (wsy : List Cond) (rm : Room) (D : va_G) (cl : List vw_C) (tys : List (ClassId × FieldType)) (N : State → Prop) (ws : va_W) (ws' : (Nat → Nat → Nat) → va_W) (sz : Nat) (av : List Value) (mc ms : Nat) : Prop := Met l y wsy rm (va_Pc av (fun U => U.heap.size = sz ∧ N U ∧ HW D cl tys (fun _ => True) ws U)) (va_Qv (fun (_ : Nat → Nat → Nat) => True) (fun u t => HW D cl tys (va_A ws sz) (ws' u) t) (va_A ws sz)) mc ms (va_A ws sz)
section CTN
variable {l : Launch} {D : va_G} {cl : List vw_C} {tys : List (ClassId × FieldType)} {ws : va_W} {ws' : (Nat → Nat → Nat) → va_W} {N : State → Prop} {y : MethodName} {cc : ByteArray} {maxL sz mc ms : Nat} {rm : Room}
abbrev WalkN (l : Launch) (D : va_G) (cl : List vw_C) (tys : List (ClassId × FieldType)) (N : State → Prop) (ws : va_W) (ws' : (Nat → Nat → Nat) → va_W) (y : MethodName) (cc : ByteArray) (maxL : Nat) (rm : Room) (av : List Value) (lv : List (Nat × Value)) (mc ms : Nat) : Prop :=
  ∀ (p : Program) (e : Env) (s : State) (m : MethodId) (below : List Frame) (meth : Method) (c : Code) (ls : Array Slot) (Q : State → Prop), p.tables.exec = Jvm.exec → c.code = cc → c.maxLocals = maxL → s.vm.findClass y.cls = some m.cls → (∀ w ∈ lw_all, w.before av.toArray s = true) → meth.name = y.name → N s → (∀ q, s.heap.size ≤ q → va_A ws s.heap.size q) → HC D cl tys (va_A ws s.heap.size) ws s s.heap [] → lv_has ls maxL lv →
    (∀ (u : Nat → Nat → Nat) (H : Heap) (locs : List Loc) (ls : Array Slot) (pc : Nat), HC D cl tys (va_A ws s.heap.size) (ws' u) s H locs → decode cc pc = .ok (.return_, 1) → W p l e rm s m av.toArray below meth c H locs mc ms Q (F0 m pc ls [])) → W p l e rm s m av.toArray below meth c s.heap [] 0 0 Q (F0 m 0 ls [])
theorem MN.of (hy : plainName y.cls = true) (av : List Value) (lv : List (Nat × Value)) (hav : (lg_sl av).length ≤ maxL) (hlv : lv_args 0 av = lv) (walk : WalkN l D cl tys N ws ws' y cc maxL rm av lv mc ms) : MN l y (ws_ y cc maxL none) rm D cl tys N ws ws' sz av mc ms := by
  refine Met.ofW (cc := cc) (maxL := maxL) (ret := none) hy rfl ?_
  intro p e s m args below meth c s₁ B hml hv
  obtain ⟨rfl, hsz, hN, hK, hP, hD0⟩ := hv
  subst hsz
  have hts := atoms_spec (ws := ws_ y cc maxL none) B.pre
  have hts : ∀ w ∈ lw_all, w.before av.toArray s = true := fun w h => hts w (List.mem_cons_of_mem _ h)
  have hl := lv_entry av (n := maxL) hav
  rw [lg_entry_eq]
  generalize (lg_sl av ++ List.replicate (maxL - (lg_sl av).length) Slot.unset).toArray = ls at hl ⊢
  rw [hlv] at hl
  have hlocks := B.notSynchronized
  exact walk p e s m below meth c ls _ B.exec B.bytes hml (findClass_of_methodNamed B.named) hts (name_of_methodNamed B.named B.method).1 hN (fun q h => Or.inr h) ⟨hK, hP, hD0.self, va_S.rf⟩ hl (fun u H locs ls pc hC hdg => W.vret B.exec B.bytes B.returns (fun t ht hW => ⟨⟨u, rfl, trivial, va_K.moved hW.alike hC.1, by rw [ht]; exact hC.2.1, hC.2.2.1⟩, hC.2.2.2.F ht⟩) hC.2.2.2.2.2 hdg)
end CTN
section CNC
variable {p : Program} {l : Launch} {e : Env} {R : Room} {s : State} {m : MethodId} {args : Array Value} {below : List Frame} {meth : Method} {c : Code} {H : Heap} {locs : List Loc} {cells slots : Nat} {Q : State → Prop}
variable {D : va_G} {cl : List vw_C} {tys tysc : List (ClassId × FieldType)} {A : Nat → Prop} {ws pre mid post : va_W} {mid' : (Nat → Nat → Nat) → va_W} {N : State → Prop} {pc mc ms : Nat} {ls : Array Slot} {rest st0 : List Value} {a : Array Value}
theorem hs_n (hr : va_Run p l e R s m args below meth c H locs cells slots mc ms (F0 m pc ls st0) rest (va_Qv (fun (_ : Nat → Nat → Nat) => True) (fun u t => HW D cl tysc (va_A mid H.size) (mid' u) t) (va_A mid H.size) a) (va_A mid H.size)) (hA : ∀ q, s.heap.size ≤ q → A q) (hC : HC D cl tys A (pre ++ (mid ++ post)) s H locs) (kk : ∀ (u : Nat → Nat → Nat) (H1 : Heap) (locs1 : List Loc), HC D cl tys A (pre ++ (mid' u ++ post)) s H1 locs1 → W p l e R s m args below meth c H1 locs1 (cells + mc) (slots + ms) Q (F0 m (pc + 3) ls rest)) : W p l e R s m args below meth c H locs cells slots Q (F0 m pc ls st0) := by
  have hF := seg_free hC.2.2.1 hC.2.2.2 hA
  refine va_callv hr hC.2.2.2 (fun q _ h => hF q h) hF (fun u t H1 locs1 ht hvm hp hB hz hk hS => ?_)
  obtain ⟨hK1, hP1, hD1⟩ := hB
  rw [ht] at hP1
  obtain ⟨hP2, hD2⟩ := seg_join hC.2.1 hC.2.2.1 hk hF hP1 hD1
  exact kk u H1 locs1 ⟨hC.1, hP2, hD2, hS⟩
theorem ra_one {U : State} {c1 c2 : ClassId} {ty : FieldType} (h1 : va_RA U c1 ty) (h2 : va_RA U c2 ty) : c1 = c2 := by
  cases ty with
  | object C =>
    obtain ⟨_, _, -, -, -, h3⟩ := h1
    obtain ⟨_, _, -, -, -, h4⟩ := h2
    exact Option.some.inj (h3.symm.trans h4)
  | _ => exact Option.some.inj (Eq.trans (Eq.symm h1) h2)
theorem k_one {ty : FieldType} {c1 c2 : ClassId} {t0 : Nat} (hK : va_K D cl (tys ++ [(c2, ty)]) s) (ht : tys[t0]? = some (c1, ty)) : c2 = c1 := by
  have h1 := (hK.2 t0 (c1, ty) (by rw [List.getElem?_append_left (List.getElem?_eq_some_iff.mp ht).1]; exact ht)).2
  have h2 := (hK.2 tys.length (c2, ty) (by rw [List.getElem?_append_right (Nat.le_refl _), Nat.sub_self]; rfl)).2
  exact ra_one h2 h1
variable {cc : ByteArray}
theorem h_newa (hexec : p.tables.exec = Jvm.exec) (hb : c.code = cc) {atype : ArrayType} (harr : (Cond.arrayClass (newarray.typeOf atype)).before args s = true) {ty : FieldType} (hty : newarray.typeOf atype = ty) (hC : HC D cl tys A ws s H locs) (hA : ∀ q, s.heap.size ≤ q → A q) {dt : ClassId} (t0 : Nat) (ht0 : tys[t0]? = some (dt, ty))
    {n : Int32} {N' : Nat} {a0 : vp_A} (ha : ∀ cA : ClassId, vp_cell cA a0 = arrV cA N' (fun _ => defaultValue ty)) (hn : ¬ n < 0) (hN : n.toNatClampNeg = N') (hbytes : N' * componentBytes ty ≤ 536870912) (hcells : cells + 1 ≤ R.cells) (hslots : slots + N' ≤ R.slots) (hdg : decode cc pc = .ok (.newarray atype, 2))
    (kk : ∀ (q : Nat) (H1 : Heap), HC D cl tys A (ws ++ [(q, .inl (dt, a0))]) s H1 locs → W p l e R s m args below meth c H1 locs (cells + 1) (slots + N') Q (F0 m (pc + 2) ls (.ref q :: rest))) : W p l e R s m args below meth c H locs cells slots Q (F0 m pc ls (.int n :: rest)) := by
  refine va_newa hexec hb harr hty hC.1 hC.2.1 hC.2.2.1 hC.2.2.2 hA ha hn hN hbytes hcells hslots hdg (fun q cA H1 hK hP hD hS => ?_)
  have e1 := k_one hK ht0
  subst e1
  exact kk q H1 ⟨hC.1, hP, hD, hS⟩
theorem h_newq (hexec : p.tables.exec = Jvm.exec) (hb : c.code = cc) {own C : String} {index : Nat} (hown : s.vm.findClass own = some m.cls) (hclink : (Cond.classLink own index C).before args s = true) (hover : va_AO C s) (hC : HC D cl tys A ws s H locs) (hA : ∀ q, s.heap.size ≤ q → A q) {dt : ClassId} (t0 : Nat) (ht0 : tys[t0]? = some (dt, .object C))
    {n : Int32} {N' : Nat} (hn : ¬ n < 0) (hN : n.toNatClampNeg = N') (hbytes : N' * 4 ≤ 536870912) (hcells : cells + 1 ≤ R.cells) (hslots : slots + N' ≤ R.slots) (hdg : decode cc pc = .ok (.anewarray index, 3))
    (kk : ∀ (q : Nat) (H1 : Heap), HC D cl tys A (ws ++ [(q, .inl (dt, N', .inr (.inr (.inr (.inr (fun _ => none))))))]) s H1 locs → W p l e R s m args below meth c H1 locs (cells + 1) (slots + N') Q (F0 m (pc + 3) ls (.ref q :: rest))) : W p l e R s m args below meth c H locs cells slots Q (F0 m pc ls (.int n :: rest)) := by
  refine va_newq hexec hb hown hclink hover hC.1 hC.2.1 hC.2.2.1 hC.2.2.2 hA hn hN hbytes hcells hslots hdg (fun q cA H1 hK hP hD hS => ?_)
  have e1 := k_one hK ht0
  subst e1
  exact kk q H1 ⟨hC.1, hP, hD, hS⟩
/-- an array of references, by what its places hold -/
theorem HC.qfun (hC : HC D cl tys A ws s H locs) {k a0 n : Nat} {cA : ClassId} {f f' : Nat → Option Nat} (hk : ws[k]? = some (a0, .inl (cA, n, .inr (.inr (.inr (.inr f)))))) (hf : ∀ j, j < n → f j = f' j) : HC D cl tys A (ws.set k (a0, .inl (cA, n, .inr (.inr (.inr (.inr f')))))) s H locs := by
  have e1 : vp_cell cA (n, .inr (.inr (.inr (.inr f)))) = vp_cell cA (n, .inr (.inr (.inr (.inr f')))) := by
    rw [vp_cell_q, vp_cell_q]
    have : ∀ g g' : Nat → Value, (∀ j, j < n → g j = g' j) → arrV cA n g = arrV cA n g' := by
      intro g g' hg
      unfold arrV
      congr 1
      apply Array.ext_getElem?
      intro i
      by_cases hi : i < n
      · simp [hi, hg i hi]
      · simp [hi]
    exact this _ _ (fun j hj => by rw [hf j hj])
  refine ⟨hC.1, hC.2.1.set hC.2.2.1 hk ?_ (fun _ _ => rfl), hC.2.2.1.set hk, hC.2.2.2⟩
  show H[a0]? = some (vp_cell cA (n, .inr (.inr (.inr (.inr f')))))
  rw [← e1]
  exact hC.2.1 k _ hk
end CNC
section DUP
variable {p : Program} {l : Launch} {e : Env} {R : Room} {s : State} {m : MethodId} {args : Array Value} {below : List Frame} {meth : Method} {c : Code} {H : Heap} {locs : List Loc} {cells slots : Nat} {Q : State → Prop}
variable {cc : ByteArray} {pc : Nat} {ls : Array Slot} {rest : List Value} {D : va_G} {cl : List vw_C} {A : Nat → Prop} {a : Nat} {tys : List (ClassId × FieldType)} {ws : va_W}
/-- a final field, where others bear its name: each of the others is as it was, or holds the new value too -/
theorem h_putD (hexec : p.tables.exec = Jvm.exec) (hb : c.code = cc) {own ref C : String} {T : u_T} {N ci index : Nat} {Ts : List Cond} (hts : ∀ w ∈ Ts, w.before args s = true) (hin : ∀ w ∈ u_ws C T N, w ∈ Ts) (hown : s.vm.findClass own = some m.cls) (hC : HC D cl tys A ws s H locs) (q0 : Nat) {fs : List Value} (he : ws[q0]? = some (a, .inr (ci, fs))) (hc : cl[ci]? = some (C, T, N)) (k : Nat) (hk : k < N) (hlink : (Cond.fieldLink own index ref (T k).2.1 (T k).2.2.1).before args s = true) (hsame : ∀ x, s.fieldFound? (T k).1 (T k).2.1 (T k).2.2.1 = some x → s.fieldFound? ref (T k).2.1 (T k).2.2.1 = some x) (hfin : (T k).2.2.2 = true) (hin2 : meth.name = "<init>") (hdecl : (T k).1 = own) {ty : FieldType} {v : Value} (hd : parseFieldDescriptor (T k).2.2.1 = some ty) (hn : narrow ty v = v) (hfit : fits ty v = true) (hdg : decode cc pc = .ok (.putfield index, 3))
    (kk : ∀ (H1 : Heap) (locs1 : List Loc) (fs' : List Value), fs'.length = N → fs'[k]? = some v → (∀ j, j < N → fs'[j]? = some (vp_V fs j) ∨ fs'[j]? = some v) → HC D cl tys A (ws.set q0 (a, .inr (ci, fs'))) s H1 locs1 → W p l e R s m args below meth c H1 locs1 cells slots Q (F0 m (pc + 3) ls rest)) : W p l e R s m args below meth c H locs cells slots Q (F0 m pc ls (v :: .ref a :: rest)) := by
  obtain ⟨hK, hP, hD, hS0⟩ := hC
  obtain ⟨r, h1, cell, q1, q2, q3, q4⟩ := hP q0 _ he
  have hr : r = (C, T, N) := Option.some.inj (h1.symm.trans hc)
  subst hr
  obtain ⟨hS, hfc, kC, hkC, hkind⟩ := hK.1 ci _ hc
  obtain ⟨cf, kf, fi, f, hi, hsl⟩ := hS k hk
  have hlay := hts _ (hin _ (u_in_lay hk))
  unfold u_lay at hlay
  rw [if_pos hfin] at hlay
  have hst := (u_facts hfc hkC (u_lays hts hin hk) hi).1
  have hcf : m.cls = cf := by
    obtain ⟨_, _, c', _, _, _, -, -, hf', -, -, -, hown2, -⟩ := Cond.laysFinal_spec hlay
    have e1 : c' = cf := by have := hi.symm.trans hf'; simp at this; exact this.1.symm
    rw [hdecl] at hown2
    rw [← e1]; exact Option.some.inj (hown.symm.trans hown2)
  have h6 := u_fits hfc hkC hkind (Or.inr hlay) hi hd hn hfit
  refine W.putFinK hexec hb hown hlink (hsame _ hi) hst hcf hin2 (by rw [q2]; exact h6) q1 q3 (by rw [hsl]; exact k2_hasslot (q4 k hk)) rfl rfl hdg fun H' e1 e2 e3 => ?_
  rw [hsl] at e1 ⊢
  have key : ∀ j, j < N → (cell.setSlot (D.2 ci k) v).slots[D.2 ci j]? = some (if D.2 ci j = D.2 ci k then v else vp_V fs j) := by
    intro j hj
    by_cases hjk : D.2 ci j = D.2 ci k
    · rw [if_pos hjk, hjk, Cell.slots_setSlot_self _ (k2_hasslot (q4 k hk))]
    · rw [if_neg hjk, slot_ne _ _ (fun z => hjk z.symm), q4 j hj]
  refine kk H' _ ((List.range N).map (fun j => if D.2 ci j = D.2 ci k then v else vp_V fs j)) (by simp) (by simp [hk]) (fun j hj => ?_) ⟨hK, hP.set hD he ⟨_, hc, ⟨_, e1, q2, q3, fun j hj => ?_⟩⟩ e3, hD.set he, hS0.put e2 e3 (hD.2 q0 _ he)⟩
  · by_cases hjk : D.2 ci j = D.2 ci k
    · exact Or.inr (by simp [hj, hjk])
    · exact Or.inl (by simp [hj, hjk])
  · rw [key j hj]
    simp [vp_V, hj]
end DUP
