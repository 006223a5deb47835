/-! READER's SUPPORT: answers that are cells; results that may be thrown (inl: where); the exception's own constructor -/
set_option maxRecDepth 100000
abbrev MA (l : Launch) (y : MethodName) (wsy : List Cond) (rm : Room) (D : va_G) (cl : List vw_C) (tys : List (ClassId × FieldType)) (N : State → Prop) (ws ws' : va_W) (sz : Nat) (av : List Value) (r : Nat) : Prop := Met l y wsy rm (va_Pc av (fun U => U.heap.size = sz ∧ N U ∧ HW D cl tys (fun _ => True) ws U)) (va_Qr (fun (_ : Unit) => True) (fun _ a t => a = r ∧ HW D cl tys (va_A ws sz) ws' t) (va_A ws sz)) 0 0 (va_A ws sz)
section MAO
variable {l : Launch} {D : va_G} {cl : List vw_C} {tys : List (ClassId × FieldType)} {ws ws' : va_W} {N : State → Prop} {y : MethodName} {cc : ByteArray} {maxL sz : Nat} {rm : Room}
theorem MA.of {r : Nat} {cn : String} (hy : plainName y.cls = true) (av : List Value) (lv : List (Nat × Value)) (hav : (lg_sl av).length ≤ maxL) (hlv : lv_args 0 av = lv) (walk : Walk l D cl tys N ws ws' y cc maxL rm av lv .areturn True [.ref r]) : MA l y (ws_ y cc maxL (some (.object cn))) rm D cl tys N ws ws' sz av r := by
  refine Met.ofW (cc := cc) (maxL := maxL) (ret := some (.object cn)) hy rfl ?_
  intro p e s m args below meth c s₁ B hml hv
  obtain ⟨rfl, hsz, hN, hK, hP, hD0⟩ := hv
  subst hsz
  have hts := atoms_spec (ws := ws_ y cc maxL (some (.object cn))) B.pre
  have hts : ∀ w ∈ lw_all, w.before av.toArray s = true := fun w h => hts w (List.mem_cons_of_mem _ h)
  have hl := lv_entry av (n := maxL) hav
  rw [lg_entry_eq]
  generalize (lg_sl av ++ List.replicate (maxL - (lg_sl av).length) Slot.unset).toArray = ls at hl ⊢
  rw [hlv] at hl
  have hlocks := B.notSynchronized
  exact walk p e s m below meth c ls _ B.exec B.bytes hml (findClass_of_methodNamed B.named) hts hN (fun q h => Or.inr h) ⟨hK, hP, hD0.self, va_S.rf⟩ hl (fun H locs ls pc hn hC hdg => W.aret B.exec B.bytes B.returns (Or.inl ⟨cn, rfl⟩) (Or.inr ⟨r, rfl⟩) (fun t ht hW => ⟨⟨(), r, rfl, trivial, rfl, va_K.moved hW.alike hC.1, by rw [ht]; exact hC.2.1, hC.2.2.1⟩, hC.2.2.2.F ht⟩) hC.2.2.2.2.2 hdg)
end MAO
section MAC
variable {p : Program} {l : Launch} {e : Env} {R : Room} {s : State} {m : MethodId} {args : Array Value} {below : List Frame} {meth : Method} {c : Code} {H : Heap} {locs : List Loc} {cells slots : Nat} {Q : State → Prop}
variable {D : va_G} {cl : List vw_C} {tys tysc : List (ClassId × FieldType)} {A : Nat → Prop} {pre mid mid' post : va_W} {N : State → Prop} {pc : Nat} {ls : Array Slot} {rest st0 : List Value} {a : Array Value}
theorem hs_r {r : Nat} (hr : va_Run p l e R s m args below meth c H locs cells slots 0 0 (F0 m pc ls st0) rest (va_Qr (fun (_ : Unit) => True) (fun _ a t => a = r ∧ HW D cl tysc (va_A mid H.size) mid' t) (va_A mid H.size) a) (va_A mid H.size)) (hA : ∀ q, s.heap.size ≤ q → A q) (hC : HC D cl tys A (pre ++ (mid ++ post)) s H locs) (kk : ∀ (H1 : Heap) (locs1 : List Loc), HC D cl tys A (pre ++ (mid' ++ post)) s H1 locs1 → W p l e R s m args below meth c H1 locs1 cells slots Q (F0 m (pc + 3) ls (.ref r :: rest))) : W p l e R s m args below meth c H locs cells slots Q (F0 m pc ls st0) := by
  have hF := seg_free hC.2.2.1 hC.2.2.2 hA
  refine va_callr hr hC.2.2.2 (fun q _ h => hF q h) hF (fun u ra t H1 locs1 ht hvm hp hB hz hk hS => ?_)
  obtain ⟨rfl, hK1, hP1, hD1⟩ := hB
  rw [ht] at hP1
  obtain ⟨hP2, hD2⟩ := seg_join hC.2.1 hC.2.2.1 hk hF hP1 hD1
  exact kk H1 locs1 ⟨hC.1, hP2, hD2, hS⟩
theorem pre_SG {As : List Value} (hNb : ∀ (U : State) (g : JFrame) (mk : MethodId) (a : Array Value), N U → N (U.calling g mk a)) (hNw : ∀ U : State, U.heap = H → s.WarmedH U.vm → N U) (hC : HC D cl tys A (pre ++ (mid ++ post)) s H locs) : PreS s H (va_Pc As (fun U => U.heap.size = H.size ∧ N U ∧ HW D cl tys (fun _ => True) mid U)) As :=
  ⟨pre_b hNb, pre_h hNw hC.1 (pl_ (pr_ hC.2.1)) (dl_ (dr_ hC.2.2.1))⟩
end MAC
def bndE {ε α β : Type} (t : Option (ε ⊕ α)) (f : α → Option (ε ⊕ β)) : Option (ε ⊕ β) := match t with
  | none => none
  | some (.inl x) => some (.inl x)
  | some (.inr a) => f a
theorem bndE_some {ε α β : Type} {t : Option (ε ⊕ α)} {f : α → Option (ε ⊕ β)} {r : β} (h : bndE t f = some (.inr r)) : ∃ a, t = some (.inr a) ∧ f a = some (.inr r) := by
  cases t with
  | none => cases h
  | some u =>
    cases u with
    | inl x => cases h
    | inr a => exact ⟨a, rfl, h⟩
theorem bndE_or {ε α β : Type} {t : Option (ε ⊕ α)} {f : α → Option (ε ⊕ β)} {x : ε} (h : bndE t f = some (.inl x)) : t = some (.inl x) ∨ ∃ a, t = some (.inr a) ∧ f a = some (.inl x) := by
  cases t with
  | none => cases h
  | some u =>
    cases u with
    | inl z => cases h; exact Or.inl rfl
    | inr a => exact Or.inr ⟨a, rfl, h⟩
def bndE2 {ε α0 α1 β : Type} (t : Option (ε ⊕ (α0 × α1))) (f : α0 → α1 → Option (ε ⊕ β)) : Option (ε ⊕ β) := bndE t (fun q => f q.1 q.2)
theorem bndE2_some {ε α0 α1 β : Type} {t : Option (ε ⊕ (α0 × α1))} {f : α0 → α1 → Option (ε ⊕ β)} {r : β} (h : bndE2 t f = some (.inr r)) : ∃ a0 a1, t = some (.inr (a0, a1)) ∧ f a0 a1 = some (.inr r) := by
  obtain ⟨⟨a0, a1⟩, h1, h2⟩ := bndE_some h
  exact ⟨a0, a1, h1, h2⟩
theorem bndE2_or {ε α0 α1 β : Type} {t : Option (ε ⊕ (α0 × α1))} {f : α0 → α1 → Option (ε ⊕ β)} {x : ε} (h : bndE2 t f = some (.inl x)) : t = some (.inl x) ∨ ∃ a0 a1, t = some (.inr (a0, a1)) ∧ f a0 a1 = some (.inl x) := by
  rcases bndE_or h with h1 | ⟨⟨a0, a1⟩, h1, h2⟩
  · exact Or.inl h1
  · exact Or.inr ⟨a0, a1, h1, h2⟩
def bndE3 {ε α0 α1 α2 β : Type} (t : Option (ε ⊕ (α0 × α1 × α2))) (f : α0 → α1 → α2 → Option (ε ⊕ β)) : Option (ε ⊕ β) := bndE t (fun q => f q.1 q.2.1 q.2.2)
theorem bndE3_some {ε α0 α1 α2 β : Type} {t : Option (ε ⊕ (α0 × α1 × α2))} {f : α0 → α1 → α2 → Option (ε ⊕ β)} {r : β} (h : bndE3 t f = some (.inr r)) : ∃ a0 a1 a2, t = some (.inr (a0, a1, a2)) ∧ f a0 a1 a2 = some (.inr r) := by
  obtain ⟨⟨a0, a1, a2⟩, h1, h2⟩ := bndE_some h
  exact ⟨a0, a1, a2, h1, h2⟩
theorem bndE3_or {ε α0 α1 α2 β : Type} {t : Option (ε ⊕ (α0 × α1 × α2))} {f : α0 → α1 → α2 → Option (ε ⊕ β)} {x : ε} (h : bndE3 t f = some (.inl x)) : t = some (.inl x) ∨ ∃ a0 a1 a2, t = some (.inr (a0, a1, a2)) ∧ f a0 a1 a2 = some (.inl x) := by
  rcases bndE_or h with h1 | ⟨⟨a0, a1, a2⟩, h1, h2⟩
  · exact Or.inl h1
  · exact Or.inr ⟨a0, a1, a2, h1, h2⟩
def bndE4 {ε α0 α1 α2 α3 β : Type} (t : Option (ε ⊕ (α0 × α1 × α2 × α3))) (f : α0 → α1 → α2 → α3 → Option (ε ⊕ β)) : Option (ε ⊕ β) := bndE t (fun q => f q.1 q.2.1 q.2.2.1 q.2.2.2)
theorem bndE4_some {ε α0 α1 α2 α3 β : Type} {t : Option (ε ⊕ (α0 × α1 × α2 × α3))} {f : α0 → α1 → α2 → α3 → Option (ε ⊕ β)} {r : β} (h : bndE4 t f = some (.inr r)) : ∃ a0 a1 a2 a3, t = some (.inr (a0, a1, a2, a3)) ∧ f a0 a1 a2 a3 = some (.inr r) := by
  obtain ⟨⟨a0, a1, a2, a3⟩, h1, h2⟩ := bndE_some h
  exact ⟨a0, a1, a2, a3, h1, h2⟩
theorem bndE4_or {ε α0 α1 α2 α3 β : Type} {t : Option (ε ⊕ (α0 × α1 × α2 × α3))} {f : α0 → α1 → α2 → α3 → Option (ε ⊕ β)} {x : ε} (h : bndE4 t f = some (.inl x)) : t = some (.inl x) ∨ ∃ a0 a1 a2 a3, t = some (.inr (a0, a1, a2, a3)) ∧ f a0 a1 a2 a3 = some (.inl x) := by
  rcases bndE_or h with h1 | ⟨⟨a0, a1, a2, a3⟩, h1, h2⟩
  · exact Or.inl h1
  · exact Or.inr ⟨a0, a1, a2, a3, h1, h2⟩
def bndE5 {ε α0 α1 α2 α3 α4 β : Type} (t : Option (ε ⊕ (α0 × α1 × α2 × α3 × α4))) (f : α0 → α1 → α2 → α3 → α4 → Option (ε ⊕ β)) : Option (ε ⊕ β) := bndE t (fun q => f q.1 q.2.1 q.2.2.1 q.2.2.2.1 q.2.2.2.2)
theorem bndE5_some {ε α0 α1 α2 α3 α4 β : Type} {t : Option (ε ⊕ (α0 × α1 × α2 × α3 × α4))} {f : α0 → α1 → α2 → α3 → α4 → Option (ε ⊕ β)} {r : β} (h : bndE5 t f = some (.inr r)) : ∃ a0 a1 a2 a3 a4, t = some (.inr (a0, a1, a2, a3, a4)) ∧ f a0 a1 a2 a3 a4 = some (.inr r) := by
  obtain ⟨⟨a0, a1, a2, a3, a4⟩, h1, h2⟩ := bndE_some h
  exact ⟨a0, a1, a2, a3, a4, h1, h2⟩
theorem bndE5_or {ε α0 α1 α2 α3 α4 β : Type} {t : Option (ε ⊕ (α0 × α1 × α2 × α3 × α4))} {f : α0 → α1 → α2 → α3 → α4 → Option (ε ⊕ β)} {x : ε} (h : bndE5 t f = some (.inl x)) : t = some (.inl x) ∨ ∃ a0 a1 a2 a3 a4, t = some (.inr (a0, a1, a2, a3, a4)) ∧ f a0 a1 a2 a3 a4 = some (.inl x) := by
  rcases bndE_or h with h1 | ⟨⟨a0, a1, a2, a3, a4⟩, h1, h2⟩
  · exact Or.inl h1
  · exact Or.inr ⟨a0, a1, a2, a3, a4, h1, h2⟩
def bndE6 {ε α0 α1 α2 α3 α4 α5 β : Type} (t : Option (ε ⊕ (α0 × α1 × α2 × α3 × α4 × α5))) (f : α0 → α1 → α2 → α3 → α4 → α5 → Option (ε ⊕ β)) : Option (ε ⊕ β) := bndE t (fun q => f q.1 q.2.1 q.2.2.1 q.2.2.2.1 q.2.2.2.2.1 q.2.2.2.2.2)
theorem bndE6_some {ε α0 α1 α2 α3 α4 α5 β : Type} {t : Option (ε ⊕ (α0 × α1 × α2 × α3 × α4 × α5))} {f : α0 → α1 → α2 → α3 → α4 → α5 → Option (ε ⊕ β)} {r : β} (h : bndE6 t f = some (.inr r)) : ∃ a0 a1 a2 a3 a4 a5, t = some (.inr (a0, a1, a2, a3, a4, a5)) ∧ f a0 a1 a2 a3 a4 a5 = some (.inr r) := by
  obtain ⟨⟨a0, a1, a2, a3, a4, a5⟩, h1, h2⟩ := bndE_some h
  exact ⟨a0, a1, a2, a3, a4, a5, h1, h2⟩
theorem bndE6_or {ε α0 α1 α2 α3 α4 α5 β : Type} {t : Option (ε ⊕ (α0 × α1 × α2 × α3 × α4 × α5))} {f : α0 → α1 → α2 → α3 → α4 → α5 → Option (ε ⊕ β)} {x : ε} (h : bndE6 t f = some (.inl x)) : t = some (.inl x) ∨ ∃ a0 a1 a2 a3 a4 a5, t = some (.inr (a0, a1, a2, a3, a4, a5)) ∧ f a0 a1 a2 a3 a4 a5 = some (.inl x) := by
  rcases bndE_or h with h1 | ⟨⟨a0, a1, a2, a3, a4, a5⟩, h1, h2⟩
  · exact Or.inl h1
  · exact Or.inr ⟨a0, a1, a2, a3, a4, a5, h1, h2⟩
def bndE7 {ε α0 α1 α2 α3 α4 α5 α6 β : Type} (t : Option (ε ⊕ (α0 × α1 × α2 × α3 × α4 × α5 × α6))) (f : α0 → α1 → α2 → α3 → α4 → α5 → α6 → Option (ε ⊕ β)) : Option (ε ⊕ β) := bndE t (fun q => f q.1 q.2.1 q.2.2.1 q.2.2.2.1 q.2.2.2.2.1 q.2.2.2.2.2.1 q.2.2.2.2.2.2)
theorem bndE7_some {ε α0 α1 α2 α3 α4 α5 α6 β : Type} {t : Option (ε ⊕ (α0 × α1 × α2 × α3 × α4 × α5 × α6))} {f : α0 → α1 → α2 → α3 → α4 → α5 → α6 → Option (ε ⊕ β)} {r : β} (h : bndE7 t f = some (.inr r)) : ∃ a0 a1 a2 a3 a4 a5 a6, t = some (.inr (a0, a1, a2, a3, a4, a5, a6)) ∧ f a0 a1 a2 a3 a4 a5 a6 = some (.inr r) := by
  obtain ⟨⟨a0, a1, a2, a3, a4, a5, a6⟩, h1, h2⟩ := bndE_some h
  exact ⟨a0, a1, a2, a3, a4, a5, a6, h1, h2⟩
theorem bndE7_or {ε α0 α1 α2 α3 α4 α5 α6 β : Type} {t : Option (ε ⊕ (α0 × α1 × α2 × α3 × α4 × α5 × α6))} {f : α0 → α1 → α2 → α3 → α4 → α5 → α6 → Option (ε ⊕ β)} {x : ε} (h : bndE7 t f = some (.inl x)) : t = some (.inl x) ∨ ∃ a0 a1 a2 a3 a4 a5 a6, t = some (.inr (a0, a1, a2, a3, a4, a5, a6)) ∧ f a0 a1 a2 a3 a4 a5 a6 = some (.inl x) := by
  rcases bndE_or h with h1 | ⟨⟨a0, a1, a2, a3, a4, a5, a6⟩, h1, h2⟩
  · exact Or.inl h1
  · exact Or.inr ⟨a0, a1, a2, a3, a4, a5, a6, h1, h2⟩
def bndE8 {ε α0 α1 α2 α3 α4 α5 α6 α7 β : Type} (t : Option (ε ⊕ (α0 × α1 × α2 × α3 × α4 × α5 × α6 × α7))) (f : α0 → α1 → α2 → α3 → α4 → α5 → α6 → α7 → Option (ε ⊕ β)) : Option (ε ⊕ β) := bndE t (fun q => f q.1 q.2.1 q.2.2.1 q.2.2.2.1 q.2.2.2.2.1 q.2.2.2.2.2.1 q.2.2.2.2.2.2.1 q.2.2.2.2.2.2.2)
theorem bndE8_some {ε α0 α1 α2 α3 α4 α5 α6 α7 β : Type} {t : Option (ε ⊕ (α0 × α1 × α2 × α3 × α4 × α5 × α6 × α7))} {f : α0 → α1 → α2 → α3 → α4 → α5 → α6 → α7 → Option (ε ⊕ β)} {r : β} (h : bndE8 t f = some (.inr r)) : ∃ a0 a1 a2 a3 a4 a5 a6 a7, t = some (.inr (a0, a1, a2, a3, a4, a5, a6, a7)) ∧ f a0 a1 a2 a3 a4 a5 a6 a7 = some (.inr r) := by
  obtain ⟨⟨a0, a1, a2, a3, a4, a5, a6, a7⟩, h1, h2⟩ := bndE_some h
  exact ⟨a0, a1, a2, a3, a4, a5, a6, a7, h1, h2⟩
theorem bndE8_or {ε α0 α1 α2 α3 α4 α5 α6 α7 β : Type} {t : Option (ε ⊕ (α0 × α1 × α2 × α3 × α4 × α5 × α6 × α7))} {f : α0 → α1 → α2 → α3 → α4 → α5 → α6 → α7 → Option (ε ⊕ β)} {x : ε} (h : bndE8 t f = some (.inl x)) : t = some (.inl x) ∨ ∃ a0 a1 a2 a3 a4 a5 a6 a7, t = some (.inr (a0, a1, a2, a3, a4, a5, a6, a7)) ∧ f a0 a1 a2 a3 a4 a5 a6 a7 = some (.inl x) := by
  rcases bndE_or h with h1 | ⟨⟨a0, a1, a2, a3, a4, a5, a6, a7⟩, h1, h2⟩
  · exact Or.inl h1
  · exact Or.inr ⟨a0, a1, a2, a3, a4, a5, a6, a7, h1, h2⟩
def bndE9 {ε α0 α1 α2 α3 α4 α5 α6 α7 α8 β : Type} (t : Option (ε ⊕ (α0 × α1 × α2 × α3 × α4 × α5 × α6 × α7 × α8))) (f : α0 → α1 → α2 → α3 → α4 → α5 → α6 → α7 → α8 → Option (ε ⊕ β)) : Option (ε ⊕ β) := bndE t (fun q => f q.1 q.2.1 q.2.2.1 q.2.2.2.1 q.2.2.2.2.1 q.2.2.2.2.2.1 q.2.2.2.2.2.2.1 q.2.2.2.2.2.2.2.1 q.2.2.2.2.2.2.2.2)
theorem bndE9_some {ε α0 α1 α2 α3 α4 α5 α6 α7 α8 β : Type} {t : Option (ε ⊕ (α0 × α1 × α2 × α3 × α4 × α5 × α6 × α7 × α8))} {f : α0 → α1 → α2 → α3 → α4 → α5 → α6 → α7 → α8 → Option (ε ⊕ β)} {r : β} (h : bndE9 t f = some (.inr r)) : ∃ a0 a1 a2 a3 a4 a5 a6 a7 a8, t = some (.inr (a0, a1, a2, a3, a4, a5, a6, a7, a8)) ∧ f a0 a1 a2 a3 a4 a5 a6 a7 a8 = some (.inr r) := by
  obtain ⟨⟨a0, a1, a2, a3, a4, a5, a6, a7, a8⟩, h1, h2⟩ := bndE_some h
  exact ⟨a0, a1, a2, a3, a4, a5, a6, a7, a8, h1, h2⟩
theorem bndE9_or {ε α0 α1 α2 α3 α4 α5 α6 α7 α8 β : Type} {t : Option (ε ⊕ (α0 × α1 × α2 × α3 × α4 × α5 × α6 × α7 × α8))} {f : α0 → α1 → α2 → α3 → α4 → α5 → α6 → α7 → α8 → Option (ε ⊕ β)} {x : ε} (h : bndE9 t f = some (.inl x)) : t = some (.inl x) ∨ ∃ a0 a1 a2 a3 a4 a5 a6 a7 a8, t = some (.inr (a0, a1, a2, a3, a4, a5, a6, a7, a8)) ∧ f a0 a1 a2 a3 a4 a5 a6 a7 a8 = some (.inl x) := by
  rcases bndE_or h with h1 | ⟨⟨a0, a1, a2, a3, a4, a5, a6, a7, a8⟩, h1, h2⟩
  · exact Or.inl h1
  · exact Or.inr ⟨a0, a1, a2, a3, a4, a5, a6, a7, a8, h1, h2⟩
def bndE10 {ε α0 α1 α2 α3 α4 α5 α6 α7 α8 α9 β : Type} (t : Option (ε ⊕ (α0 × α1 × α2 × α3 × α4 × α5 × α6 × α7 × α8 × α9))) (f : α0 → α1 → α2 → α3 → α4 → α5 → α6 → α7 → α8 → α9 → Option (ε ⊕ β)) : Option (ε ⊕ β) := bndE t (fun q => f q.1 q.2.1 q.2.2.1 q.2.2.2.1 q.2.2.2.2.1 q.2.2.2.2.2.1 q.2.2.2.2.2.2.1 q.2.2.2.2.2.2.2.1 q.2.2.2.2.2.2.2.2.1 q.2.2.2.2.2.2.2.2.2)
theorem bndE10_some {ε α0 α1 α2 α3 α4 α5 α6 α7 α8 α9 β : Type} {t : Option (ε ⊕ (α0 × α1 × α2 × α3 × α4 × α5 × α6 × α7 × α8 × α9))} {f : α0 → α1 → α2 → α3 → α4 → α5 → α6 → α7 → α8 → α9 → Option (ε ⊕ β)} {r : β} (h : bndE10 t f = some (.inr r)) : ∃ a0 a1 a2 a3 a4 a5 a6 a7 a8 a9, t = some (.inr (a0, a1, a2, a3, a4, a5, a6, a7, a8, a9)) ∧ f a0 a1 a2 a3 a4 a5 a6 a7 a8 a9 = some (.inr r) := by
  obtain ⟨⟨a0, a1, a2, a3, a4, a5, a6, a7, a8, a9⟩, h1, h2⟩ := bndE_some h
  exact ⟨a0, a1, a2, a3, a4, a5, a6, a7, a8, a9, h1, h2⟩
theorem bndE10_or {ε α0 α1 α2 α3 α4 α5 α6 α7 α8 α9 β : Type} {t : Option (ε ⊕ (α0 × α1 × α2 × α3 × α4 × α5 × α6 × α7 × α8 × α9))} {f : α0 → α1 → α2 → α3 → α4 → α5 → α6 → α7 → α8 → α9 → Option (ε ⊕ β)} {x : ε} (h : bndE10 t f = some (.inl x)) : t = some (.inl x) ∨ ∃ a0 a1 a2 a3 a4 a5 a6 a7 a8 a9, t = some (.inr (a0, a1, a2, a3, a4, a5, a6, a7, a8, a9)) ∧ f a0 a1 a2 a3 a4 a5 a6 a7 a8 a9 = some (.inl x) := by
  rcases bndE_or h with h1 | ⟨⟨a0, a1, a2, a3, a4, a5, a6, a7, a8, a9⟩, h1, h2⟩
  · exact Or.inl h1
  · exact Or.inr ⟨a0, a1, a2, a3, a4, a5, a6, a7, a8, a9, h1, h2⟩
def bndE11 {ε α0 α1 α2 α3 α4 α5 α6 α7 α8 α9 α10 β : Type} (t : Option (ε ⊕ (α0 × α1 × α2 × α3 × α4 × α5 × α6 × α7 × α8 × α9 × α10))) (f : α0 → α1 → α2 → α3 → α4 → α5 → α6 → α7 → α8 → α9 → α10 → Option (ε ⊕ β)) : Option (ε ⊕ β) := bndE t (fun q => f q.1 q.2.1 q.2.2.1 q.2.2.2.1 q.2.2.2.2.1 q.2.2.2.2.2.1 q.2.2.2.2.2.2.1 q.2.2.2.2.2.2.2.1 q.2.2.2.2.2.2.2.2.1 q.2.2.2.2.2.2.2.2.2.1 q.2.2.2.2.2.2.2.2.2.2)
theorem bndE11_some {ε α0 α1 α2 α3 α4 α5 α6 α7 α8 α9 α10 β : Type} {t : Option (ε ⊕ (α0 × α1 × α2 × α3 × α4 × α5 × α6 × α7 × α8 × α9 × α10))} {f : α0 → α1 → α2 → α3 → α4 → α5 → α6 → α7 → α8 → α9 → α10 → Option (ε ⊕ β)} {r : β} (h : bndE11 t f = some (.inr r)) : ∃ a0 a1 a2 a3 a4 a5 a6 a7 a8 a9 a10, t = some (.inr (a0, a1, a2, a3, a4, a5, a6, a7, a8, a9, a10)) ∧ f a0 a1 a2 a3 a4 a5 a6 a7 a8 a9 a10 = some (.inr r) := by
  obtain ⟨⟨a0, a1, a2, a3, a4, a5, a6, a7, a8, a9, a10⟩, h1, h2⟩ := bndE_some h
  exact ⟨a0, a1, a2, a3, a4, a5, a6, a7, a8, a9, a10, h1, h2⟩
theorem bndE11_or {ε α0 α1 α2 α3 α4 α5 α6 α7 α8 α9 α10 β : Type} {t : Option (ε ⊕ (α0 × α1 × α2 × α3 × α4 × α5 × α6 × α7 × α8 × α9 × α10))} {f : α0 → α1 → α2 → α3 → α4 → α5 → α6 → α7 → α8 → α9 → α10 → Option (ε ⊕ β)} {x : ε} (h : bndE11 t f = some (.inl x)) : t = some (.inl x) ∨ ∃ a0 a1 a2 a3 a4 a5 a6 a7 a8 a9 a10, t = some (.inr (a0, a1, a2, a3, a4, a5, a6, a7, a8, a9, a10)) ∧ f a0 a1 a2 a3 a4 a5 a6 a7 a8 a9 a10 = some (.inl x) := by
  rcases bndE_or h with h1 | ⟨⟨a0, a1, a2, a3, a4, a5, a6, a7, a8, a9, a10⟩, h1, h2⟩
  · exact Or.inl h1
  · exact Or.inr ⟨a0, a1, a2, a3, a4, a5, a6, a7, a8, a9, a10, h1, h2⟩
def bndE12 {ε α0 α1 α2 α3 α4 α5 α6 α7 α8 α9 α10 α11 β : Type} (t : Option (ε ⊕ (α0 × α1 × α2 × α3 × α4 × α5 × α6 × α7 × α8 × α9 × α10 × α11))) (f : α0 → α1 → α2 → α3 → α4 → α5 → α6 → α7 → α8 → α9 → α10 → α11 → Option (ε ⊕ β)) : Option (ε ⊕ β) := bndE t (fun q => f q.1 q.2.1 q.2.2.1 q.2.2.2.1 q.2.2.2.2.1 q.2.2.2.2.2.1 q.2.2.2.2.2.2.1 q.2.2.2.2.2.2.2.1 q.2.2.2.2.2.2.2.2.1 q.2.2.2.2.2.2.2.2.2.1 q.2.2.2.2.2.2.2.2.2.2.1 q.2.2.2.2.2.2.2.2.2.2.2)
theorem bndE12_some {ε α0 α1 α2 α3 α4 α5 α6 α7 α8 α9 α10 α11 β : Type} {t : Option (ε ⊕ (α0 × α1 × α2 × α3 × α4 × α5 × α6 × α7 × α8 × α9 × α10 × α11))} {f : α0 → α1 → α2 → α3 → α4 → α5 → α6 → α7 → α8 → α9 → α10 → α11 → Option (ε ⊕ β)} {r : β} (h : bndE12 t f = some (.inr r)) : ∃ a0 a1 a2 a3 a4 a5 a6 a7 a8 a9 a10 a11, t = some (.inr (a0, a1, a2, a3, a4, a5, a6, a7, a8, a9, a10, a11)) ∧ f a0 a1 a2 a3 a4 a5 a6 a7 a8 a9 a10 a11 = some (.inr r) := by
  obtain ⟨⟨a0, a1, a2, a3, a4, a5, a6, a7, a8, a9, a10, a11⟩, h1, h2⟩ := bndE_some h
  exact ⟨a0, a1, a2, a3, a4, a5, a6, a7, a8, a9, a10, a11, h1, h2⟩
theorem bndE12_or {ε α0 α1 α2 α3 α4 α5 α6 α7 α8 α9 α10 α11 β : Type} {t : Option (ε ⊕ (α0 × α1 × α2 × α3 × α4 × α5 × α6 × α7 × α8 × α9 × α10 × α11))} {f : α0 → α1 → α2 → α3 → α4 → α5 → α6 → α7 → α8 → α9 → α10 → α11 → Option (ε ⊕ β)} {x : ε} (h : bndE12 t f = some (.inl x)) : t = some (.inl x) ∨ ∃ a0 a1 a2 a3 a4 a5 a6 a7 a8 a9 a10 a11, t = some (.inr (a0, a1, a2, a3, a4, a5, a6, a7, a8, a9, a10, a11)) ∧ f a0 a1 a2 a3 a4 a5 a6 a7 a8 a9 a10 a11 = some (.inl x) := by
  rcases bndE_or h with h1 | ⟨⟨a0, a1, a2, a3, a4, a5, a6, a7, a8, a9, a10, a11⟩, h1, h2⟩
  · exact Or.inl h1
  · exact Or.inr ⟨a0, a1, a2, a3, a4, a5, a6, a7, a8, a9, a10, a11, h1, h2⟩
def bndE13 {ε α0 α1 α2 α3 α4 α5 α6 α7 α8 α9 α10 α11 α12 β : Type} (t : Option (ε ⊕ (α0 × α1 × α2 × α3 × α4 × α5 × α6 × α7 × α8 × α9 × α10 × α11 × α12))) (f : α0 → α1 → α2 → α3 → α4 → α5 → α6 → α7 → α8 → α9 → α10 → α11 → α12 → Option (ε ⊕ β)) : Option (ε ⊕ β) := bndE t (fun q => f q.1 q.2.1 q.2.2.1 q.2.2.2.1 q.2.2.2.2.1 q.2.2.2.2.2.1 q.2.2.2.2.2.2.1 q.2.2.2.2.2.2.2.1 q.2.2.2.2.2.2.2.2.1 q.2.2.2.2.2.2.2.2.2.1 q.2.2.2.2.2.2.2.2.2.2.1 q.2.2.2.2.2.2.2.2.2.2.2.1 q.2.2.2.2.2.2.2.2.2.2.2.2)
theorem bndE13_some {ε α0 α1 α2 α3 α4 α5 α6 α7 α8 α9 α10 α11 α12 β : Type} {t : Option (ε ⊕ (α0 × α1 × α2 × α3 × α4 × α5 × α6 × α7 × α8 × α9 × α10 × α11 × α12))} {f : α0 → α1 → α2 → α3 → α4 → α5 → α6 → α7 → α8 → α9 → α10 → α11 → α12 → Option (ε ⊕ β)} {r : β} (h : bndE13 t f = some (.inr r)) : ∃ a0 a1 a2 a3 a4 a5 a6 a7 a8 a9 a10 a11 a12, t = some (.inr (a0, a1, a2, a3, a4, a5, a6, a7, a8, a9, a10, a11, a12)) ∧ f a0 a1 a2 a3 a4 a5 a6 a7 a8 a9 a10 a11 a12 = some (.inr r) := by
  obtain ⟨⟨a0, a1, a2, a3, a4, a5, a6, a7, a8, a9, a10, a11, a12⟩, h1, h2⟩ := bndE_some h
  exact ⟨a0, a1, a2, a3, a4, a5, a6, a7, a8, a9, a10, a11, a12, h1, h2⟩
theorem bndE13_or {ε α0 α1 α2 α3 α4 α5 α6 α7 α8 α9 α10 α11 α12 β : Type} {t : Option (ε ⊕ (α0 × α1 × α2 × α3 × α4 × α5 × α6 × α7 × α8 × α9 × α10 × α11 × α12))} {f : α0 → α1 → α2 → α3 → α4 → α5 → α6 → α7 → α8 → α9 → α10 → α11 → α12 → Option (ε ⊕ β)} {x : ε} (h : bndE13 t f = some (.inl x)) : t = some (.inl x) ∨ ∃ a0 a1 a2 a3 a4 a5 a6 a7 a8 a9 a10 a11 a12, t = some (.inr (a0, a1, a2, a3, a4, a5, a6, a7, a8, a9, a10, a11, a12)) ∧ f a0 a1 a2 a3 a4 a5 a6 a7 a8 a9 a10 a11 a12 = some (.inl x) := by
  rcases bndE_or h with h1 | ⟨⟨a0, a1, a2, a3, a4, a5, a6, a7, a8, a9, a10, a11, a12⟩, h1, h2⟩
  · exact Or.inl h1
  · exact Or.inr ⟨a0, a1, a2, a3, a4, a5, a6, a7, a8, a9, a10, a11, a12, h1, h2⟩
def bndE14 {ε α0 α1 α2 α3 α4 α5 α6 α7 α8 α9 α10 α11 α12 α13 β : Type} (t : Option (ε ⊕ (α0 × α1 × α2 × α3 × α4 × α5 × α6 × α7 × α8 × α9 × α10 × α11 × α12 × α13))) (f : α0 → α1 → α2 → α3 → α4 → α5 → α6 → α7 → α8 → α9 → α10 → α11 → α12 → α13 → Option (ε ⊕ β)) : Option (ε ⊕ β) := bndE t (fun q => f q.1 q.2.1 q.2.2.1 q.2.2.2.1 q.2.2.2.2.1 q.2.2.2.2.2.1 q.2.2.2.2.2.2.1 q.2.2.2.2.2.2.2.1 q.2.2.2.2.2.2.2.2.1 q.2.2.2.2.2.2.2.2.2.1 q.2.2.2.2.2.2.2.2.2.2.1 q.2.2.2.2.2.2.2.2.2.2.2.1 q.2.2.2.2.2.2.2.2.2.2.2.2.1 q.2.2.2.2.2.2.2.2.2.2.2.2.2)
theorem bndE14_some {ε α0 α1 α2 α3 α4 α5 α6 α7 α8 α9 α10 α11 α12 α13 β : Type} {t : Option (ε ⊕ (α0 × α1 × α2 × α3 × α4 × α5 × α6 × α7 × α8 × α9 × α10 × α11 × α12 × α13))} {f : α0 → α1 → α2 → α3 → α4 → α5 → α6 → α7 → α8 → α9 → α10 → α11 → α12 → α13 → Option (ε ⊕ β)} {r : β} (h : bndE14 t f = some (.inr r)) : ∃ a0 a1 a2 a3 a4 a5 a6 a7 a8 a9 a10 a11 a12 a13, t = some (.inr (a0, a1, a2, a3, a4, a5, a6, a7, a8, a9, a10, a11, a12, a13)) ∧ f a0 a1 a2 a3 a4 a5 a6 a7 a8 a9 a10 a11 a12 a13 = some (.inr r) := by
  obtain ⟨⟨a0, a1, a2, a3, a4, a5, a6, a7, a8, a9, a10, a11, a12, a13⟩, h1, h2⟩ := bndE_some h
  exact ⟨a0, a1, a2, a3, a4, a5, a6, a7, a8, a9, a10, a11, a12, a13, h1, h2⟩
theorem bndE14_or {ε α0 α1 α2 α3 α4 α5 α6 α7 α8 α9 α10 α11 α12 α13 β : Type} {t : Option (ε ⊕ (α0 × α1 × α2 × α3 × α4 × α5 × α6 × α7 × α8 × α9 × α10 × α11 × α12 × α13))} {f : α0 → α1 → α2 → α3 → α4 → α5 → α6 → α7 → α8 → α9 → α10 → α11 → α12 → α13 → Option (ε ⊕ β)} {x : ε} (h : bndE14 t f = some (.inl x)) : t = some (.inl x) ∨ ∃ a0 a1 a2 a3 a4 a5 a6 a7 a8 a9 a10 a11 a12 a13, t = some (.inr (a0, a1, a2, a3, a4, a5, a6, a7, a8, a9, a10, a11, a12, a13)) ∧ f a0 a1 a2 a3 a4 a5 a6 a7 a8 a9 a10 a11 a12 a13 = some (.inl x) := by
  rcases bndE_or h with h1 | ⟨⟨a0, a1, a2, a3, a4, a5, a6, a7, a8, a9, a10, a11, a12, a13⟩, h1, h2⟩
  · exact Or.inl h1
  · exact Or.inr ⟨a0, a1, a2, a3, a4, a5, a6, a7, a8, a9, a10, a11, a12, a13, h1, h2⟩
def bndE15 {ε α0 α1 α2 α3 α4 α5 α6 α7 α8 α9 α10 α11 α12 α13 α14 β : Type} (t : Option (ε ⊕ (α0 × α1 × α2 × α3 × α4 × α5 × α6 × α7 × α8 × α9 × α10 × α11 × α12 × α13 × α14))) (f : α0 → α1 → α2 → α3 → α4 → α5 → α6 → α7 → α8 → α9 → α10 → α11 → α12 → α13 → α14 → Option (ε ⊕ β)) : Option (ε ⊕ β) := bndE t (fun q => f q.1 q.2.1 q.2.2.1 q.2.2.2.1 q.2.2.2.2.1 q.2.2.2.2.2.1 q.2.2.2.2.2.2.1 q.2.2.2.2.2.2.2.1 q.2.2.2.2.2.2.2.2.1 q.2.2.2.2.2.2.2.2.2.1 q.2.2.2.2.2.2.2.2.2.2.1 q.2.2.2.2.2.2.2.2.2.2.2.1 q.2.2.2.2.2.2.2.2.2.2.2.2.1 q.2.2.2.2.2.2.2.2.2.2.2.2.2.1 q.2.2.2.2.2.2.2.2.2.2.2.2.2.2)
theorem bndE15_some {ε α0 α1 α2 α3 α4 α5 α6 α7 α8 α9 α10 α11 α12 α13 α14 β : Type} {t : Option (ε ⊕ (α0 × α1 × α2 × α3 × α4 × α5 × α6 × α7 × α8 × α9 × α10 × α11 × α12 × α13 × α14))} {f : α0 → α1 → α2 → α3 → α4 → α5 → α6 → α7 → α8 → α9 → α10 → α11 → α12 → α13 → α14 → Option (ε ⊕ β)} {r : β} (h : bndE15 t f = some (.inr r)) : ∃ a0 a1 a2 a3 a4 a5 a6 a7 a8 a9 a10 a11 a12 a13 a14, t = some (.inr (a0, a1, a2, a3, a4, a5, a6, a7, a8, a9, a10, a11, a12, a13, a14)) ∧ f a0 a1 a2 a3 a4 a5 a6 a7 a8 a9 a10 a11 a12 a13 a14 = some (.inr r) := by
  obtain ⟨⟨a0, a1, a2, a3, a4, a5, a6, a7, a8, a9, a10, a11, a12, a13, a14⟩, h1, h2⟩ := bndE_some h
  exact ⟨a0, a1, a2, a3, a4, a5, a6, a7, a8, a9, a10, a11, a12, a13, a14, h1, h2⟩
theorem bndE15_or {ε α0 α1 α2 α3 α4 α5 α6 α7 α8 α9 α10 α11 α12 α13 α14 β : Type} {t : Option (ε ⊕ (α0 × α1 × α2 × α3 × α4 × α5 × α6 × α7 × α8 × α9 × α10 × α11 × α12 × α13 × α14))} {f : α0 → α1 → α2 → α3 → α4 → α5 → α6 → α7 → α8 → α9 → α10 → α11 → α12 → α13 → α14 → Option (ε ⊕ β)} {x : ε} (h : bndE15 t f = some (.inl x)) : t = some (.inl x) ∨ ∃ a0 a1 a2 a3 a4 a5 a6 a7 a8 a9 a10 a11 a12 a13 a14, t = some (.inr (a0, a1, a2, a3, a4, a5, a6, a7, a8, a9, a10, a11, a12, a13, a14)) ∧ f a0 a1 a2 a3 a4 a5 a6 a7 a8 a9 a10 a11 a12 a13 a14 = some (.inl x) := by
  rcases bndE_or h with h1 | ⟨⟨a0, a1, a2, a3, a4, a5, a6, a7, a8, a9, a10, a11, a12, a13, a14⟩, h1, h2⟩
  · exact Or.inl h1
  · exact Or.inr ⟨a0, a1, a2, a3, a4, a5, a6, a7, a8, a9, a10, a11, a12, a13, a14, h1, h2⟩
def bndE16 {ε α0 α1 α2 α3 α4 α5 α6 α7 α8 α9 α10 α11 α12 α13 α14 α15 β : Type} (t : Option (ε ⊕ (α0 × α1 × α2 × α3 × α4 × α5 × α6 × α7 × α8 × α9 × α10 × α11 × α12 × α13 × α14 × α15))) (f : α0 → α1 → α2 → α3 → α4 → α5 → α6 → α7 → α8 → α9 → α10 → α11 → α12 → α13 → α14 → α15 → Option (ε ⊕ β)) : Option (ε ⊕ β) := bndE t (fun q => f q.1 q.2.1 q.2.2.1 q.2.2.2.1 q.2.2.2.2.1 q.2.2.2.2.2.1 q.2.2.2.2.2.2.1 q.2.2.2.2.2.2.2.1 q.2.2.2.2.2.2.2.2.1 q.2.2.2.2.2.2.2.2.2.1 q.2.2.2.2.2.2.2.2.2.2.1 q.2.2.2.2.2.2.2.2.2.2.2.1 q.2.2.2.2.2.2.2.2.2.2.2.2.1 q.2.2.2.2.2.2.2.2.2.2.2.2.2.1 q.2.2.2.2.2.2.2.2.2.2.2.2.2.2.1 q.2.2.2.2.2.2.2.2.2.2.2.2.2.2.2)
theorem bndE16_some {ε α0 α1 α2 α3 α4 α5 α6 α7 α8 α9 α10 α11 α12 α13 α14 α15 β : Type} {t : Option (ε ⊕ (α0 × α1 × α2 × α3 × α4 × α5 × α6 × α7 × α8 × α9 × α10 × α11 × α12 × α13 × α14 × α15))} {f : α0 → α1 → α2 → α3 → α4 → α5 → α6 → α7 → α8 → α9 → α10 → α11 → α12 → α13 → α14 → α15 → Option (ε ⊕ β)} {r : β} (h : bndE16 t f = some (.inr r)) : ∃ a0 a1 a2 a3 a4 a5 a6 a7 a8 a9 a10 a11 a12 a13 a14 a15, t = some (.inr (a0, a1, a2, a3, a4, a5, a6, a7, a8, a9, a10, a11, a12, a13, a14, a15)) ∧ f a0 a1 a2 a3 a4 a5 a6 a7 a8 a9 a10 a11 a12 a13 a14 a15 = some (.inr r) := by
  obtain ⟨⟨a0, a1, a2, a3, a4, a5, a6, a7, a8, a9, a10, a11, a12, a13, a14, a15⟩, h1, h2⟩ := bndE_some h
  exact ⟨a0, a1, a2, a3, a4, a5, a6, a7, a8, a9, a10, a11, a12, a13, a14, a15, h1, h2⟩
theorem bndE16_or {ε α0 α1 α2 α3 α4 α5 α6 α7 α8 α9 α10 α11 α12 α13 α14 α15 β : Type} {t : Option (ε ⊕ (α0 × α1 × α2 × α3 × α4 × α5 × α6 × α7 × α8 × α9 × α10 × α11 × α12 × α13 × α14 × α15))} {f : α0 → α1 → α2 → α3 → α4 → α5 → α6 → α7 → α8 → α9 → α10 → α11 → α12 → α13 → α14 → α15 → Option (ε ⊕ β)} {x : ε} (h : bndE16 t f = some (.inl x)) : t = some (.inl x) ∨ ∃ a0 a1 a2 a3 a4 a5 a6 a7 a8 a9 a10 a11 a12 a13 a14 a15, t = some (.inr (a0, a1, a2, a3, a4, a5, a6, a7, a8, a9, a10, a11, a12, a13, a14, a15)) ∧ f a0 a1 a2 a3 a4 a5 a6 a7 a8 a9 a10 a11 a12 a13 a14 a15 = some (.inl x) := by
  rcases bndE_or h with h1 | ⟨⟨a0, a1, a2, a3, a4, a5, a6, a7, a8, a9, a10, a11, a12, a13, a14, a15⟩, h1, h2⟩
  · exact Or.inl h1
  · exact Or.inr ⟨a0, a1, a2, a3, a4, a5, a6, a7, a8, a9, a10, a11, a12, a13, a14, a15, h1, h2⟩
def bndE17 {ε α0 α1 α2 α3 α4 α5 α6 α7 α8 α9 α10 α11 α12 α13 α14 α15 α16 β : Type} (t : Option (ε ⊕ (α0 × α1 × α2 × α3 × α4 × α5 × α6 × α7 × α8 × α9 × α10 × α11 × α12 × α13 × α14 × α15 × α16))) (f : α0 → α1 → α2 → α3 → α4 → α5 → α6 → α7 → α8 → α9 → α10 → α11 → α12 → α13 → α14 → α15 → α16 → Option (ε ⊕ β)) : Option (ε ⊕ β) := bndE t (fun q => f q.1 q.2.1 q.2.2.1 q.2.2.2.1 q.2.2.2.2.1 q.2.2.2.2.2.1 q.2.2.2.2.2.2.1 q.2.2.2.2.2.2.2.1 q.2.2.2.2.2.2.2.2.1 q.2.2.2.2.2.2.2.2.2.1 q.2.2.2.2.2.2.2.2.2.2.1 q.2.2.2.2.2.2.2.2.2.2.2.1 q.2.2.2.2.2.2.2.2.2.2.2.2.1 q.2.2.2.2.2.2.2.2.2.2.2.2.2.1 q.2.2.2.2.2.2.2.2.2.2.2.2.2.2.1 q.2.2.2.2.2.2.2.2.2.2.2.2.2.2.2.1 q.2.2.2.2.2.2.2.2.2.2.2.2.2.2.2.2)
theorem bndE17_some {ε α0 α1 α2 α3 α4 α5 α6 α7 α8 α9 α10 α11 α12 α13 α14 α15 α16 β : Type} {t : Option (ε ⊕ (α0 × α1 × α2 × α3 × α4 × α5 × α6 × α7 × α8 × α9 × α10 × α11 × α12 × α13 × α14 × α15 × α16))} {f : α0 → α1 → α2 → α3 → α4 → α5 → α6 → α7 → α8 → α9 → α10 → α11 → α12 → α13 → α14 → α15 → α16 → Option (ε ⊕ β)} {r : β} (h : bndE17 t f = some (.inr r)) : ∃ a0 a1 a2 a3 a4 a5 a6 a7 a8 a9 a10 a11 a12 a13 a14 a15 a16, t = some (.inr (a0, a1, a2, a3, a4, a5, a6, a7, a8, a9, a10, a11, a12, a13, a14, a15, a16)) ∧ f a0 a1 a2 a3 a4 a5 a6 a7 a8 a9 a10 a11 a12 a13 a14 a15 a16 = some (.inr r) := by
  obtain ⟨⟨a0, a1, a2, a3, a4, a5, a6, a7, a8, a9, a10, a11, a12, a13, a14, a15, a16⟩, h1, h2⟩ := bndE_some h
  exact ⟨a0, a1, a2, a3, a4, a5, a6, a7, a8, a9, a10, a11, a12, a13, a14, a15, a16, h1, h2⟩
theorem bndE17_or {ε α0 α1 α2 α3 α4 α5 α6 α7 α8 α9 α10 α11 α12 α13 α14 α15 α16 β : Type} {t : Option (ε ⊕ (α0 × α1 × α2 × α3 × α4 × α5 × α6 × α7 × α8 × α9 × α10 × α11 × α12 × α13 × α14 × α15 × α16))} {f : α0 → α1 → α2 → α3 → α4 → α5 → α6 → α7 → α8 → α9 → α10 → α11 → α12 → α13 → α14 → α15 → α16 → Option (ε ⊕ β)} {x : ε} (h : bndE17 t f = some (.inl x)) : t = some (.inl x) ∨ ∃ a0 a1 a2 a3 a4 a5 a6 a7 a8 a9 a10 a11 a12 a13 a14 a15 a16, t = some (.inr (a0, a1, a2, a3, a4, a5, a6, a7, a8, a9, a10, a11, a12, a13, a14, a15, a16)) ∧ f a0 a1 a2 a3 a4 a5 a6 a7 a8 a9 a10 a11 a12 a13 a14 a15 a16 = some (.inl x) := by
  rcases bndE_or h with h1 | ⟨⟨a0, a1, a2, a3, a4, a5, a6, a7, a8, a9, a10, a11, a12, a13, a14, a15, a16⟩, h1, h2⟩
  · exact Or.inl h1
  · exact Or.inr ⟨a0, a1, a2, a3, a4, a5, a6, a7, a8, a9, a10, a11, a12, a13, a14, a15, a16, h1, h2⟩
def bndE18 {ε α0 α1 α2 α3 α4 α5 α6 α7 α8 α9 α10 α11 α12 α13 α14 α15 α16 α17 β : Type} (t : Option (ε ⊕ (α0 × α1 × α2 × α3 × α4 × α5 × α6 × α7 × α8 × α9 × α10 × α11 × α12 × α13 × α14 × α15 × α16 × α17))) (f : α0 → α1 → α2 → α3 → α4 → α5 → α6 → α7 → α8 → α9 → α10 → α11 → α12 → α13 → α14 → α15 → α16 → α17 → Option (ε ⊕ β)) : Option (ε ⊕ β) := bndE t (fun q => f q.1 q.2.1 q.2.2.1 q.2.2.2.1 q.2.2.2.2.1 q.2.2.2.2.2.1 q.2.2.2.2.2.2.1 q.2.2.2.2.2.2.2.1 q.2.2.2.2.2.2.2.2.1 q.2.2.2.2.2.2.2.2.2.1 q.2.2.2.2.2.2.2.2.2.2.1 q.2.2.2.2.2.2.2.2.2.2.2.1 q.2.2.2.2.2.2.2.2.2.2.2.2.1 q.2.2.2.2.2.2.2.2.2.2.2.2.2.1 q.2.2.2.2.2.2.2.2.2.2.2.2.2.2.1 q.2.2.2.2.2.2.2.2.2.2.2.2.2.2.2.1 q.2.2.2.2.2.2.2.2.2.2.2.2.2.2.2.2.1 q.2.2.2.2.2.2.2.2.2.2.2.2.2.2.2.2.2)
theorem bndE18_some {ε α0 α1 α2 α3 α4 α5 α6 α7 α8 α9 α10 α11 α12 α13 α14 α15 α16 α17 β : Type} {t : Option (ε ⊕ (α0 × α1 × α2 × α3 × α4 × α5 × α6 × α7 × α8 × α9 × α10 × α11 × α12 × α13 × α14 × α15 × α16 × α17))} {f : α0 → α1 → α2 → α3 → α4 → α5 → α6 → α7 → α8 → α9 → α10 → α11 → α12 → α13 → α14 → α15 → α16 → α17 → Option (ε ⊕ β)} {r : β} (h : bndE18 t f = some (.inr r)) : ∃ a0 a1 a2 a3 a4 a5 a6 a7 a8 a9 a10 a11 a12 a13 a14 a15 a16 a17, t = some (.inr (a0, a1, a2, a3, a4, a5, a6, a7, a8, a9, a10, a11, a12, a13, a14, a15, a16, a17)) ∧ f a0 a1 a2 a3 a4 a5 a6 a7 a8 a9 a10 a11 a12 a13 a14 a15 a16 a17 = some (.inr r) := by
  obtain ⟨⟨a0, a1, a2, a3, a4, a5, a6, a7, a8, a9, a10, a11, a12, a13, a14, a15, a16, a17⟩, h1, h2⟩ := bndE_some h
  exact ⟨a0, a1, a2, a3, a4, a5, a6, a7, a8, a9, a10, a11, a12, a13, a14, a15, a16, a17, h1, h2⟩
theorem bndE18_or {ε α0 α1 α2 α3 α4 α5 α6 α7 α8 α9 α10 α11 α12 α13 α14 α15 α16 α17 β : Type} {t : Option (ε ⊕ (α0 × α1 × α2 × α3 × α4 × α5 × α6 × α7 × α8 × α9 × α10 × α11 × α12 × α13 × α14 × α15 × α16 × α17))} {f : α0 → α1 → α2 → α3 → α4 → α5 → α6 → α7 → α8 → α9 → α10 → α11 → α12 → α13 → α14 → α15 → α16 → α17 → Option (ε ⊕ β)} {x : ε} (h : bndE18 t f = some (.inl x)) : t = some (.inl x) ∨ ∃ a0 a1 a2 a3 a4 a5 a6 a7 a8 a9 a10 a11 a12 a13 a14 a15 a16 a17, t = some (.inr (a0, a1, a2, a3, a4, a5, a6, a7, a8, a9, a10, a11, a12, a13, a14, a15, a16, a17)) ∧ f a0 a1 a2 a3 a4 a5 a6 a7 a8 a9 a10 a11 a12 a13 a14 a15 a16 a17 = some (.inl x) := by
  rcases bndE_or h with h1 | ⟨⟨a0, a1, a2, a3, a4, a5, a6, a7, a8, a9, a10, a11, a12, a13, a14, a15, a16, a17⟩, h1, h2⟩
  · exact Or.inl h1
  · exact Or.inr ⟨a0, a1, a2, a3, a4, a5, a6, a7, a8, a9, a10, a11, a12, a13, a14, a15, a16, a17, h1, h2⟩
section CTO
variable {l : Launch} {D : va_G} {cl : List vw_C} {tys : List (ClassId × FieldType)} {ws ws' : va_W} {N : State → Prop} {y : MethodName} {cc : ByteArray} {maxL sz : Nat} {rm : Room}
/-- a constructor's walk knows its method's name -/
abbrev WalkC (l : Launch) (D : va_G) (cl : List vw_C) (tys : List (ClassId × FieldType)) (N : State → Prop) (ws ws' : va_W) (y : MethodName) (cc : ByteArray) (maxL : Nat) (rm : Room) (av : List Value) (lv : List (Nat × Value)) : Prop :=
  ∀ (p : Program) (e : Env) (s : State) (m : MethodId) (below : List Frame) (meth : Method) (c : Code) (ls : Array Slot) (Q : State → Prop), p.tables.exec = Jvm.exec → c.code = cc → c.maxLocals = maxL → s.vm.findClass y.cls = some m.cls → (∀ w ∈ lw_all, w.before av.toArray s = true) → meth.name = y.name → N s → (∀ q, s.heap.size ≤ q → va_A ws s.heap.size q) → HC D cl tys (va_A ws s.heap.size) ws s s.heap [] → lv_has ls maxL lv →
    (∀ (H : Heap) (locs : List Loc) (ls : Array Slot) (pc : Nat), HC D cl tys (va_A ws s.heap.size) ws' s H locs → decode cc pc = .ok (.return_, 1) → W p l e rm s m av.toArray below meth c H locs 0 0 Q (F0 m pc ls [])) → W p l e rm s m av.toArray below meth c s.heap [] 0 0 Q (F0 m 0 ls [])
theorem MV.ofC (hy : plainName y.cls = true) (av : List Value) (lv : List (Nat × Value)) (hav : (lg_sl av).length ≤ maxL) (hlv : lv_args 0 av = lv) (walk : WalkC l D cl tys N ws ws' y cc maxL rm av lv) : MV l y (ws_ y cc maxL none) rm D cl tys N ws ws' sz av := by
  refine Met.ofW (cc := cc) (maxL := maxL) (ret := none) hy rfl ?_
  intro p e s m args below meth c s₁ B hml hv
  obtain ⟨rfl, hsz, hN, hK, hP, hD0⟩ := hv
  subst hsz
  have hts := atoms_spec (ws := ws_ y cc maxL none) B.pre
  have hts : ∀ w ∈ lw_all, w.before av.toArray s = true := fun w h => hts w (List.mem_cons_of_mem _ h)
  have hl := lv_entry av (n := maxL) hav
  rw [lg_entry_eq]
  generalize (lg_sl av ++ List.replicate (maxL - (lg_sl av).length) Slot.unset).toArray = ls at hl ⊢
  rw [hlv] at hl
  have hlocks := B.notSynchronized
  exact walk p e s m below meth c ls _ B.exec B.bytes hml (findClass_of_methodNamed B.named) hts (name_of_methodNamed B.named B.method).1 hN (fun q h => Or.inr h) ⟨hK, hP, hD0.self, va_S.rf⟩ hl (fun H locs ls pc hC hdg => W.vret B.exec B.bytes B.returns (fun t ht hW => ⟨⟨(), rfl, trivial, va_K.moved hW.alike hC.1, by rw [ht]; exact hC.2.1, hC.2.2.1⟩, hC.2.2.2.F ht⟩) hC.2.2.2.2.2 hdg)
end CTO
/-- the exception: an object of the class Wrong -/
def wrw (q : Nat) (st : Int32) : Nat × va_E := (q, .inr (12, [.null, .null, .null, .null, .null, .int 0, .int st]))
section WRC
variable {l : Launch} {D : va_G} {d : Nat → ClassId} {sz : Nat} {adK adV : Nat → Nat} {tW : Nat} {q : Nat}
theorem rv_narrow {v : Value} (hv : v = .null ∨ ∃ t, v = .ref t) (k : Nat) (hk : k < 4) : narrow (tyX12 k) v = v ∧ fits (tyX12 k) v = true := by
  rcases hv with rfl | ⟨t, rfl⟩ <;>
  · match k, hk with
    | 0, _ => exact ⟨rfl, rfl⟩
    | 1, _ => exact ⟨rfl, rfl⟩
    | 2, _ => exact ⟨rfl, rfl⟩
    | 3, _ => exact ⟨rfl, rfl⟩
set_option maxHeartbeats 4000000 in
/-- Throwable(null, null, false, false) on an object of the class Wrong -/
theorem c_j_thr {v0 v1 v2 v3 v4 : Value} {z a : Int32} : MV l yJ6_init_2 (ws_ yJ6_init_2 cJ6_init_2 5 none) { frames := 1, cells := 0, slots := 0, locals := 12 } D gcl (gty d) (SN adK adV tW [(q, .inr (12, [v0, v1, v2, v3, v4, .int z, .int a]))]) [(q, .inr (12, [v0, v1, v2, v3, v4, .int z, .int a]))] [(q, .inr (12, [.null, .null, .null, .null, v4, .int z, .int a]))] sz [.ref q, .null, .null, .int 0, .int 0] := by
  refine MV.of (by decide) _ [(0, .ref q), (1, .null), (2, .null), (3, .int 0), (4, .int 0)] (Nat.le_of_ble_eq_true rfl) rfl ?_
  intro p e s m below meth c ls Q hx hb hml hown hts hN hA hC hl K
  obtain ⟨u1, hu1, hz1⟩ := zq_or hN.2.2.2.2.2.1
  obtain ⟨u2, hu2, hz2⟩ := zq_or hN.2.2.2.2.2.2
  refine lv_aload_n hx hb dJ6_init_2_0 rfl (lv_at hl 0 rfl) ?_
  refine W.objInit hx hb hown (hts _ q500) (hts _ q78) (hts _ q79) rfl (by rw [hml]; exact hl.1) rfl dJ6_init_2_1 (Nat.le_of_ble_eq_true rfl) (Nat.le_of_ble_eq_true rfl) ?_
  refine W.eq (g2 := F0 m 4 ls []) rfl ?_
  refine lv_aload_n hx hb dJ6_init_2_4 rfl (lv_at hl 0 rfl) ?_
  refine lv_aload_n hx hb dJ6_init_2_5 rfl (lv_at hl 0 rfl) ?_
  refine va_put (ci := 12) (v := .ref q) (C := RX12) (T := TX12) (N := 7) hx hb hts in_X12 tyX12 tyX12_ok nmX12 hown hC.1 hC.2.1 hC.2.2.1 hC.2.2.2 0 rfl rfl 0 (by decide) (hts _ q530) (fun _ h9 => h9) rfl (tyX12_ok 0 (by decide)) rfl rfl (Nat.le_of_ble_eq_true rfl) dJ6_init_2_6 (fun H locs hP hD hS => ?_)
  have hC : HC D gcl (gty d) _ [(q, .inr (12, [.ref q, v1, v2, v3, v4, .int z, .int a]))] s H locs := ⟨hC.1, hP, hD, hS⟩
  refine lv_aload_n hx hb dJ6_init_2_9 rfl (lv_at hl 0 rfl) ?_
  refine va_gets hx hb hz1 hC.2.2.2 hown (hts _ q501) (fun _ h => h) dJ6_init_2_10 ?_
  refine va_put (ci := 12) (v := u1) (C := RX12) (T := TX12) (N := 7) hx hb hts in_X12 tyX12 tyX12_ok nmX12 hown hC.1 hC.2.1 hC.2.2.1 hC.2.2.2 0 rfl rfl 1 (by decide) (hts _ q531) (fun _ h9 => h9) rfl (tyX12_ok 1 (by decide)) (rv_narrow hu1 1 (by decide)).1 (rv_narrow hu1 1 (by decide)).2 (Nat.le_of_ble_eq_true rfl) dJ6_init_2_13 (fun H locs hP hD hS => ?_)
  have hC : HC D gcl (gty d) _ [(q, .inr (12, [.ref q, u1, v2, v3, v4, .int z, .int a]))] s H locs := ⟨hC.1, hP, hD, hS⟩
  refine lv_aload_n hx hb dJ6_init_2_16 rfl (lv_at hl 0 rfl) ?_
  refine va_gets hx hb hz2 hC.2.2.2 hown (hts _ q503) (fun _ h => h) dJ6_init_2_17 ?_
  refine va_put (ci := 12) (v := u2) (C := RX12) (T := TX12) (N := 7) hx hb hts in_X12 tyX12 tyX12_ok nmX12 hown hC.1 hC.2.1 hC.2.2.1 hC.2.2.2 0 rfl rfl 2 (by decide) (hts _ q532) (fun _ h9 => h9) rfl (tyX12_ok 2 (by decide)) (rv_narrow hu2 2 (by decide)).1 (rv_narrow hu2 2 (by decide)).2 (Nat.le_of_ble_eq_true rfl) dJ6_init_2_20 (fun H locs hP hD hS => ?_)
  have hC : HC D gcl (gty d) _ [(q, .inr (12, [.ref q, u1, u2, v3, v4, .int z, .int a]))] s H locs := ⟨hC.1, hP, hD, hS⟩
  refine lv_iload hx hb dJ6_init_2_23 (lv_at hl 4 rfl) ?_
  refine lv_if_eq (tgt := 36) hx hb dJ6_init_2_25 (by decide) (fun _ => ?_) (fun c0 => absurd rfl c0)
  refine lv_aload_n hx hb dJ6_init_2_36 rfl (lv_at hl 0 rfl) ?_
  refine lv_null hx hb dJ6_init_2_37 ?_
  refine va_put (ci := 12) (v := .null) (C := RX12) (T := TX12) (N := 7) hx hb hts in_X12 tyX12 tyX12_ok nmX12 hown hC.1 hC.2.1 hC.2.2.1 hC.2.2.2 0 rfl rfl 1 (by decide) (hts _ q531) (fun _ h9 => h9) rfl (tyX12_ok 1 (by decide)) rfl rfl (Nat.le_of_ble_eq_true rfl) dJ6_init_2_38 (fun H locs hP hD hS => ?_)
  have hC : HC D gcl (gty d) _ [(q, .inr (12, [.ref q, .null, u2, v3, v4, .int z, .int a]))] s H locs := ⟨hC.1, hP, hD, hS⟩
  refine lv_aload_n hx hb dJ6_init_2_41 rfl (lv_at hl 0 rfl) ?_
  refine lv_aload_nN hx hb dJ6_init_2_42 rfl (lv_at hl 1 rfl) ?_
  refine va_put (ci := 12) (v := .null) (C := RX12) (T := TX12) (N := 7) hx hb hts in_X12 tyX12 tyX12_ok nmX12 hown hC.1 hC.2.1 hC.2.2.1 hC.2.2.2 0 rfl rfl 3 (by decide) (hts _ q529) (fun _ h9 => h9) rfl (tyX12_ok 3 (by decide)) rfl rfl (Nat.le_of_ble_eq_true rfl) dJ6_init_2_43 (fun H locs hP hD hS => ?_)
  have hC : HC D gcl (gty d) _ [(q, .inr (12, [.ref q, .null, u2, .null, v4, .int z, .int a]))] s H locs := ⟨hC.1, hP, hD, hS⟩
  refine lv_aload_n hx hb dJ6_init_2_46 rfl (lv_at hl 0 rfl) ?_
  refine lv_aload_nN hx hb dJ6_init_2_47 rfl (lv_at hl 2 rfl) ?_
  refine va_put (ci := 12) (v := .null) (C := RX12) (T := TX12) (N := 7) hx hb hts in_X12 tyX12 tyX12_ok nmX12 hown hC.1 hC.2.1 hC.2.2.1 hC.2.2.2 0 rfl rfl 0 (by decide) (hts _ q530) (fun _ h9 => h9) rfl (tyX12_ok 0 (by decide)) rfl rfl (Nat.le_of_ble_eq_true rfl) dJ6_init_2_48 (fun H locs hP hD hS => ?_)
  have hC : HC D gcl (gty d) _ [(q, .inr (12, [.null, .null, u2, .null, v4, .int z, .int a]))] s H locs := ⟨hC.1, hP, hD, hS⟩
  refine lv_iload_n hx hb dJ6_init_2_51 rfl (lv_at hl 3 rfl) ?_
  refine lv_if_ne (tgt := 60) hx hb dJ6_init_2_52 (by decide) (fun c0 => absurd rfl c0) (fun _ => ?_)
  refine lv_aload_n hx hb dJ6_init_2_55 rfl (lv_at hl 0 rfl) ?_
  refine lv_null hx hb dJ6_init_2_56 ?_
  refine va_put (ci := 12) (v := .null) (C := RX12) (T := TX12) (N := 7) hx hb hts in_X12 tyX12 tyX12_ok nmX12 hown hC.1 hC.2.1 hC.2.2.1 hC.2.2.2 0 rfl rfl 2 (by decide) (hts _ q532) (fun _ h9 => h9) rfl (tyX12_ok 2 (by decide)) rfl rfl (Nat.le_of_ble_eq_true rfl) dJ6_init_2_57 (fun H locs hP hD hS => ?_)
  have hC : HC D gcl (gty d) _ [(q, .inr (12, [.null, .null, .null, .null, v4, .int z, .int a]))] s H locs := ⟨hC.1, hP, hD, hS⟩
  exact K _ _ _ _ trivial hC dJ6_init_2_60
set_option maxHeartbeats 4000000 in
theorem c_j_exc {v0 v1 v2 v3 v4 : Value} {z a : Int32} : MV l yJ7_init (ws_ yJ7_init cJ7_init 5 none) { frames := 2, cells := 0, slots := 0, locals := 36 } D gcl (gty d) (SN adK adV tW [(q, .inr (12, [v0, v1, v2, v3, v4, .int z, .int a]))]) [(q, .inr (12, [v0, v1, v2, v3, v4, .int z, .int a]))] [(q, .inr (12, [.null, .null, .null, .null, v4, .int z, .int a]))] sz [.ref q, .null, .null, .int 0, .int 0] := by
  refine MV.of (by decide) _ [(0, .ref q), (1, .null), (2, .null), (3, .int 0), (4, .int 0)] (Nat.le_of_ble_eq_true rfl) rfl ?_
  intro p e s m below meth c ls Q hx hb hml hown hts hN hA hC hl K
  refine lv_aload_n hx hb dJ7_init_0 rfl (lv_at hl 0 rfl) ?_
  refine lv_aload_nN hx hb dJ7_init_1 rfl (lv_at hl 1 rfl) ?_
  refine lv_aload_nN hx hb dJ7_init_2 rfl (lv_at hl 2 rfl) ?_
  refine lv_iload_n hx hb dJ7_init_3 rfl (lv_at hl 3 rfl) ?_
  refine lv_iload hx hb dJ7_init_4 (lv_at hl 4 rfl) ?_
  refine hc_v (va_runI (As := [.null, .null, .int 0, .int 0]) (rest := []) ⟨hx, hb, hml, hown, hts⟩ c_j_thr (cwI 4 hts (lw_meth q525) rfl rfl rfl (hts _ q66) (hts _ q523) (hts _ q524) rfl (by decide +kernel) ⟨Nat.le_of_ble_eq_true rfl, Nat.le_of_ble_eq_true rfl⟩) (pre_S SN.calling (fun U hU hW => SN.warm hN hC.2.2.2 (all_free hC.2.2.1 hC.2.2.2 hA) hU hW) hC) rfl rfl hl.1 rfl (lv_room (Nat.le_of_ble_eq_true rfl)) dJ7_init_6 ⟨Nat.le_refl _, Nat.le_refl _⟩) hA hC (fun H locs hC => ?_)
  exact K _ _ _ _ trivial hC dJ7_init_9
set_option maxHeartbeats 4000000 in
theorem c_j_rte {v0 v1 v2 v3 v4 : Value} {z a : Int32} : MV l yJ8_init (ws_ yJ8_init cJ8_init 5 none) { frames := 3, cells := 0, slots := 0, locals := 60 } D gcl (gty d) (SN adK adV tW [(q, .inr (12, [v0, v1, v2, v3, v4, .int z, .int a]))]) [(q, .inr (12, [v0, v1, v2, v3, v4, .int z, .int a]))] [(q, .inr (12, [.null, .null, .null, .null, v4, .int z, .int a]))] sz [.ref q, .null, .null, .int 0, .int 0] := by
  refine MV.of (by decide) _ [(0, .ref q), (1, .null), (2, .null), (3, .int 0), (4, .int 0)] (Nat.le_of_ble_eq_true rfl) rfl ?_
  intro p e s m below meth c ls Q hx hb hml hown hts hN hA hC hl K
  refine lv_aload_n hx hb dJ8_init_0 rfl (lv_at hl 0 rfl) ?_
  refine lv_aload_nN hx hb dJ8_init_1 rfl (lv_at hl 1 rfl) ?_
  refine lv_aload_nN hx hb dJ8_init_2 rfl (lv_at hl 2 rfl) ?_
  refine lv_iload_n hx hb dJ8_init_3 rfl (lv_at hl 3 rfl) ?_
  refine lv_iload hx hb dJ8_init_4 (lv_at hl 4 rfl) ?_
  refine hc_v (va_runI (As := [.null, .null, .int 0, .int 0]) (rest := []) ⟨hx, hb, hml, hown, hts⟩ c_j_exc (cwI 4 hts (lw_meth q522) rfl rfl rfl (hts _ q67) (hts _ q520) (hts _ q521) rfl (by decide +kernel) ⟨Nat.le_of_ble_eq_true rfl, Nat.le_of_ble_eq_true rfl⟩) (pre_S SN.calling (fun U hU hW => SN.warm hN hC.2.2.2 (all_free hC.2.2.1 hC.2.2.2 hA) hU hW) hC) rfl rfl hl.1 rfl (lv_room (Nat.le_of_ble_eq_true rfl)) dJ8_init_6 ⟨Nat.le_refl _, Nat.le_refl _⟩) hA hC (fun H locs hC => ?_)
  exact K _ _ _ _ trivial hC dJ8_init_9
set_option maxHeartbeats 4000000 in
/-- Wrong(at) on a new object -/
theorem c_x_wrong {x1 : Int32} : MV l yX12_init (ws_ yX12_init cX12_init 2 none) { frames := 4, cells := 0, slots := 0, locals := 84 } D gcl (gty d) (SN adK adV tW [wrw q 0]) [wrw q 0] [wrw q x1] sz [.ref q, .int x1] := by
  refine MV.ofC (by decide) _ [(0, .ref q), (1, .int x1)] (Nat.le_of_ble_eq_true rfl) rfl ?_
  intro p e s m below meth c ls Q hx hb hml hown hts hnm hN hA hC hl K
  refine lv_aload_n hx hb dX12_init_0 rfl (lv_at hl 0 rfl) ?_
  refine lv_null hx hb dX12_init_1 ?_
  refine lv_null hx hb dX12_init_2 ?_
  refine lv_iconst (v := 0) hx hb dX12_init_3 (by decide) ?_
  refine lv_iconst (v := 0) hx hb dX12_init_4 (by decide) ?_
  refine hc_v (va_runI (As := [.null, .null, .int 0, .int 0]) (rest := []) ⟨hx, hb, hml, hown, hts⟩ (c_j_rte (v0 := .null) (v1 := .null) (v2 := .null) (v3 := .null) (v4 := .null) (z := 0) (a := 0)) (cwI 4 hts (lw_meth q519) rfl rfl rfl (hts _ q68) (hts _ q517) (hts _ q518) rfl (by decide +kernel) ⟨Nat.le_of_ble_eq_true rfl, Nat.le_of_ble_eq_true rfl⟩) (pre_S SN.calling (fun U hU hW => SN.warm hN hC.2.2.2 (all_free hC.2.2.1 hC.2.2.2 hA) hU hW) hC) rfl rfl hl.1 rfl (lv_room (Nat.le_of_ble_eq_true rfl)) dX12_init_5 ⟨Nat.le_refl _, Nat.le_refl _⟩) hA hC (fun H locs hC => ?_)
  refine lv_aload_n hx hb dX12_init_8 rfl (lv_at hl 0 rfl) ?_
  refine lv_iload_n hx hb dX12_init_9 rfl (lv_at hl 1 rfl) ?_
  refine va_putF (ci := 12) (v := .int x1) (ty := .int) (C := RX12) (T := TX12) (N := 7) hx hb hts in_X12 tyX12 tyX12_ok nmX12 hown hC.1 hC.2.1 hC.2.2.1 hC.2.2.2 0 rfl rfl 6 (by decide) (hts _ q526) (fun _ h9 => h9) rfl hnm rfl (tyX12_ok 6 (by decide)) rfl rfl (Nat.le_of_ble_eq_true rfl) dX12_init_10 (fun H locs hP hD hS => ?_)
  exact K _ _ _ _ ⟨hC.1, hP, hD, hS⟩ dX12_init_13
end WRC
