/-! PURE LAW: the book, a town's core, its history -/
abbrev Bk : Type := Nat × Nat × (Nat → Nat) × (Nat → Nat) × (Nat → Nat) × (Nat → Nat) × (Nat → Nat) × (Nat → Nat) × (Nat → Nat) × (Nat → Nat) × List (Nat × Nat)
def Bk.pe (B : Bk) : Nat := B.1
def Bk.ak (B : Bk) : Nat := B.2.1
def Bk.rm (B : Bk) : Nat → Nat := B.2.2.1
def Bk.wk (B : Bk) : Nat → Nat := B.2.2.2.1
def Bk.pr (B : Bk) : Nat → Nat := B.2.2.2.2.1
def Bk.wh (B : Bk) : Nat → Nat := B.2.2.2.2.2.1
def Bk.bd (B : Bk) : Nat → Nat := B.2.2.2.2.2.2.1
def Bk.un (B : Bk) : Nat → Nat := B.2.2.2.2.2.2.2.1
def Bk.wo (B : Bk) : Nat → Nat := B.2.2.2.2.2.2.2.2.1
def Bk.du (B : Bk) : Nat → Nat := B.2.2.2.2.2.2.2.2.2.1
def Bk.hg (B : Bk) : List (Nat × Nat) := B.2.2.2.2.2.2.2.2.2.2
def Bk.ok (B : Bk) : Prop := B.pe ≤ 4 ∧ B.ak ≤ 8 ∧ (∀ p, p < B.pe → 1 ≤ B.rm p ∧ B.rm p ≤ 5 ∧ 1 ≤ B.wk p ∧ B.wk p ≤ 3 ∧ B.pr p ≤ 9) ∧ (∀ a, a < B.ak → B.wh a < B.pe ∧ B.bd a ≤ B.du a ∧ B.du a ≤ 9 ∧ 1 ≤ B.un a ∧ B.un a ≤ 9 ∧ 1 ≤ B.wo a ∧ B.wo a ≤ 99) ∧ B.hg.length ≤ 8 ∧ ∀ q ∈ B.hg, q.1 < B.ak ∧ q.2 < B.ak ∧ q.1 ≠ q.2
def RBX (B : Bk) (room work price whom bday units worth due under : Nat → Int32) (people askings hangs : Int32) : Prop := people = nI B.pe ∧ askings = nI B.ak ∧ hangs = nI B.hg.length ∧ (∀ p, p < B.pe → room p = nI (B.rm p) ∧ work p = nI (B.wk p) ∧ price p = nI (B.pr p)) ∧ (∀ a, a < B.ak → whom a = nI (B.wh a) ∧ bday a = nI (B.bd a) ∧ units a = nI (B.un a) ∧ worth a = nI (B.wo a) ∧ due a = nI (B.du a)) ∧ ∀ a, a < B.ak → ∃ u : Nat, under a = nI u ∧ u < 256 ∧ ∀ b, u.testBit b = decide ((a, b) ∈ B.hg)
def RBM (B : Bk) (people : Int32) (room work price : Nat → Int32) (askings : Int32) (asked : Nat → Int32) (hangs : Int32) (hung : Nat → Int32) : Prop := people = nI B.pe ∧ askings = nI B.ak ∧ hangs = nI B.hg.length ∧ (∀ p, p < B.pe → room p = nI (B.rm p) ∧ work p = nI (B.wk p) ∧ price p = nI (B.pr p)) ∧ (∀ a, a < B.ak → asked (5 * a) = nI (B.wh a) ∧ asked (5 * a + 1) = nI (B.bd a) ∧ asked (5 * a + 2) = nI (B.un a) ∧ asked (5 * a + 3) = nI (B.wo a) ∧ asked (5 * a + 4) = nI (B.du a)) ∧ ∀ k, (h : k < B.hg.length) → hung (2 * k) = nI B.hg[k].1 ∧ hung (2 * k + 1) = nI B.hg[k].2
abbrev Core : Type := Nat × Int32 × Int32 × (Nat → Nat) × (Nat → List Nat)
def Core.day (c : Core) : Nat := c.1
def Core.won (c : Core) : Int32 := c.2.1
def Core.lost (c : Core) : Int32 := c.2.2.1
def Core.fate (c : Core) : Nat → Nat := c.2.2.2.1
def Core.sl (c : Core) : Nat → List Nat := c.2.2.2.2
def Core.pin (c : Core) (p k a : Nat) : Core := (c.day, c.won, c.lost, va_up c.fate a 1, va_up c.sl p ((c.sl p).insertIdx k a))
def Core.rem (c : Core) (p a f : Nat) : Core := (c.day, c.won, c.lost, va_up c.fate a f, va_up c.sl p ((c.sl p).eraseIdx ((c.sl p).idxOf a)))
def Core.ok (c : Core) (B : Bk) : Prop := c.day ≤ 10 ∧ (∀ a, c.fate a ≤ 3) ∧ (∀ p, (c.sl p).Nodup) ∧ (∀ p, p < B.pe → (c.sl p).length ≤ B.rm p) ∧ (∀ p, B.pe ≤ p → c.sl p = []) ∧ (∀ p a, a ∈ c.sl p → a < B.ak ∧ c.fate a = 1) ∧ (∀ a, a < B.ak → c.fate a = 1 → ∃ p, a ∈ c.sl p) ∧ (∀ p q a, a ∈ c.sl p → a ∈ c.sl q → p = q)
theorem nodup_ins {l : List Nat} (h : l.Nodup) {a : Nat} (ha : a ∉ l) : ∀ k, (l.insertIdx k a).Nodup := by
  induction l with
  | nil => intro k; cases k <;> simp
  | cons b t ih =>
    intro k
    have hb := List.nodup_cons.mp h
    have hab : a ≠ b := fun e => ha (List.mem_cons.mpr (Or.inl e))
    have hat : a ∉ t := fun e => ha (List.mem_cons_of_mem _ e)
    cases k with
    | zero => rw [List.insertIdx_zero]; exact List.nodup_cons.mpr ⟨ha, h⟩
    | succ k =>
      rw [List.insertIdx_succ_cons]
      refine List.nodup_cons.mpr ⟨fun e => ?_, ih hb.2 hat k⟩
      by_cases hk : k ≤ t.length
      · rcases (List.mem_insertIdx hk).mp e with e | e
        · exact hab e.symm
        · exact hb.1 e
      · rw [List.insertIdx_of_length_lt (by omega)] at e; exact hb.1 e
theorem mem_era {l : List Nat} (h : l.Nodup) {a b : Nat} (ha : a ∈ l) : b ∈ l.eraseIdx (l.idxOf a) ↔ b ∈ l ∧ b ≠ a := by
  rw [show l.eraseIdx (l.idxOf a) = l.erase a from (List.erase_eq_eraseIdx_of_idxOf rfl).symm, List.Nodup.mem_erase_iff h]
  exact And.comm
theorem pin_ok {B : Bk} {c : Core} (h : c.ok B) {p k a : Nat} (ha : a < B.ak) (hf : c.fate a ≠ 1) (hp : p < B.pe) (hl : (c.sl p).length < B.rm p) (hk : k ≤ (c.sl p).length) : (c.pin p k a).ok B := by
  obtain ⟨h1, h2, h3, h4, h5, h6, h7, h8⟩ := h
  have hna : ∀ q, a ∉ c.sl q := fun q z => hf (h6 q a z).2
  have hmem : ∀ q b, b ∈ (c.pin p k a).sl q ↔ (b ∈ c.sl q ∨ (b = a ∧ q = p)) := by
    intro q b
    show b ∈ va_up c.sl p ((c.sl p).insertIdx k a) q ↔ _
    by_cases e : q = p
    · subst e
      rw [va_up_self, List.mem_insertIdx hk]
      constructor
      · rintro (z | z)
        · exact Or.inr ⟨z, rfl⟩
        · exact Or.inl z
      · rintro (z | z)
        · exact Or.inr z
        · exact Or.inl z.1
    · rw [va_up_ne _ _ e]
      exact ⟨Or.inl, fun z => z.elim id (fun y => absurd y.2 e)⟩
  have hfa : ∀ b, (c.pin p k a).fate b = if b = a then 1 else c.fate b := fun b => rfl
  refine ⟨h1, ?_, ?_, ?_, ?_, ?_, ?_, ?_⟩
  · intro b; rw [hfa]; split
    · omega
    · exact h2 b
  · intro q
    show (va_up c.sl p ((c.sl p).insertIdx k a) q).Nodup
    by_cases e : q = p
    · subst e; rw [va_up_self]; exact nodup_ins (h3 q) (hna q) k
    · rw [va_up_ne _ _ e]; exact h3 q
  · intro q hq
    show (va_up c.sl p ((c.sl p).insertIdx k a) q).length ≤ _
    by_cases e : q = p
    · subst e; rw [va_up_self, List.length_insertIdx_of_le_length hk]; omega
    · rw [va_up_ne _ _ e]; exact h4 q hq
  · intro q hq
    show va_up c.sl p ((c.sl p).insertIdx k a) q = []
    rw [va_up_ne _ _ (by omega)]; exact h5 q hq
  · intro q b hb
    rw [hfa]
    rcases (hmem q b).mp hb with z | z
    · have hba : b ≠ a := fun e => hna q (e ▸ z)
      rw [if_neg hba]; exact h6 q b z
    · rw [if_pos z.1]; exact ⟨z.1 ▸ ha, rfl⟩
  · intro b hb hfb
    rw [hfa] at hfb
    by_cases e : b = a
    · exact ⟨p, (hmem p b).mpr (Or.inr ⟨e, rfl⟩)⟩
    · rw [if_neg e] at hfb
      obtain ⟨q, hq⟩ := h7 b hb hfb
      exact ⟨q, (hmem q b).mpr (Or.inl hq)⟩
  · intro q r b hq hr
    rcases (hmem q b).mp hq with z | z <;> rcases (hmem r b).mp hr with y | y
    · exact h8 q r b z y
    · exact absurd (y.1 ▸ z) (hna q)
    · exact absurd (z.1 ▸ y) (hna r)
    · rw [z.2, y.2]
theorem rem_ok {B : Bk} {c : Core} (h : c.ok B) {p a f : Nat} (ha : a ∈ c.sl p) (hf : f ≠ 1) (hf3 : f ≤ 3) : (c.rem p a f).ok B := by
  obtain ⟨h1, h2, h3, h4, h5, h6, h7, h8⟩ := h
  have hmem : ∀ q b, b ∈ (c.rem p a f).sl q ↔ (b ∈ c.sl q ∧ b ≠ a) := by
    intro q b
    show b ∈ va_up c.sl p ((c.sl p).eraseIdx ((c.sl p).idxOf a)) q ↔ _
    by_cases e : q = p
    · subst e
      rw [va_up_self]; exact mem_era (h3 q) ha
    · rw [va_up_ne _ _ e]
      exact ⟨fun z => ⟨z, fun y => e (h8 q p a (y ▸ z) ha)⟩, fun z => z.1⟩
  have hfa : ∀ b, (c.rem p a f).fate b = if b = a then f else c.fate b := fun b => rfl
  refine ⟨h1, ?_, ?_, ?_, ?_, ?_, ?_, ?_⟩
  · intro b; rw [hfa]; split
    · omega
    · exact h2 b
  · intro q
    show (va_up c.sl p ((c.sl p).eraseIdx ((c.sl p).idxOf a)) q).Nodup
    by_cases e : q = p
    · subst e; rw [va_up_self]; exact List.Nodup.sublist (List.eraseIdx_sublist _ _) (h3 q)
    · rw [va_up_ne _ _ e]; exact h3 q
  · intro q hq
    show (va_up c.sl p ((c.sl p).eraseIdx ((c.sl p).idxOf a)) q).length ≤ _
    by_cases e : q = p
    · subst e; rw [va_up_self]; exact Nat.le_trans (List.length_eraseIdx_le _ _) (h4 q hq)
    · rw [va_up_ne _ _ e]; exact h4 q hq
  · intro q hq
    show va_up c.sl p ((c.sl p).eraseIdx ((c.sl p).idxOf a)) q = []
    by_cases e : q = p
    · subst e; rw [h5 q hq] at ha; cases ha
    · rw [va_up_ne _ _ e]; exact h5 q hq
  · intro q b hb
    obtain ⟨z1, z2⟩ := (hmem q b).mp hb
    rw [hfa, if_neg z2]; exact h6 q b z1
  · intro b hb hfb
    rw [hfa] at hfb
    by_cases e : b = a
    · rw [if_pos e] at hfb; exact absurd hfb hf
    · rw [if_neg e] at hfb
      obtain ⟨q, hq⟩ := h7 b hb hfb
      exact ⟨q, (hmem q b).mpr ⟨hq, e⟩⟩
  · intro q r b hq hr
    exact h8 q r b ((hmem q b).mp hq).1 ((hmem r b).mp hr).1
theorem ok_p {B : Bk} {c : Core} (h : c.ok B) {p a : Nat} (ha : a ∈ c.sl p) : p < B.pe := by
  rcases Nat.lt_or_ge p B.pe with q | q
  · exact q
  · rw [h.2.2.2.2.1 p q] at ha; cases ha
/-- deeds: what, which, from whose sleeve, its place there -/
abbrev Deed : Type := Nat × Nat × Nat × Nat
abbrev Hist : Type := List (Deed × Core)
def StepD (B : Bk) (e : Deed) (c c' : Core) : Prop :=
  e.2.1 < B.ak ∧ e.2.2.1 < B.pe ∧
  ((e.1 = 0 ∧ c.fate e.2.1 = 0 ∧ (c.sl e.2.2.1).length < B.rm e.2.2.1 ∧ e.2.2.2 = (c.sl e.2.2.1).length ∧ c' = c.pin e.2.2.1 e.2.2.2 e.2.1) ∨
   (e.1 = 1 ∧ e.2.1 ∈ c.sl e.2.2.1 ∧ e.2.2.2 = (c.sl e.2.2.1).idxOf e.2.1 ∧ c' = c.rem e.2.2.1 e.2.1 3) ∨
   (e.1 = 2 ∧ e.2.1 ∈ c.sl e.2.2.1 ∧ e.2.2.2 = (c.sl e.2.2.1).idxOf e.2.1 ∧ c' = ((c.rem e.2.2.1 e.2.1 3).day, (c.rem e.2.2.1 e.2.1 3).won, c.lost + nI (B.wo e.2.1), (c.rem e.2.2.1 e.2.1 3).fate, (c.rem e.2.2.1 e.2.1 3).sl)) ∨
   (e.1 = 3 ∧ e.2.1 ∈ c.sl e.2.2.1 ∧ e.2.2.2 = (c.sl e.2.2.1).idxOf e.2.1 ∧ ∃ q, q < B.pe ∧ q ≠ e.2.2.1 ∧ (c.sl q).length < B.rm q ∧ c' = (c.rem e.2.2.1 e.2.1 0).pin q (c.sl q).length e.2.1))
def Chain (B : Bk) : Core → Hist → Prop
  | _, [] => True
  | c, (e, c0) :: h => StepD B e c0 c ∧ c0.ok B ∧ Chain B c0 h
theorem Chain.take {B : Bk} : ∀ {h : Hist} {c : Core} (n : Nat), Chain B c h → Chain B c (h.take n)
  | [], _, n, _ => by rw [List.take_nil]; trivial
  | (e, c0) :: h, c, 0, _ => by rw [List.take_zero]; trivial
  | (e, c0) :: h, c, n + 1, H => by
    rw [List.take_succ_cons]
    exact ⟨H.1, H.2.1, Chain.take n H.2.2⟩
theorem StepD.fate0 {B : Bk} {e : Deed} {c c' : Core} (h : StepD B e c c') {a : Nat} (ha : c'.fate a = 0) : c.fate a = 0 ∧ (e.1 = 0 → a ≠ e.2.1) := by
  obtain ⟨-, -, h | h | h | h⟩ := h
  · obtain ⟨-, -, -, -, rfl⟩ := h
    have ha : (if a = e.2.1 then 1 else c.fate a) = 0 := ha
    by_cases q : a = e.2.1
    · rw [if_pos q] at ha; omega
    · rw [if_neg q] at ha; exact ⟨ha, fun _ => q⟩
  · obtain ⟨h1, -, -, rfl⟩ := h
    have ha : (if a = e.2.1 then 3 else c.fate a) = 0 := ha
    by_cases q : a = e.2.1
    · rw [if_pos q] at ha; omega
    · rw [if_neg q] at ha; exact ⟨ha, fun _ => q⟩
  · obtain ⟨h1, -, -, rfl⟩ := h
    have ha : (if a = e.2.1 then 3 else c.fate a) = 0 := ha
    by_cases q : a = e.2.1
    · rw [if_pos q] at ha; omega
    · rw [if_neg q] at ha; exact ⟨ha, fun _ => q⟩
  · obtain ⟨h1, -, -, q, -, -, -, rfl⟩ := h
    have ha : (if a = e.2.1 then 1 else if a = e.2.1 then 0 else c.fate a) = 0 := ha
    by_cases q : a = e.2.1
    · rw [if_pos q] at ha; omega
    · rw [if_neg q, if_neg q] at ha; exact ⟨ha, fun _ => q⟩
theorem Chain.fate0 {B : Bk} : ∀ {h : Hist} {c : Core}, Chain B c h → ∀ {a : Nat}, c.fate a = 0 → ∀ q ∈ h, q.2.fate a = 0
  | [], _, _, _, _, q, hq => by cases hq
  | (e, c0) :: h, c, H, a, ha, q, hq => by
    have h0 := (H.1.fate0 ha).1
    rcases List.mem_cons.mp hq with e1 | e1
    · rw [e1]; exact h0
    · exact Chain.fate0 H.2.2 h0 q e1
def Rel (c : Core) (h : Hist) (a : Nat) : Prop := c.fate a = 1 ∨ ∃ q ∈ h, q.2.fate a = 1
def TI (B : Bk) (c : Core) (h : Hist) (lf : Nat → Nat) : Prop := c.ok B ∧ Chain B c h ∧ ∀ a, a < 8 → Rel c h a → 1 ≤ lf a ∧ lf a ≤ 9
def XLeft (c : Core) (h : Hist) (lf : Nat → Nat) (l : Nat → Int32) : Prop := ∀ a, a < 8 → Rel c h a → l a = nI (lf a)
def XTown (c : Core) (many : Nat → Int32) (slip : Nat → Nat → Int32) (became : Nat → Int32) (day won lost : Int32) : Prop := day = nI c.day ∧ won = c.won ∧ lost = c.lost ∧ (∀ a, a < 8 → became a = nI (c.fate a)) ∧ ∀ p, p < 4 → SlR (slip p) (many p) (c.sl p)
def MTown (c : Core) (w : Nat → Int32) : Prop := w 0 = nI c.day ∧ w 1 = c.won ∧ w 2 = c.lost ∧ (∀ a, a < 8 → w (3 + a) = nI (c.fate a)) ∧ ∀ p, p < 4 → SlR (fun i => w (23 + 5 * p + i)) (w (19 + p)) (c.sl p)
def XHist (h : Hist) (what which whose place : Nat → Int32) (deeds : Int32) : Prop := deeds = nI h.length ∧ h.length ≤ 12 ∧ ∀ k, (hk : k < h.length) → what (h.length - 1 - k) = nI h[k].1.1 ∧ which (h.length - 1 - k) = nI h[k].1.2.1 ∧ whose (h.length - 1 - k) = nI h[k].1.2.2.1 ∧ place (h.length - 1 - k) = nI h[k].1.2.2.2
def MHist (h : Hist) (w : Nat → Int32) : Prop := w 43 = nI h.length ∧ ∀ k, (hk : k < h.length) → w (44 + 4 * (h.length - 1 - k)) = nI h[k].1.1 ∧ w (45 + 4 * (h.length - 1 - k)) = nI h[k].1.2.1 ∧ w (46 + 4 * (h.length - 1 - k)) = nI h[k].1.2.2.1 ∧ (h[k].1.1 ≠ 0 → w (47 + 4 * (h.length - 1 - k)) = nI h[k].1.2.2.2)
