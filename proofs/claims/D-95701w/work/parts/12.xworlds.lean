set_option maxRecDepth 100000
def nestF : Nat → String × Nat × String × String × String × String := fun k => match k with
  | 0 => ("SleeveSlips$Person", 23, "SleeveSlips$Book", "room", "[I", "SleeveSlips")
  | 1 => ("SleeveSlips$Reader", 85, "SleeveSlips$Book", "room", "[I", "SleeveSlips")
  | 2 => ("SleeveSlips", 111, "SleeveSlips$Book", "room", "[I", "SleeveSlips")
  | 3 => ("SleeveSlips$First", 29, "SleeveSlips$Book", "work", "[I", "SleeveSlips")
  | 4 => ("SleeveSlips$Reader", 95, "SleeveSlips$Book", "work", "[I", "SleeveSlips")
  | 5 => ("SleeveSlips", 114, "SleeveSlips$Book", "work", "[I", "SleeveSlips")
  | 6 => ("SleeveSlips$Reader", 98, "SleeveSlips$Book", "price", "[I", "SleeveSlips")
  | 7 => ("SleeveSlips", 117, "SleeveSlips$Book", "price", "[I", "SleeveSlips")
  | 8 => ("SleeveSlips$Reader", 104, "SleeveSlips$Book", "whom", "[I", "SleeveSlips")
  | 9 => ("SleeveSlips", 132, "SleeveSlips$Book", "whom", "[I", "SleeveSlips")
  | 10 => ("SleeveSlips$Reader", 107, "SleeveSlips$Book", "day", "[I", "SleeveSlips")
  | 11 => ("SleeveSlips", 135, "SleeveSlips$Book", "day", "[I", "SleeveSlips")
  | 12 => ("SleeveSlips$Reader", 110, "SleeveSlips$Book", "units", "[I", "SleeveSlips")
  | 13 => ("SleeveSlips", 138, "SleeveSlips$Book", "units", "[I", "SleeveSlips")
  | 14 => ("SleeveSlips$Reader", 113, "SleeveSlips$Book", "worth", "[I", "SleeveSlips")
  | 15 => ("SleeveSlips", 141, "SleeveSlips$Book", "worth", "[I", "SleeveSlips")
  | 16 => ("SleeveSlips$Reader", 116, "SleeveSlips$Book", "due", "[I", "SleeveSlips")
  | 17 => ("SleeveSlips", 144, "SleeveSlips$Book", "due", "[I", "SleeveSlips")
  | 18 => ("SleeveSlips$Reader", 118, "SleeveSlips$Book", "under", "[I", "SleeveSlips")
  | 19 => ("SleeveSlips", 204, "SleeveSlips$Book", "under", "[I", "SleeveSlips")
  | 20 => ("SleeveSlips", 101, "SleeveSlips$Book", "people", "I", "SleeveSlips")
  | 21 => ("SleeveSlips$Reader", 89, "SleeveSlips$Book", "people", "I", "SleeveSlips")
  | 22 => ("SleeveSlips", 104, "SleeveSlips$Book", "askings", "I", "SleeveSlips")
  | 23 => ("SleeveSlips$Reader", 101, "SleeveSlips$Book", "askings", "I", "SleeveSlips")
  | 24 => ("SleeveSlips$Reader", 121, "SleeveSlips$Book", "hangs", "I", "SleeveSlips")
  | 25 => ("SleeveSlips", 287, "SleeveSlips$Book", "hangs", "I", "SleeveSlips")
  | 26 => ("SleeveSlips", 98, "SleeveSlips$Book", "items", "I", "SleeveSlips")
  | 27 => ("SleeveSlips$Reader", 131, "SleeveSlips$Book", "items", "I", "SleeveSlips")
  | 28 => ("SleeveSlips", 157, "SleeveSlips$Sleeve", "slip", "[I", "SleeveSlips")
  | 29 => ("SleeveSlips$Town", 37, "SleeveSlips$Sleeve", "many", "I", "SleeveSlips")
  | 30 => ("SleeveSlips$Person", 39, "SleeveSlips$Sleeve", "many", "I", "SleeveSlips")
  | 31 => ("SleeveSlips", 124, "SleeveSlips$Sleeve", "many", "I", "SleeveSlips")
  | 32 => ("SleeveSlips$Person", 33, "SleeveSlips$Town", "sleeve", "[LSleeveSlips$Sleeve;", "SleeveSlips")
  | 33 => ("SleeveSlips", 120, "SleeveSlips$Town", "sleeve", "[LSleeveSlips$Sleeve;", "SleeveSlips")
  | 34 => ("SleeveSlips", 147, "SleeveSlips$Town", "became", "[I", "SleeveSlips")
  | 35 => ("SleeveSlips", 150, "SleeveSlips$Town", "left", "[I", "SleeveSlips")
  | 36 => ("SleeveSlips", 191, "SleeveSlips$Town", "what", "[I", "SleeveSlips")
  | 37 => ("SleeveSlips", 185, "SleeveSlips$Town", "which", "[I", "SleeveSlips")
  | 38 => ("SleeveSlips", 188, "SleeveSlips$Town", "whose", "[I", "SleeveSlips")
  | 39 => ("SleeveSlips", 194, "SleeveSlips$Town", "place", "[I", "SleeveSlips")
  | 40 => ("SleeveSlips", 182, "SleeveSlips$Town", "deeds", "I", "SleeveSlips")
  | 41 => ("SleeveSlips$Tailor", 29, "SleeveSlips$Town", "day", "I", "SleeveSlips")
  | 42 => ("SleeveSlips", 160, "SleeveSlips$Town", "day", "I", "SleeveSlips")
  | 43 => ("SleeveSlips", 214, "SleeveSlips$Town", "won", "I", "SleeveSlips")
  | 44 => ("SleeveSlips", 179, "SleeveSlips$Town", "lost", "I", "SleeveSlips")
  | 45 => ("SleeveSlips", 94, "SleeveSlips$Town", "isKept", "Z", "SleeveSlips")
  | 46 => ("SleeveSlips$Person", 19, "SleeveSlips", "book", "LSleeveSlips$Book;", "SleeveSlips")
  | 47 => ("SleeveSlips$First", 25, "SleeveSlips", "book", "LSleeveSlips$Book;", "SleeveSlips")
  | 48 => ("SleeveSlips$Tailor", 25, "SleeveSlips", "now", "LSleeveSlips$Town;", "SleeveSlips")
  | 49 => ("SleeveSlips$Person", 29, "SleeveSlips", "now", "LSleeveSlips$Town;", "SleeveSlips")
  | 50 => ("SleeveSlips$Reader", 29, "SleeveSlips", "text", "[B", "SleeveSlips")
  | 51 => ("SleeveSlips$Reader", 26, "SleeveSlips", "typed", "I", "SleeveSlips")
  | 52 => ("SleeveSlips$Person", 13, "SleeveSlips", "trace", "J", "SleeveSlips")
  | 53 => ("SleeveSlips$Best", 13, "SleeveSlips", "trace", "J", "SleeveSlips")
  | 54 => ("SleeveSlips$First", 13, "SleeveSlips", "trace", "J", "SleeveSlips")
  | 55 => ("SleeveSlips$Miller", 13, "SleeveSlips", "trace", "J", "SleeveSlips")
  | 56 => ("SleeveSlips$Short", 13, "SleeveSlips", "trace", "J", "SleeveSlips")
  | 57 => ("SleeveSlips$Tailor", 13, "SleeveSlips", "trace", "J", "SleeveSlips")
  | 58 => ("SleeveSlips$Reader", 59, "SleeveSlips", "WORDS", "[Ljava/lang/String;", "SleeveSlips")
  | _ => ("SleeveSlips", 91, "SleeveSlips$Wrong", "at", "I", "SleeveSlips")
def nestM : Nat → String × Nat × MethodName × String := fun k => match k with
  | 0 => ("SleeveSlips", 9, ⟨"SleeveSlips$Book", "<init>", "()V"⟩, "SleeveSlips")
  | 1 => ("SleeveSlips", 18, ⟨"SleeveSlips$Town", "<init>", "()V"⟩, "SleeveSlips")
  | 2 => ("SleeveSlips$Town", 11, ⟨"SleeveSlips$Sleeve", "<init>", "()V"⟩, "SleeveSlips")
  | 3 => ("SleeveSlips", 49, ⟨"SleeveSlips$Person", "<init>", "(LSleeveSlips;)V"⟩, "SleeveSlips")
  | 4 => ("SleeveSlips", 54, ⟨"SleeveSlips$First", "<init>", "(LSleeveSlips;)V"⟩, "SleeveSlips")
  | 5 => ("SleeveSlips$First", 7, ⟨"SleeveSlips$Person", "<init>", "(LSleeveSlips;)V"⟩, "SleeveSlips")
  | 6 => ("SleeveSlips", 57, ⟨"SleeveSlips$Short", "<init>", "(LSleeveSlips;)V"⟩, "SleeveSlips")
  | 7 => ("SleeveSlips$Short", 7, ⟨"SleeveSlips$Person", "<init>", "(LSleeveSlips;)V"⟩, "SleeveSlips")
  | 8 => ("SleeveSlips", 60, ⟨"SleeveSlips$Best", "<init>", "(LSleeveSlips;)V"⟩, "SleeveSlips")
  | 9 => ("SleeveSlips$Best", 7, ⟨"SleeveSlips$First", "<init>", "(LSleeveSlips;)V"⟩, "SleeveSlips")
  | 10 => ("SleeveSlips", 63, ⟨"SleeveSlips$Miller", "<init>", "(LSleeveSlips;)V"⟩, "SleeveSlips")
  | 11 => ("SleeveSlips$Miller", 7, ⟨"SleeveSlips$Short", "<init>", "(LSleeveSlips;)V"⟩, "SleeveSlips")
  | 12 => ("SleeveSlips", 66, ⟨"SleeveSlips$Tailor", "<init>", "(LSleeveSlips;)V"⟩, "SleeveSlips")
  | 13 => ("SleeveSlips$Tailor", 7, ⟨"SleeveSlips$Person", "<init>", "(LSleeveSlips;)V"⟩, "SleeveSlips")
  | 14 => ("SleeveSlips", 84, ⟨"SleeveSlips$Reader", "<init>", "(LSleeveSlips;)V"⟩, "SleeveSlips")
  | 15 => ("SleeveSlips$Reader", 17, ⟨"SleeveSlips$Book", "<init>", "()V"⟩, "SleeveSlips")
  | 16 => ("SleeveSlips$Reader", 55, ⟨"SleeveSlips", "in", "(III)Z"⟩, "SleeveSlips")
  | _ => ("SleeveSlips$Short", 25, ⟨"SleeveSlips", "leftOn", "(I)I"⟩, "SleeveSlips")
/-! SUPPORT for the class's own world: nest words, segments, single cells -/
set_option maxRecDepth 100000
def bnd9 {α0 α1 α2 α3 α4 α5 α6 α7 α8 β : Type} (t : Option (α0 × α1 × α2 × α3 × α4 × α5 × α6 × α7 × α8)) (f : α0 → α1 → α2 → α3 → α4 → α5 → α6 → α7 → α8 → Option β) : Option β := bnd t (fun q => f q.1 q.2.1 q.2.2.1 q.2.2.2.1 q.2.2.2.2.1 q.2.2.2.2.2.1 q.2.2.2.2.2.2.1 q.2.2.2.2.2.2.2.1 q.2.2.2.2.2.2.2.2)
theorem bnd9_some {α0 α1 α2 α3 α4 α5 α6 α7 α8 β : Type} {t : Option (α0 × α1 × α2 × α3 × α4 × α5 × α6 × α7 × α8)} {f : α0 → α1 → α2 → α3 → α4 → α5 → α6 → α7 → α8 → Option β} {r : β} (h : bnd9 t f = some r) : ∃ a0 a1 a2 a3 a4 a5 a6 a7 a8, t = some (a0, a1, a2, a3, a4, a5, a6, a7, a8) ∧ f a0 a1 a2 a3 a4 a5 a6 a7 a8 = some r := by
  obtain ⟨⟨a0, a1, a2, a3, a4, a5, a6, a7, a8⟩, h1, h2⟩ := bnd_some h
  exact ⟨a0, a1, a2, a3, a4, a5, a6, a7, a8, h1, h2⟩
def bnd10 {α0 α1 α2 α3 α4 α5 α6 α7 α8 α9 β : Type} (t : Option (α0 × α1 × α2 × α3 × α4 × α5 × α6 × α7 × α8 × α9)) (f : α0 → α1 → α2 → α3 → α4 → α5 → α6 → α7 → α8 → α9 → Option β) : Option β := bnd t (fun q => f q.1 q.2.1 q.2.2.1 q.2.2.2.1 q.2.2.2.2.1 q.2.2.2.2.2.1 q.2.2.2.2.2.2.1 q.2.2.2.2.2.2.2.1 q.2.2.2.2.2.2.2.2.1 q.2.2.2.2.2.2.2.2.2)
theorem bnd10_some {α0 α1 α2 α3 α4 α5 α6 α7 α8 α9 β : Type} {t : Option (α0 × α1 × α2 × α3 × α4 × α5 × α6 × α7 × α8 × α9)} {f : α0 → α1 → α2 → α3 → α4 → α5 → α6 → α7 → α8 → α9 → Option β} {r : β} (h : bnd10 t f = some r) : ∃ a0 a1 a2 a3 a4 a5 a6 a7 a8 a9, t = some (a0, a1, a2, a3, a4, a5, a6, a7, a8, a9) ∧ f a0 a1 a2 a3 a4 a5 a6 a7 a8 a9 = some r := by
  obtain ⟨⟨a0, a1, a2, a3, a4, a5, a6, a7, a8, a9⟩, h1, h2⟩ := bnd_some h
  exact ⟨a0, a1, a2, a3, a4, a5, a6, a7, a8, a9, h1, h2⟩
def bnd11 {α0 α1 α2 α3 α4 α5 α6 α7 α8 α9 α10 β : Type} (t : Option (α0 × α1 × α2 × α3 × α4 × α5 × α6 × α7 × α8 × α9 × α10)) (f : α0 → α1 → α2 → α3 → α4 → α5 → α6 → α7 → α8 → α9 → α10 → Option β) : Option β := bnd t (fun q => f q.1 q.2.1 q.2.2.1 q.2.2.2.1 q.2.2.2.2.1 q.2.2.2.2.2.1 q.2.2.2.2.2.2.1 q.2.2.2.2.2.2.2.1 q.2.2.2.2.2.2.2.2.1 q.2.2.2.2.2.2.2.2.2.1 q.2.2.2.2.2.2.2.2.2.2)
theorem bnd11_some {α0 α1 α2 α3 α4 α5 α6 α7 α8 α9 α10 β : Type} {t : Option (α0 × α1 × α2 × α3 × α4 × α5 × α6 × α7 × α8 × α9 × α10)} {f : α0 → α1 → α2 → α3 → α4 → α5 → α6 → α7 → α8 → α9 → α10 → Option β} {r : β} (h : bnd11 t f = some r) : ∃ a0 a1 a2 a3 a4 a5 a6 a7 a8 a9 a10, t = some (a0, a1, a2, a3, a4, a5, a6, a7, a8, a9, a10) ∧ f a0 a1 a2 a3 a4 a5 a6 a7 a8 a9 a10 = some r := by
  obtain ⟨⟨a0, a1, a2, a3, a4, a5, a6, a7, a8, a9, a10⟩, h1, h2⟩ := bnd_some h
  exact ⟨a0, a1, a2, a3, a4, a5, a6, a7, a8, a9, a10, h1, h2⟩
def bnd12 {α0 α1 α2 α3 α4 α5 α6 α7 α8 α9 α10 α11 β : Type} (t : Option (α0 × α1 × α2 × α3 × α4 × α5 × α6 × α7 × α8 × α9 × α10 × α11)) (f : α0 → α1 → α2 → α3 → α4 → α5 → α6 → α7 → α8 → α9 → α10 → α11 → Option β) : Option β := bnd t (fun q => f q.1 q.2.1 q.2.2.1 q.2.2.2.1 q.2.2.2.2.1 q.2.2.2.2.2.1 q.2.2.2.2.2.2.1 q.2.2.2.2.2.2.2.1 q.2.2.2.2.2.2.2.2.1 q.2.2.2.2.2.2.2.2.2.1 q.2.2.2.2.2.2.2.2.2.2.1 q.2.2.2.2.2.2.2.2.2.2.2)
theorem bnd12_some {α0 α1 α2 α3 α4 α5 α6 α7 α8 α9 α10 α11 β : Type} {t : Option (α0 × α1 × α2 × α3 × α4 × α5 × α6 × α7 × α8 × α9 × α10 × α11)} {f : α0 → α1 → α2 → α3 → α4 → α5 → α6 → α7 → α8 → α9 → α10 → α11 → Option β} {r : β} (h : bnd12 t f = some r) : ∃ a0 a1 a2 a3 a4 a5 a6 a7 a8 a9 a10 a11, t = some (a0, a1, a2, a3, a4, a5, a6, a7, a8, a9, a10, a11) ∧ f a0 a1 a2 a3 a4 a5 a6 a7 a8 a9 a10 a11 = some r := by
  obtain ⟨⟨a0, a1, a2, a3, a4, a5, a6, a7, a8, a9, a10, a11⟩, h1, h2⟩ := bnd_some h
  exact ⟨a0, a1, a2, a3, a4, a5, a6, a7, a8, a9, a10, a11, h1, h2⟩
def bnd13 {α0 α1 α2 α3 α4 α5 α6 α7 α8 α9 α10 α11 α12 β : Type} (t : Option (α0 × α1 × α2 × α3 × α4 × α5 × α6 × α7 × α8 × α9 × α10 × α11 × α12)) (f : α0 → α1 → α2 → α3 → α4 → α5 → α6 → α7 → α8 → α9 → α10 → α11 → α12 → Option β) : Option β := bnd t (fun q => f q.1 q.2.1 q.2.2.1 q.2.2.2.1 q.2.2.2.2.1 q.2.2.2.2.2.1 q.2.2.2.2.2.2.1 q.2.2.2.2.2.2.2.1 q.2.2.2.2.2.2.2.2.1 q.2.2.2.2.2.2.2.2.2.1 q.2.2.2.2.2.2.2.2.2.2.1 q.2.2.2.2.2.2.2.2.2.2.2.1 q.2.2.2.2.2.2.2.2.2.2.2.2)
theorem bnd13_some {α0 α1 α2 α3 α4 α5 α6 α7 α8 α9 α10 α11 α12 β : Type} {t : Option (α0 × α1 × α2 × α3 × α4 × α5 × α6 × α7 × α8 × α9 × α10 × α11 × α12)} {f : α0 → α1 → α2 → α3 → α4 → α5 → α6 → α7 → α8 → α9 → α10 → α11 → α12 → Option β} {r : β} (h : bnd13 t f = some r) : ∃ a0 a1 a2 a3 a4 a5 a6 a7 a8 a9 a10 a11 a12, t = some (a0, a1, a2, a3, a4, a5, a6, a7, a8, a9, a10, a11, a12) ∧ f a0 a1 a2 a3 a4 a5 a6 a7 a8 a9 a10 a11 a12 = some r := by
  obtain ⟨⟨a0, a1, a2, a3, a4, a5, a6, a7, a8, a9, a10, a11, a12⟩, h1, h2⟩ := bnd_some h
  exact ⟨a0, a1, a2, a3, a4, a5, a6, a7, a8, a9, a10, a11, a12, h1, h2⟩
def bnd14 {α0 α1 α2 α3 α4 α5 α6 α7 α8 α9 α10 α11 α12 α13 β : Type} (t : Option (α0 × α1 × α2 × α3 × α4 × α5 × α6 × α7 × α8 × α9 × α10 × α11 × α12 × α13)) (f : α0 → α1 → α2 → α3 → α4 → α5 → α6 → α7 → α8 → α9 → α10 → α11 → α12 → α13 → Option β) : Option β := bnd t (fun q => f q.1 q.2.1 q.2.2.1 q.2.2.2.1 q.2.2.2.2.1 q.2.2.2.2.2.1 q.2.2.2.2.2.2.1 q.2.2.2.2.2.2.2.1 q.2.2.2.2.2.2.2.2.1 q.2.2.2.2.2.2.2.2.2.1 q.2.2.2.2.2.2.2.2.2.2.1 q.2.2.2.2.2.2.2.2.2.2.2.1 q.2.2.2.2.2.2.2.2.2.2.2.2.1 q.2.2.2.2.2.2.2.2.2.2.2.2.2)
theorem bnd14_some {α0 α1 α2 α3 α4 α5 α6 α7 α8 α9 α10 α11 α12 α13 β : Type} {t : Option (α0 × α1 × α2 × α3 × α4 × α5 × α6 × α7 × α8 × α9 × α10 × α11 × α12 × α13)} {f : α0 → α1 → α2 → α3 → α4 → α5 → α6 → α7 → α8 → α9 → α10 → α11 → α12 → α13 → Option β} {r : β} (h : bnd14 t f = some r) : ∃ a0 a1 a2 a3 a4 a5 a6 a7 a8 a9 a10 a11 a12 a13, t = some (a0, a1, a2, a3, a4, a5, a6, a7, a8, a9, a10, a11, a12, a13) ∧ f a0 a1 a2 a3 a4 a5 a6 a7 a8 a9 a10 a11 a12 a13 = some r := by
  obtain ⟨⟨a0, a1, a2, a3, a4, a5, a6, a7, a8, a9, a10, a11, a12, a13⟩, h1, h2⟩ := bnd_some h
  exact ⟨a0, a1, a2, a3, a4, a5, a6, a7, a8, a9, a10, a11, a12, a13, h1, h2⟩
def bnd15 {α0 α1 α2 α3 α4 α5 α6 α7 α8 α9 α10 α11 α12 α13 α14 β : Type} (t : Option (α0 × α1 × α2 × α3 × α4 × α5 × α6 × α7 × α8 × α9 × α10 × α11 × α12 × α13 × α14)) (f : α0 → α1 → α2 → α3 → α4 → α5 → α6 → α7 → α8 → α9 → α10 → α11 → α12 → α13 → α14 → Option β) : Option β := bnd t (fun q => f q.1 q.2.1 q.2.2.1 q.2.2.2.1 q.2.2.2.2.1 q.2.2.2.2.2.1 q.2.2.2.2.2.2.1 q.2.2.2.2.2.2.2.1 q.2.2.2.2.2.2.2.2.1 q.2.2.2.2.2.2.2.2.2.1 q.2.2.2.2.2.2.2.2.2.2.1 q.2.2.2.2.2.2.2.2.2.2.2.1 q.2.2.2.2.2.2.2.2.2.2.2.2.1 q.2.2.2.2.2.2.2.2.2.2.2.2.2.1 q.2.2.2.2.2.2.2.2.2.2.2.2.2.2)
theorem bnd15_some {α0 α1 α2 α3 α4 α5 α6 α7 α8 α9 α10 α11 α12 α13 α14 β : Type} {t : Option (α0 × α1 × α2 × α3 × α4 × α5 × α6 × α7 × α8 × α9 × α10 × α11 × α12 × α13 × α14)} {f : α0 → α1 → α2 → α3 → α4 → α5 → α6 → α7 → α8 → α9 → α10 → α11 → α12 → α13 → α14 → Option β} {r : β} (h : bnd15 t f = some r) : ∃ a0 a1 a2 a3 a4 a5 a6 a7 a8 a9 a10 a11 a12 a13 a14, t = some (a0, a1, a2, a3, a4, a5, a6, a7, a8, a9, a10, a11, a12, a13, a14) ∧ f a0 a1 a2 a3 a4 a5 a6 a7 a8 a9 a10 a11 a12 a13 a14 = some r := by
  obtain ⟨⟨a0, a1, a2, a3, a4, a5, a6, a7, a8, a9, a10, a11, a12, a13, a14⟩, h1, h2⟩ := bnd_some h
  exact ⟨a0, a1, a2, a3, a4, a5, a6, a7, a8, a9, a10, a11, a12, a13, a14, h1, h2⟩
def bnd16 {α0 α1 α2 α3 α4 α5 α6 α7 α8 α9 α10 α11 α12 α13 α14 α15 β : Type} (t : Option (α0 × α1 × α2 × α3 × α4 × α5 × α6 × α7 × α8 × α9 × α10 × α11 × α12 × α13 × α14 × α15)) (f : α0 → α1 → α2 → α3 → α4 → α5 → α6 → α7 → α8 → α9 → α10 → α11 → α12 → α13 → α14 → α15 → Option β) : Option β := bnd t (fun q => f q.1 q.2.1 q.2.2.1 q.2.2.2.1 q.2.2.2.2.1 q.2.2.2.2.2.1 q.2.2.2.2.2.2.1 q.2.2.2.2.2.2.2.1 q.2.2.2.2.2.2.2.2.1 q.2.2.2.2.2.2.2.2.2.1 q.2.2.2.2.2.2.2.2.2.2.1 q.2.2.2.2.2.2.2.2.2.2.2.1 q.2.2.2.2.2.2.2.2.2.2.2.2.1 q.2.2.2.2.2.2.2.2.2.2.2.2.2.1 q.2.2.2.2.2.2.2.2.2.2.2.2.2.2.1 q.2.2.2.2.2.2.2.2.2.2.2.2.2.2.2)
theorem bnd16_some {α0 α1 α2 α3 α4 α5 α6 α7 α8 α9 α10 α11 α12 α13 α14 α15 β : Type} {t : Option (α0 × α1 × α2 × α3 × α4 × α5 × α6 × α7 × α8 × α9 × α10 × α11 × α12 × α13 × α14 × α15)} {f : α0 → α1 → α2 → α3 → α4 → α5 → α6 → α7 → α8 → α9 → α10 → α11 → α12 → α13 → α14 → α15 → Option β} {r : β} (h : bnd16 t f = some r) : ∃ a0 a1 a2 a3 a4 a5 a6 a7 a8 a9 a10 a11 a12 a13 a14 a15, t = some (a0, a1, a2, a3, a4, a5, a6, a7, a8, a9, a10, a11, a12, a13, a14, a15) ∧ f a0 a1 a2 a3 a4 a5 a6 a7 a8 a9 a10 a11 a12 a13 a14 a15 = some r := by
  obtain ⟨⟨a0, a1, a2, a3, a4, a5, a6, a7, a8, a9, a10, a11, a12, a13, a14, a15⟩, h1, h2⟩ := bnd_some h
  exact ⟨a0, a1, a2, a3, a4, a5, a6, a7, a8, a9, a10, a11, a12, a13, a14, a15, h1, h2⟩
def bndS2 {ρ α β : Type} (t : Option (ρ ⊕ (α × β))) (f : α → β → Option ρ) : Option ρ := bndS t (fun q => f q.1 q.2)
theorem bndS2_some {ρ α β : Type} {t : Option (ρ ⊕ (α × β))} {f : α → β → Option ρ} {r : ρ} (h : bndS2 t f = some r) : ∃ u, t = some u ∧ (∀ r0, u = .inl r0 → r0 = r) ∧ (∀ a b, u = .inr (a, b) → f a b = some r) := by
  obtain ⟨u, h1, h2, h3⟩ := bndS_some h
  exact ⟨u, h1, h2, fun a b e => h3 (a, b) e⟩
theorem vp_lt {i : Int32} {n : Nat} (h : vp_in i n) : i.toNatClampNeg < n := Nat.not_le.mp fun q => h (Or.inr q)
theorem upd_id (f : Nat → Int32) (k : Nat) : upd f k (f k) = f := by
  funext j; unfold upd; split
  · rename_i e; rw [e]
  · rfl
theorem vaup_id {α : Type} (f : Nat → α) (k : Nat) : va_up f k (f k) = f := by
  funext j; unfold va_up; split
  · rename_i e; rw [e]
  · rfl
theorem hcset {D : va_G} {cl : List vw_C} {tys : List (ClassId × FieldType)} {A : Nat → Prop} {w0 w1 : va_W} {s : State} {H : Heap} {locs : List Loc} (e : w0 = w1) (hK : va_K D cl tys s) (hP : va_P D cl w0 H) (hD : va_D A w0) (hS : va_S A s.heap H locs) : HC D cl tys A w1 s H locs := by
  subst e; exact ⟨hK, hP, hD, hS⟩
/-- the copy's bounds hold, or nothing is said -/
def cky {α : Type} (sp dp n : Int32) (n0 n1 : Nat) (k : Option α) : Option α := if sp < 0 ∨ dp < 0 ∨ n < 0 ∨ n0 < sp.toNatClampNeg + n.toNatClampNeg ∨ n1 < dp.toNatClampNeg + n.toNatClampNeg then none else k
theorem cky_some {α : Type} {sp dp n : Int32} {n0 n1 : Nat} {k : Option α} {r : α} (h : cky sp dp n n0 n1 k = some r) : (¬ sp < 0 ∧ ¬ dp < 0 ∧ ¬ n < 0 ∧ sp.toNatClampNeg + n.toNatClampNeg ≤ n0 ∧ dp.toNatClampNeg + n.toNatClampNeg ≤ n1) ∧ k = some r := by
  unfold cky at h
  by_cases q : sp < 0 ∨ dp < 0 ∨ n < 0 ∨ n0 < sp.toNatClampNeg + n.toNatClampNeg ∨ n1 < dp.toNatClampNeg + n.toNatClampNeg
  · rw [if_pos q] at h; cases h
  · rw [if_neg q] at h
    simp only [not_or, Nat.not_lt] at q
    exact ⟨q, h⟩
def nF (k : Nat) : Cond := .fieldLinkNest (nestF k).1 (nestF k).2.1 (nestF k).2.2.1 (nestF k).2.2.2.1 (nestF k).2.2.2.2.1 (nestF k).2.2.2.2.2
def nM (k : Nat) : Cond := .methodLinkNest (nestM k).1 (nestM k).2.1 (nestM k).2.2.1 (nestM k).2.2.2
/-- the nest mates' links hold -/
def NX (U : State) : Prop := (∀ k, va_Nw (nF k) U) ∧ (∀ k, va_Nw (nM k) U) ∧ va_AO "SleeveSlips$Sleeve" U ∧ va_AO "SleeveSlips$Town" U ∧ va_AO "SleeveSlips$Person" U
theorem NX.calling (U : State) (g : JFrame) (mk : MethodId) (a : Array Value) (h : NX U) : NX (U.calling g mk a) :=
  ⟨fun k => va_Nw.same rfl rfl (h.1 k), fun k => va_Nw.same rfl rfl (h.2.1 k), va_AO.moved (Vm.Alike.refl U.vm) h.2.2.1, va_AO.moved (Vm.Alike.refl U.vm) h.2.2.2.1, va_AO.moved (Vm.Alike.refl U.vm) h.2.2.2.2⟩
theorem NX.warm {s U : State} (hW : s.WarmedH U.vm) (h : NX s) : NX U :=
  ⟨fun k => va_Nw.warmF hW (h.1 k), fun k => va_Nw.warmM hW (h.2.1 k), va_AO.moved hW.alike h.2.2.1, va_AO.moved hW.alike h.2.2.2.1, va_AO.moved hW.alike h.2.2.2.2⟩
theorem lw_SU {own : String} {idx : Nat} {y : MethodName} {b : ByteArray} {L : Nat} {r : Option FieldType} (h1 : Cond.methodLink own idx y ∈ lw_all) (h2 : Cond.sameMethod y.cls y.cls y.name y.desc ∈ lw_all) (h3 : Cond.superclass own y.cls ∈ lw_all) (h4 : Cond.instanceMethod y ∈ lw_all) (h5 : Cond.initialized y.cls ∈ lw_all) (h6 : Cond.code y b L r ∈ lw_all) : GoodIn lw_all (va_wsSU own idx y (ws_ y b L r)) := by
  refine lw_app ?_ (lw_meth h6)
  intro w hw
  simp only [List.mem_cons, List.not_mem_nil, or_false] at hw
  rcases hw with e | e | e | e | e
  · rw [e]; exact h1
  · rw [e]; exact h2
  · rw [e]; exact h3
  · rw [e]; exact h4
  · rw [e]; exact h5
theorem lw_O {own : String} {idx : Nat} {C owner : String} {x y : MethodName} {b : ByteArray} {L : Nat} {r : Option FieldType} (h1 : Cond.methodLink own idx x ∈ lw_all) (h2 : Cond.sameMethod x.cls owner x.name x.desc ∈ lw_all) (h3 : Cond.instanceMethod ⟨owner, x.name, x.desc⟩ ∈ lw_all) (h4 : Cond.selects C x y ∈ lw_all) (h5 : Cond.instanceMethod y ∈ lw_all) (h6 : Cond.initialized y.cls ∈ lw_all) (h7 : Cond.code y b L r ∈ lw_all) : GoodIn lw_all (va_wsO own idx C owner x y (ws_ y b L r)) := by
  refine lw_app ?_ (lw_meth h7)
  intro w hw
  simp only [List.mem_cons, List.not_mem_nil, or_false] at hw
  rcases hw with e | e | e | e | e | e
  · rw [e]; exact h1
  · rw [e]; exact h2
  · rw [e]; exact h3
  · rw [e]; exact h4
  · rw [e]; exact h5
  · rw [e]; exact h6
section H1
variable {p : Program} {l : Launch} {e : Env} {R : Room} {s : State} {m : MethodId} {args : Array Value} {below : List Frame} {meth : Method} {c : Code} {H : Heap} {locs : List Loc} {cells slots : Nat} {Q : State → Prop}
variable {D : va_G} {cl : List vw_C} {tys tysc : List (ClassId × FieldType)} {A : Nat → Prop} {ws : va_W} {N : State → Prop} {pc : Nat} {ls : Array Slot} {rest st0 : List Value} {a : Array Value}
theorem tk_dr {ws : va_W} {k : Nat} {c0 : Nat × va_E} (hk : ws[k]? = some c0) : ws = ws.take k ++ ([c0] ++ ws.drop (k + 1)) := by
  obtain ⟨h1, h2⟩ := List.getElem?_eq_some_iff.mp hk
  have := List.take_append_drop k ws
  rw [List.drop_eq_getElem_cons h1, h2] at this
  exact this.symm
theorem tk_set {ws : va_W} {k : Nat} {c0 c1 : Nat × va_E} (hk : ws[k]? = some c0) : ws.set k c1 = ws.take k ++ ([c1] ++ ws.drop (k + 1)) := by
  obtain ⟨h1, h2⟩ := List.getElem?_eq_some_iff.mp hk
  rw [List.set_eq_take_append_cons_drop, if_pos h1]
  rfl
theorem h1_v {k : Nat} {c0 c1 : Nat × va_E} (hk : ws[k]? = some c0) (hr : va_Run p l e R s m args below meth c H locs cells slots 0 0 (F0 m pc ls st0) rest (va_Qv (fun (_ : Unit) => True) (fun _ t => HW D cl tysc (va_A [c0] H.size) [c1] t) (va_A [c0] H.size) a) (va_A [c0] H.size)) (hA : ∀ q, s.heap.size ≤ q → A q) (hC : HC D cl tys A ws s H locs) (kk : ∀ (H1 : Heap) (locs1 : List Loc), HC D cl tys A (ws.set k c1) s H1 locs1 → W p l e R s m args below meth c H1 locs1 cells slots Q (F0 m (pc + 3) ls rest)) : W p l e R s m args below meth c H locs cells slots Q (F0 m pc ls st0) := by
  have e1 := tk_set (c1 := c1) hk
  rw [e1] at kk
  rw [tk_dr hk] at hC
  exact hs_v hr hA hC kk
theorem pre_S1 {As : List Value} {k : Nat} {c0 : Nat × va_E} (hk : ws[k]? = some c0) (hNb : ∀ (U : State) (g : JFrame) (mk : MethodId) (a : Array Value), N U → N (U.calling g mk a)) (hNw : ∀ U : State, U.heap = H → s.WarmedH U.vm → N U) (hC : HC D cl tys A ws s H locs) : PreS s H (va_Pc As (fun U => U.heap.size = H.size ∧ N U ∧ HW D cl tys (fun _ => True) [c0] U)) As := by
  rw [tk_dr hk] at hC
  exact ⟨pre_b hNb, pre_h hNw hC.1 (pl_ (pr_ hC.2.1)) (dl_ (dr_ hC.2.2.1))⟩
end H1
def bw (d : Nat → ClassId) (ba : Nat → Nat) (room : Nat → Int32) (work : Nat → Int32) (price : Nat → Int32) (whom : Nat → Int32) (bday : Nat → Int32) (units : Nat → Int32) (worth : Nat → Int32) (due : Nat → Int32) (under : Nat → Int32) (people : Int32) (askings : Int32) (hangs : Int32) (items : Int32) : va_W := [(ba 0, .inr (1, [.ref (ba 1), .ref (ba 2), .ref (ba 3), .ref (ba 4), .ref (ba 5), .ref (ba 6), .ref (ba 7), .ref (ba 8), .ref (ba 9), .int people, .int askings, .int hangs, .int items])),
  (ba 1, .inl (d 0, 4, .inl room)),
  (ba 2, .inl (d 0, 4, .inl work)),
  (ba 3, .inl (d 0, 4, .inl price)),
  (ba 4, .inl (d 0, 8, .inl whom)),
  (ba 5, .inl (d 0, 8, .inl bday)),
  (ba 6, .inl (d 0, 8, .inl units)),
  (ba 7, .inl (d 0, 8, .inl worth)),
  (ba 8, .inl (d 0, 8, .inl due)),
  (ba 9, .inl (d 0, 8, .inl under))]
def tw (d : Nat → ClassId) (ta : Nat → Nat) (many : Nat → Int32) (slip : Nat → Nat → Int32) (became : Nat → Int32) (left : Nat → Int32) (what : Nat → Int32) (which : Nat → Int32) (whose : Nat → Int32) (place : Nat → Int32) (deeds : Int32) (day : Int32) (won : Int32) (lost : Int32) (kept : Int32) : va_W := [(ta 0, .inr (2, [.ref (ta 1), .ref (ta 10), .ref (ta 11), .ref (ta 12), .ref (ta 13), .ref (ta 14), .ref (ta 15), .int deeds, .int day, .int won, .int lost, .int kept])), (ta 1, .inl (d 4, 4, .inr (.inr (.inr (.inr (fun k => some (ta (2 + k)))))))),
  (ta 2, .inr (3, [.ref (ta 6), .int (many 0)])), (ta 3, .inr (3, [.ref (ta 7), .int (many 1)])), (ta 4, .inr (3, [.ref (ta 8), .int (many 2)])), (ta 5, .inr (3, [.ref (ta 9), .int (many 3)])),
  (ta 6, .inl (d 0, 5, .inl (slip 0))), (ta 7, .inl (d 0, 5, .inl (slip 1))), (ta 8, .inl (d 0, 5, .inl (slip 2))), (ta 9, .inl (d 0, 5, .inl (slip 3))),
  (ta 10, .inl (d 0, 8, .inl became)), (ta 11, .inl (d 0, 8, .inl left)), (ta 12, .inl (d 0, 12, .inl what)), (ta 13, .inl (d 0, 12, .inl which)), (ta 14, .inl (d 0, 12, .inl whose)), (ta 15, .inl (d 0, 12, .inl place))]
def xr (d : Nat → ClassId) (ad ba ta : Nat → Nat) (text : Nat → Int32) (typed : Int32) (rest : Nat → Int32) (bestSet : Int32) (tenths : Nat → Int32) (sortWorth : Nat → Int32) (sortDays : Nat → Int32) (row : Nat → Int32) (trace : Int64) : va_W := [(ad 0, .inr (0, [.ref (ba 0), .ref (ta 0), .ref (ad 20), .ref (ad 1), .int typed, .ref (ad 2), .int bestSet, .ref (ad 3), .ref (ad 4), .ref (ad 5), .ref (ad 6), .long trace, .ref (ad 7)])),
  (ad 1, .inl (d 1, 300, .inl text)), (ad 2, .inl (d 0, 8, .inl rest)), (ad 3, .inl (d 0, 3, .inl tenths)), (ad 4, .inl (d 0, 3, .inl sortWorth)), (ad 5, .inl (d 0, 3, .inl sortDays)), (ad 6, .inl (d 0, 8, .inl row)), (ad 7, .inl (d 6, 6, .inr (.inr (.inr (.inr (fun k => some (ad (8 + k)))))))),
  (ad 8, .inr (4, [.ref (ad 0)])), (ad 9, .inr (5, [.ref (ad 0), .ref (ad 0)])), (ad 10, .inr (6, [.ref (ad 0), .ref (ad 0)])), (ad 11, .inr (7, [.ref (ad 0), .ref (ad 0), .ref (ad 0)])), (ad 12, .inr (8, [.ref (ad 0), .ref (ad 0), .ref (ad 0)])), (ad 13, .inr (9, [.ref (ad 0), .ref (ad 0)]))]
def xw (d : Nat → ClassId) (ad ba ta : Nat → Nat) (imgs : va_W) (room : Nat → Int32) (work : Nat → Int32) (price : Nat → Int32) (whom : Nat → Int32) (bday : Nat → Int32) (units : Nat → Int32) (worth : Nat → Int32) (due : Nat → Int32) (under : Nat → Int32) (people : Int32) (askings : Int32) (hangs : Int32) (items : Int32) (many : Nat → Int32) (slip : Nat → Nat → Int32) (became : Nat → Int32) (left : Nat → Int32) (what : Nat → Int32) (which : Nat → Int32) (whose : Nat → Int32) (place : Nat → Int32) (deeds : Int32) (day : Int32) (won : Int32) (lost : Int32) (kept : Int32) (text : Nat → Int32) (typed : Int32) (rest : Nat → Int32) (bestSet : Int32) (tenths : Nat → Int32) (sortWorth : Nat → Int32) (sortDays : Nat → Int32) (row : Nat → Int32) (trace : Int64) : va_W := bw d ba room work price whom bday units worth due under people askings hangs items ++ (tw d ta many slip became left what which whose place deeds day won lost kept ++ (xr d ad ba ta text typed rest bestSet tenths sortWorth sortDays row trace ++ imgs))
theorem tw_sl {d : Nat → ClassId} {ta : Nat → Nat} {many : Nat → Int32} {slip : Nat → Nat → Int32} {became : Nat → Int32} {left : Nat → Int32} {what : Nat → Int32} {which : Nat → Int32} {whose : Nat → Int32} {place : Nat → Int32} {deeds : Int32} {day : Int32} {won : Int32} {lost : Int32} {kept : Int32} {p : Nat} (hp : p < 4) : (tw d ta many slip became left what which whose place deeds day won lost kept)[2 + p]? = some (ta (2 + p), .inr (3, [.ref (ta (6 + p)), .int (many p)])) := match p, hp with
  | 0, _ => rfl
  | 1, _ => rfl
  | 2, _ => rfl
  | 3, _ => rfl
theorem tw_sp {d : Nat → ClassId} {ta : Nat → Nat} {many : Nat → Int32} {slip : Nat → Nat → Int32} {became : Nat → Int32} {left : Nat → Int32} {what : Nat → Int32} {which : Nat → Int32} {whose : Nat → Int32} {place : Nat → Int32} {deeds : Int32} {day : Int32} {won : Int32} {lost : Int32} {kept : Int32} {p : Nat} (hp : p < 4) : (tw d ta many slip became left what which whose place deeds day won lost kept)[6 + p]? = some (ta (6 + p), .inl (d 0, 5, .inl (slip p))) := match p, hp with
  | 0, _ => rfl
  | 1, _ => rfl
  | 2, _ => rfl
  | 3, _ => rfl
theorem tw_usl {d : Nat → ClassId} {ta : Nat → Nat} {many : Nat → Int32} {slip : Nat → Nat → Int32} {became : Nat → Int32} {left : Nat → Int32} {what : Nat → Int32} {which : Nat → Int32} {whose : Nat → Int32} {place : Nat → Int32} {deeds : Int32} {day : Int32} {won : Int32} {lost : Int32} {kept : Int32} {p : Nat} (hp : p < 4) {v : Int32} : (tw d ta many slip became left what which whose place deeds day won lost kept).set (2 + p) (ta (2 + p), .inr (3, [.ref (ta (6 + p)), .int v])) = tw d ta (upd many p v) slip became left what which whose place deeds day won lost kept := match p, hp with
  | 0, _ => rfl
  | 1, _ => rfl
  | 2, _ => rfl
  | 3, _ => rfl
theorem tw_usp {d : Nat → ClassId} {ta : Nat → Nat} {many : Nat → Int32} {slip : Nat → Nat → Int32} {became : Nat → Int32} {left : Nat → Int32} {what : Nat → Int32} {which : Nat → Int32} {whose : Nat → Int32} {place : Nat → Int32} {deeds : Int32} {day : Int32} {won : Int32} {lost : Int32} {kept : Int32} {p : Nat} (hp : p < 4) {f : Nat → Int32} : (tw d ta many slip became left what which whose place deeds day won lost kept).set (6 + p) (ta (6 + p), .inl (d 0, 5, .inl f)) = tw d ta many (va_up slip p f) became left what which whose place deeds day won lost kept := match p, hp with
  | 0, _ => rfl
  | 1, _ => rfl
  | 2, _ => rfl
  | 3, _ => rfl
theorem xw_sl {d : Nat → ClassId} {ad ba ta : Nat → Nat} {imgs : va_W} {room : Nat → Int32} {work : Nat → Int32} {price : Nat → Int32} {whom : Nat → Int32} {bday : Nat → Int32} {units : Nat → Int32} {worth : Nat → Int32} {due : Nat → Int32} {under : Nat → Int32} {people : Int32} {askings : Int32} {hangs : Int32} {items : Int32} {many : Nat → Int32} {slip : Nat → Nat → Int32} {became : Nat → Int32} {left : Nat → Int32} {what : Nat → Int32} {which : Nat → Int32} {whose : Nat → Int32} {place : Nat → Int32} {deeds : Int32} {day : Int32} {won : Int32} {lost : Int32} {kept : Int32} {text : Nat → Int32} {typed : Int32} {rest : Nat → Int32} {bestSet : Int32} {tenths : Nat → Int32} {sortWorth : Nat → Int32} {sortDays : Nat → Int32} {row : Nat → Int32} {trace : Int64} {p : Nat} (hp : p < 4) : (xw d ad ba ta imgs room work price whom bday units worth due under people askings hangs items many slip became left what which whose place deeds day won lost kept text typed rest bestSet tenths sortWorth sortDays row trace)[12 + p]? = some (ta (2 + p), .inr (3, [.ref (ta (6 + p)), .int (many p)])) := match p, hp with
  | 0, _ => rfl
  | 1, _ => rfl
  | 2, _ => rfl
  | 3, _ => rfl
theorem xw_sp {d : Nat → ClassId} {ad ba ta : Nat → Nat} {imgs : va_W} {room : Nat → Int32} {work : Nat → Int32} {price : Nat → Int32} {whom : Nat → Int32} {bday : Nat → Int32} {units : Nat → Int32} {worth : Nat → Int32} {due : Nat → Int32} {under : Nat → Int32} {people : Int32} {askings : Int32} {hangs : Int32} {items : Int32} {many : Nat → Int32} {slip : Nat → Nat → Int32} {became : Nat → Int32} {left : Nat → Int32} {what : Nat → Int32} {which : Nat → Int32} {whose : Nat → Int32} {place : Nat → Int32} {deeds : Int32} {day : Int32} {won : Int32} {lost : Int32} {kept : Int32} {text : Nat → Int32} {typed : Int32} {rest : Nat → Int32} {bestSet : Int32} {tenths : Nat → Int32} {sortWorth : Nat → Int32} {sortDays : Nat → Int32} {row : Nat → Int32} {trace : Int64} {p : Nat} (hp : p < 4) : (xw d ad ba ta imgs room work price whom bday units worth due under people askings hangs items many slip became left what which whose place deeds day won lost kept text typed rest bestSet tenths sortWorth sortDays row trace)[16 + p]? = some (ta (6 + p), .inl (d 0, 5, .inl (slip p))) := match p, hp with
  | 0, _ => rfl
  | 1, _ => rfl
  | 2, _ => rfl
  | 3, _ => rfl
theorem xw_usl {d : Nat → ClassId} {ad ba ta : Nat → Nat} {imgs : va_W} {room : Nat → Int32} {work : Nat → Int32} {price : Nat → Int32} {whom : Nat → Int32} {bday : Nat → Int32} {units : Nat → Int32} {worth : Nat → Int32} {due : Nat → Int32} {under : Nat → Int32} {people : Int32} {askings : Int32} {hangs : Int32} {items : Int32} {many : Nat → Int32} {slip : Nat → Nat → Int32} {became : Nat → Int32} {left : Nat → Int32} {what : Nat → Int32} {which : Nat → Int32} {whose : Nat → Int32} {place : Nat → Int32} {deeds : Int32} {day : Int32} {won : Int32} {lost : Int32} {kept : Int32} {text : Nat → Int32} {typed : Int32} {rest : Nat → Int32} {bestSet : Int32} {tenths : Nat → Int32} {sortWorth : Nat → Int32} {sortDays : Nat → Int32} {row : Nat → Int32} {trace : Int64} {p : Nat} (hp : p < 4) {v : Int32} : (xw d ad ba ta imgs room work price whom bday units worth due under people askings hangs items many slip became left what which whose place deeds day won lost kept text typed rest bestSet tenths sortWorth sortDays row trace).set (12 + p) (ta (2 + p), .inr (3, [.ref (ta (6 + p)), .int v])) = xw d ad ba ta imgs room work price whom bday units worth due under people askings hangs items (upd many p v) slip became left what which whose place deeds day won lost kept text typed rest bestSet tenths sortWorth sortDays row trace := match p, hp with
  | 0, _ => rfl
  | 1, _ => rfl
  | 2, _ => rfl
  | 3, _ => rfl
theorem xw_usp {d : Nat → ClassId} {ad ba ta : Nat → Nat} {imgs : va_W} {room : Nat → Int32} {work : Nat → Int32} {price : Nat → Int32} {whom : Nat → Int32} {bday : Nat → Int32} {units : Nat → Int32} {worth : Nat → Int32} {due : Nat → Int32} {under : Nat → Int32} {people : Int32} {askings : Int32} {hangs : Int32} {items : Int32} {many : Nat → Int32} {slip : Nat → Nat → Int32} {became : Nat → Int32} {left : Nat → Int32} {what : Nat → Int32} {which : Nat → Int32} {whose : Nat → Int32} {place : Nat → Int32} {deeds : Int32} {day : Int32} {won : Int32} {lost : Int32} {kept : Int32} {text : Nat → Int32} {typed : Int32} {rest : Nat → Int32} {bestSet : Int32} {tenths : Nat → Int32} {sortWorth : Nat → Int32} {sortDays : Nat → Int32} {row : Nat → Int32} {trace : Int64} {p : Nat} (hp : p < 4) {f : Nat → Int32} : (xw d ad ba ta imgs room work price whom bday units worth due under people askings hangs items many slip became left what which whose place deeds day won lost kept text typed rest bestSet tenths sortWorth sortDays row trace).set (16 + p) (ta (6 + p), .inl (d 0, 5, .inl f)) = xw d ad ba ta imgs room work price whom bday units worth due under people askings hangs items many (va_up slip p f) became left what which whose place deeds day won lost kept text typed rest bestSet tenths sortWorth sortDays row trace := match p, hp with
  | 0, _ => rfl
  | 1, _ => rfl
  | 2, _ => rfl
  | 3, _ => rfl
theorem sv_sl {d : Nat → ClassId} {ta : Nat → Nat} {many : Nat → Int32} {slip : Nat → Nat → Int32} {became : Nat → Int32} {left : Nat → Int32} {what : Nat → Int32} {which : Nat → Int32} {whose : Nat → Int32} {place : Nat → Int32} {deeds : Int32} {day : Int32} {won : Int32} {lost : Int32} {kept : Int32} {sl : Nat → Int32} {mn : Int32} {p : Nat} (hp : p < 4) : (tw d ta (upd many p mn) (va_up slip p sl) became left what which whose place deeds day won lost kept)[2 + p]? = some (ta (2 + p), .inr (3, [.ref (ta (6 + p)), .int mn])) := (tw_sl hp).trans (by rw [show upd many p mn p = mn from if_pos rfl])
theorem sv_sp {d : Nat → ClassId} {ta : Nat → Nat} {many : Nat → Int32} {slip : Nat → Nat → Int32} {became : Nat → Int32} {left : Nat → Int32} {what : Nat → Int32} {which : Nat → Int32} {whose : Nat → Int32} {place : Nat → Int32} {deeds : Int32} {day : Int32} {won : Int32} {lost : Int32} {kept : Int32} {sl : Nat → Int32} {mn : Int32} {p : Nat} (hp : p < 4) : (tw d ta (upd many p mn) (va_up slip p sl) became left what which whose place deeds day won lost kept)[6 + p]? = some (ta (6 + p), .inl (d 0, 5, .inl sl)) := (tw_sp hp).trans (by rw [va_up_self])
theorem upd_upd (f : Nat → Int32) (k : Nat) (v w : Int32) : upd (upd f k v) k w = upd f k w := by
  funext j; unfold upd; split <;> rfl
theorem sv_usl {d : Nat → ClassId} {ta : Nat → Nat} {many : Nat → Int32} {slip : Nat → Nat → Int32} {became : Nat → Int32} {left : Nat → Int32} {what : Nat → Int32} {which : Nat → Int32} {whose : Nat → Int32} {place : Nat → Int32} {deeds : Int32} {day : Int32} {won : Int32} {lost : Int32} {kept : Int32} {sl : Nat → Int32} {mn : Int32} {p : Nat} (hp : p < 4) {v : Int32} : (tw d ta (upd many p mn) (va_up slip p sl) became left what which whose place deeds day won lost kept).set (2 + p) (ta (2 + p), .inr (3, [.ref (ta (6 + p)), .int v])) = tw d ta (upd many p v) (va_up slip p sl) became left what which whose place deeds day won lost kept := (tw_usl hp).trans (by rw [upd_upd])
theorem sv_usp {d : Nat → ClassId} {ta : Nat → Nat} {many : Nat → Int32} {slip : Nat → Nat → Int32} {became : Nat → Int32} {left : Nat → Int32} {what : Nat → Int32} {which : Nat → Int32} {whose : Nat → Int32} {place : Nat → Int32} {deeds : Int32} {day : Int32} {won : Int32} {lost : Int32} {kept : Int32} {sl : Nat → Int32} {mn : Int32} {p : Nat} (hp : p < 4) {f : Nat → Int32} : (tw d ta (upd many p mn) (va_up slip p sl) became left what which whose place deeds day won lost kept).set (6 + p) (ta (6 + p), .inl (d 0, 5, .inl f)) = tw d ta (upd many p mn) (va_up slip p f) became left what which whose place deeds day won lost kept := (tw_usp hp).trans (by rw [bx_uu])
