/-! ===== linked lists in the heap ===== -/
/-- xs are linked by field i; the last one leads to e -/
def ChE (F : Nat → Nat → Value) (i : Nat) : List Nat → Option Nat → Prop
  | [], _ => True
  | p :: xs, e => F p i = va_rf (xs.head?.or e) ∧ ChE F i xs e
/-- xs are linked backward by field i; before the first one stands o -/
def PvE (F : Nat → Nat → Value) (i : Nat) : Option Nat → List Nat → Prop
  | _, [] => True
  | o, p :: xs => F p i = va_rf o ∧ PvE F i (some p) xs
/-- contents differ at most where P holds -/
def FrP (P : Nat → Nat → Prop) (F F2 : Nat → Nat → Value) : Prop := ∀ b j, ¬ P b j → F2 b j = F b j
def DL (F : Nat → Nat → Value) (i j : Nat) (xs : List Nat) : Prop := ChE F i xs none ∧ PvE F j none xs
section LINKS
variable {F F2 : Nat → Nat → Value} {i j p q m : Nat} {a b c c2 xs ns : List Nat} {e e2 o o2 : Option Nat}
theorem FrP.refl {P : Nat → Nat → Prop} : FrP P F F := fun _ _ _ => rfl
theorem FrP.upd {P : Nat → Nat → Prop} {z k : Nat} {v : Value} (f : FrP P F F2) (hz : P z k) : FrP P F (updF F2 z k v) := fun b j h => by
  by_cases e1 : b = z
  · subst e1
    rw [updF_i (fun e => h (by rw [e]; exact hz)) rfl]
    exact f _ _ h
  · rw [updF_a e1 rfl]
    exact f _ _ h
theorem FrP.trans {P : Nat → Nat → Prop} {F3 : Nat → Nat → Value} (f : FrP P F F2) (g : FrP P F2 F3) : FrP P F F3 := fun b j h => (g b j h).trans (f b j h)
theorem FrP.mono {P P2 : Nat → Nat → Prop} (f : FrP P F F2) (hp : ∀ b j, P b j → P2 b j) : FrP P2 F F2 := fun b j h => f b j fun h2 => h (hp b j h2)
theorem ChE_app : ∀ {a : List Nat}, ChE F i (a ++ b) e ↔ ChE F i a (b.head?.or e) ∧ ChE F i b e
  | [] => by simp [ChE]
  | p :: a => by
    have ih := ChE_app (a := a)
    simp only [List.cons_append, ChE, ih, and_assoc]
    have : (a ++ b).head?.or e = a.head?.or (b.head?.or e) := by cases a <;> simp
    rw [this]
theorem PvE_app : ∀ {o : Option Nat} {a : List Nat}, PvE F i o (a ++ b) ↔ PvE F i o a ∧ PvE F i (a.getLast?.or o) b
  | o, [] => by simp [PvE]
  | o, p :: a => by
    have ih := PvE_app (o := some p) (a := a)
    simp only [List.cons_append, PvE, ih, and_assoc]
    have : a.getLast?.or (some p) = (p :: a).getLast?.or o := by
      cases a with
      | nil => simp
      | cons z a => simp [List.getLast?_cons]
    rw [this]
theorem ChE_congr : ∀ {a : List Nat}, (∀ z, z ∈ a → F2 z i = F z i) → ChE F i a e → ChE F2 i a e
  | [], _, _ => trivial
  | p :: a, h, c => ⟨(h p List.mem_cons_self).trans c.1, ChE_congr (fun z hz => h z (List.mem_cons_of_mem _ hz)) c.2⟩
theorem PvE_congr : ∀ {o : Option Nat} {a : List Nat}, (∀ z, z ∈ a → F2 z i = F z i) → PvE F i o a → PvE F2 i o a
  | _, [], _, _ => trivial
  | _, p :: a, h, c => ⟨(h p List.mem_cons_self).trans c.1, PvE_congr (fun z hz => h z (List.mem_cons_of_mem _ hz)) c.2⟩
theorem ChE_last : ∀ {a : List Nat}, a.Nodup → (∀ z, z ∈ a → F2 z i = if a.getLast? = some z then va_rf e2 else F z i) → ChE F i a e → ChE F2 i a e2
  | [], _, _, _ => trivial
  | [p], _, h, c => ⟨by rw [h p List.mem_cons_self, if_pos (by simp)]; rfl, trivial⟩
  | p :: r :: a, hn, h, c => by
    have hn2 := List.nodup_cons.mp hn
    refine ⟨?_, ChE_last hn2.2 (fun z hz => ?_) c.2⟩
    · rw [h p List.mem_cons_self, if_neg]
      · exact c.1
      · intro hl
        have := List.mem_of_getLast? (l := r :: a) (by rw [List.getLast?_cons_cons] at hl; exact hl)
        exact hn2.1 this
    · rw [h z (List.mem_cons_of_mem _ hz), List.getLast?_cons_cons]
theorem PvE_head : ∀ {a : List Nat}, a.Nodup → (∀ z, z ∈ a → F2 z i = if a.head? = some z then va_rf o2 else F z i) → PvE F i o a → PvE F2 i o2 a
  | [], _, _, _ => trivial
  | p :: a, hn, h, c => by
    have hn2 := List.nodup_cons.mp hn
    refine ⟨by rw [h p List.mem_cons_self, if_pos (by simp)], PvE_congr (fun z hz => ?_) c.2⟩
    rw [h z (List.mem_cons_of_mem _ hz), if_neg]
    intro e
    simp at e
    subst e
    exact hn2.1 hz
theorem or_none_ (x : Option Nat) : x.or none = x := by cases x <;> rfl
theorem DL.splice (dl : DL F i j (a ++ (c ++ b))) (hn : (a ++ (c ++ b)).Nodup) (h1 : ∀ z, z ∈ a → F2 z i = if a.getLast? = some z then va_rf (c2 ++ b).head? else F z i) (h2 : ∀ z, z ∈ a → F2 z j = F z j)
    (h3 : ∀ z, z ∈ b → F2 z i = F z i) (h4 : ∀ z, z ∈ b → F2 z j = if b.head? = some z then va_rf (a ++ c2).getLast? else F z j) (h5 : ChE F2 i c2 b.head?) (h6 : PvE F2 j a.getLast? c2) : DL F2 i j (a ++ (c2 ++ b)) := by
  obtain ⟨d1, d2⟩ := dl
  rw [ChE_app, ChE_app] at d1
  rw [PvE_app, PvE_app] at d2
  have na := (List.nodup_append.mp hn).1
  have nb := (List.nodup_append.mp (List.nodup_append.mp hn).2.1).2.1
  refine ⟨?_, ?_⟩
  · rw [ChE_app, ChE_app, or_none_, or_none_]
    exact ⟨ChE_last na h1 d1.1, h5, ChE_congr h3 d1.2.2⟩
  · rw [PvE_app, PvE_app]
    refine ⟨PvE_congr h2 d2.1, by rw [or_none_]; exact h6, PvE_head nb (fun z hz => ?_) d2.2.2⟩
    rw [h4 z hz, or_none_, List.getLast?_append]
/-- the members of a list that has been spliced lie apart -/
theorem ChE.mem (h : ChE F i (a ++ p :: b) e) : F p i = va_rf (b.head?.or e) := (ChE_app.mp h).2.1
theorem PvE.mem (h : PvE F i o (a ++ p :: b)) : F p i = va_rf (a.getLast?.or o) := (PvE_app.mp h).2.1
theorem DL.fwd (h : DL F i j (a ++ p :: b)) : F p i = va_rf b.head? := by rw [ChE.mem h.1, or_none_]
theorem DL.bwd (h : DL F i j (a ++ p :: b)) : F p j = va_rf a.getLast? := by rw [PvE.mem h.2, or_none_]
/-- a member comes to the front -/
theorem DL.toFront {f : Nat} (dl : DL F i j (a ++ p :: b)) (hn : (a ++ p :: b).Nodup) (hf : a.head? = some f) (g1 : F2 p i = va_rf (some f)) (g2 : F2 p j = .null) (h1 : ∀ z, z ∈ a → F2 z i = if a.getLast? = some z then va_rf b.head? else F z i) (h2 : ∀ z, z ∈ a → F2 z j = if a.head? = some z then va_rf (some p) else F z j)
    (h3 : ∀ z, z ∈ b → F2 z i = F z i) (h4 : ∀ z, z ∈ b → F2 z j = if b.head? = some z then va_rf a.getLast? else F z j) : DL F2 i j (p :: (a ++ b)) := by
  obtain ⟨d1, d2⟩ := dl
  rw [ChE_app] at d1
  rw [PvE_app] at d2
  have na := (List.nodup_append.mp hn).1
  have nb := (List.nodup_cons.mp (List.nodup_append.mp hn).2.1).2
  have hl : ∃ w, a.getLast? = some w := by cases a <;> simp_all [List.getLast?_cons]
  obtain ⟨w, hw⟩ := hl
  refine ⟨⟨?_, ?_⟩, g2, ?_⟩
  · rw [g1, List.head?_append, hf]
    rfl
  · rw [ChE_app, or_none_]
    exact ⟨ChE_last na h1 d1.1, ChE_congr h3 d1.2.2⟩
  · rw [PvE_app]
    refine ⟨PvE_head na h2 d2.1, PvE_head nb (fun z hz => ?_) d2.2.2⟩
    rw [h4 z hz, hw]
    rfl
end LINKS
