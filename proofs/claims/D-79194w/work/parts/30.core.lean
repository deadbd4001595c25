/-! ===== the judgement EX: a frame of a method runs, over an abstract heap, to an outcome and an abstract heap ===== -/
/-- a cell: its kind, its contents; the abstract heap: next address, slots, cells -/
abbrev AC : Type := Nat × List Value
abbrev AH : Type := Nat × Nat × (Nat → Option AC)
abbrev MD : Type := MethodName × ByteArray × Nat × Option FieldType × List (Nat × Nat × Nat × Nat)
/-- the law's start, its arguments, the classes' numbers and slots, the array classes' numbers -/
abbrev GG : Type := State × Array Value × va_G × (Nat → ClassId)
/-- outcome: returned, or thrown -/
abbrev RR : Type := Option Value ⊕ Nat
def ah_upd (h : AH) (a : Nat) (c : AC) : AH := (h.1, h.2.1, fun b => if b = a then some c else h.2.2 b)
def ah_new (h : AH) (k : Nat) (fs : List Value) (n : Nat) : AH := (h.1 + 1, h.2.1 + n, fun b => if b = h.1 then some (k, fs) else h.2.2 b)
def TRef : u_T := fun _ => ("CueStack$Refusal", "reason", "I", true)
def TBad : u_T := fun _ => ("CueStack$BadText", "position", "I", true)
def TNone : u_T := fun _ => ("", "", "", true)
/-- the kinds of objects: class, fields, how many -/
def kl : List vw_C := [(RX1, TX1, 9), (RX2, TX2, 8), (RX3, TX3, 5), (RX4, TX4, 2), (RX5, TX5, 2), (RX6, TX6, 17), (RX7, TX7, 6), (RX9, TX9, 2), (RX11, TX11, 1), (RX12, TX12, 4), (RX13, TX13, 4), (RJ2, TJ2, 3), (RJ5, TJ5, 12), (RJ25, TJ25, 6), (RJ26, TJ26, 11), (RJ36, TJ36, 2), (RJ31, TJ31, 5), (RJ39, TJ39, 2), (RJ41, TJ41, 5), (RJ28, TJ28, 2), (RJ30, TJ30, 5), (RX10, TRef, 1), (RX14, TBad, 1), (RJ17, TNone, 0), (RJ33, TNone, 0), (RJ34, TNone, 0), (RJ32, TNone, 0), (RJ37, TNone, 0)]
def al : List FieldType := [.int, .long, .char, .object "java/lang/Object", .object "java/util/HashMap$Node", .byte]
def tysG (G : GG) : List (ClassId × FieldType) := [(G.2.2.2 0, .int), (G.2.2.2 1, .long), (G.2.2.2 2, .char), (G.2.2.2 3, .object "java/lang/Object"), (G.2.2.2 4, .object "java/util/HashMap$Node"), (G.2.2.2 5, .byte)]
/-- exceptions whose constructor has still to run -/
def rl : List String := [RX10, RX14, RJ17, RJ33, RJ34, RJ32, RJ37]
def sitesL : List Cond := [siteWord_1_1, siteWord_1_2, siteWord_1_3, siteWord_1_4, siteWord_1_5, siteWord_1_6, siteWord_1_7, siteWord_1_8]
def lamCls (s0 : State) (j : Nat) (c : ClassId) : Prop := match sitesL[j]? with
  | some (.lambdaSite x pc ix sh) => ∃ one, s0.lambdaAt? x pc ix sh = some (c, one)
  | _ => False
def CR (G : GG) (a k : Nat) (fs : List Value) (H : Heap) : Prop :=
  if k < 30 then G.1.heap.size ≤ a ∧ ∃ q : vw_C, kl[k]? = some q ∧ fs.length = q.2.2 ∧ t_OB a (G.2.2.1.1 k) q.2.2 (G.2.2.1.2 k) H (vp_V fs)
  else if k < 40 then G.1.heap.size ≤ a ∧ ∃ ty : FieldType, al[k - 32]? = some ty ∧ H[a]? = some { cls := G.2.2.2 (k - 32), slots := fs.toArray, vm := .none }
  else if k < 48 then a < G.1.heap.size ∧ ∃ (ty : FieldType) (cell : Cell), al[k - 40]? = some ty ∧ H[a]? = some cell ∧ G.1.isArrayOf cell ty ∧ cell.vm ≠ .unknown ∧ cell.slots = fs.toArray
  else if k < 58 then G.1.heap.size ≤ a ∧ ∃ cell : Cell, H[a]? = some cell ∧ cell.vm = .none ∧ lamCls G.1 (k - 50) cell.cls ∧ cell.slots = fs.toArray
  else if k < 66 then G.1.heap.size ≤ a ∧ ∃ (C : String) (cC : ClassId) (kC : Class), rl[k - 58]? = some C ∧ G.1.vm.findClass C = some cC ∧ G.1.vm.classes[cC]? = some kC ∧ kC.kind = .ordinary ∧ H[a]? = some (blank cC kC)
  else False
def Rep (G : GG) (h : AH) (H : Heap) : Prop := H.size = h.1 ∧ G.1.heap.size ≤ h.1 ∧ (∀ q : Nat, q < G.1.heap.size → H[q]? = G.1.heap[q]?) ∧ ∀ (a k : Nat) (fs : List Value), h.2.2 a = some (k, fs) → CR G a k fs H
/-- the locals: a place that holds a return address holds anything -/
def LH (la : Array Slot) (nL : Nat) (ls : List Value) : Prop := la.size = nL ∧ lv_wf la ∧ ∀ (i : Nat) (v : Value), ls[i]? = some v → v ≠ .retAddr 0 → la[i]? = some (.val v)
def CX (G : GG) (d : Nat) (y : MD) (p : Program) (l : Launch) (R : Room) (s : State) (m : MethodId) (meth : Method) (c : Code) : Prop :=
  p.tables.exec = Jvm.exec ∧ c.code = y.2.1 ∧ c.maxLocals = y.2.2.1 ∧ meth.sig.returnType = y.2.2.2.1 ∧ c.exceptionTable.toList = tableOf y.2.2.2.2 ∧ meth.locks = false ∧ s.vm.findClass y.1.cls = some m.cls ∧ (meth.name = y.1.name ∧ s.methodNamed? y.1 = some m) ∧ l.stackTraces = false ∧
  (∀ w ∈ lw_tbl, w.before G.2.1 G.1 = true) ∧ va_K G.2.2.1 kl (tysG G) G.1 ∧ G.1.WarmedH s.vm ∧ G.1.heap.size ≤ s.heap.size ∧ (∀ q : Nat, q < G.1.heap.size → s.heap[q]? = G.1.heap[q]?) ∧ (Cond.and given_1 narrow_1).before G.2.1 G.1 = true ∧ d ≤ R.frames ∧ 100 * d ≤ R.locals
def xP (G : GG) (r : RR) (h' : AH) (mc ms : Nat) (s : State) (o : Outcome) (t : State) : Prop :=
  s.WarmedH t.vm ∧ (∃ L : List Loc, s.sameButNew ({ t with vm := s.vm } : State) L mc ms ∧ ∀ z ∈ L, G.1.heap.size ≤ z.base) ∧ Rep G h' t.heap ∧ ((∃ v, r = .inl v ∧ o = .returned v) ∨ ∃ q, r = .inr q ∧ o = .threw q)
def xQ (G : GG) (below : List Frame) (s : State) (mc ms : Nat) (r : RR) (h' : AH) : State → Prop := fun t => ∃ o, t.status = .running ∧ Ended t below o ∧ xP G r h' mc ms s o t
def EX (G : GG) (d : Nat) (y : MD) (pc : Nat) (ls st : List Value) (h : AH) (r : RR) (h' : AH) : Prop :=
  (h.1 ≤ h'.1 ∧ h.2.1 ≤ h'.2.1) ∧ ∀ (p : Program) (l : Launch) (e : Env) (R : Room) (s : State) (m : MethodId) (args : Array Value) (below : List Frame) (meth : Method) (c : Code) (H : Heap) (locs : List Loc) (cells slots mc ms : Nat) (la : Array Slot),
    CX G d y p l R s m meth c → Rep G h H → va_S (fun q => G.1.heap.size ≤ q) s.heap H locs → LH la y.2.2.1 ls → cells + (h'.1 - h.1) ≤ mc → slots + (h'.2.1 - h.2.1) ≤ ms → mc ≤ R.cells → ms ≤ R.slots →
    W p l e R s m args below meth c H locs cells slots (xQ G below s mc ms r h') (F0 m pc la st)
/-- q is thrown over the frame -/
def EXX (G : GG) (d : Nat) (y : MD) (pc : Nat) (ls : List Value) (q : Nat) (h : AH) (r : RR) (h' : AH) : Prop :=
  (h.1 ≤ h'.1 ∧ h.2.1 ≤ h'.2.1) ∧ ∀ (p : Program) (l : Launch) (e : Env) (R : Room) (s : State) (m : MethodId) (args : Array Value) (below : List Frame) (meth : Method) (c : Code) (H : Heap) (locs : List Loc) (cells slots mc ms : Nat) (la : Array Slot) (st : List Value),
    CX G d y p l R s m meth c → Rep G h H → va_S (fun q => G.1.heap.size ≤ q) s.heap H locs → LH la y.2.2.1 ls → cells + (h'.1 - h.1) ≤ mc → slots + (h'.2.1 - h.2.1) ≤ ms → mc ≤ R.cells → ms ≤ R.slots →
    vx_W p l e R s m args below meth c H locs cells slots (xQ G below s mc ms r h') (F0 m pc la st) q
/-- the same with a postcondition -/
def WA (G : GG) (d : Nat) (y : MD) (pc : Nat) (ls st : List Value) (h : AH) (Q : RR → AH → Prop) : Prop := ∃ (r : RR) (h' : AH), EX G d y pc ls st h r h' ∧ Q r h'
def WAX (G : GG) (d : Nat) (y : MD) (pc : Nat) (ls : List Value) (q : Nat) (h : AH) (Q : RR → AH → Prop) : Prop := ∃ (r : RR) (h' : AH), EXX G d y pc ls q h r h' ∧ Q r h'
/-- a method's locals at its entry -/
def entL (args : List Value) (n : Nat) : List Value := (args.flatMap fun v => if v.category = 2 then [v, .retAddr 0] else [v]) ++ List.replicate (n - (args.flatMap fun v => if v.category = 2 then [v, Value.retAddr 0] else [v]).length) (.retAddr 0)
def MA (G : GG) (d : Nat) (y : MD) (args : List Value) (h : AH) (Q : RR → AH → Prop) : Prop := WA G d y 0 (entL args y.2.2.1) [] h Q
section COREL
variable {G : GG} {d : Nat} {y : MD} {pc pc2 : Nat} {ls ls2 st st2 : List Value} {h h2 : AH} {Q : RR → AH → Prop}
theorem WA.lift (f : ∀ r h', EX G d y pc2 ls2 st2 h2 r h' → EX G d y pc ls st h r h') (k : WA G d y pc2 ls2 st2 h2 Q) : WA G d y pc ls st h Q := by
  obtain ⟨r, h', a, b⟩ := k
  exact ⟨r, h', f r h' a, b⟩
theorem WA.mono {Q2 : RR → AH → Prop} (k : WA G d y pc ls st h Q) (f : ∀ r h', h.1 ≤ h'.1 → h.2.1 ≤ h'.2.1 → Q r h' → Q2 r h') : WA G d y pc ls st h Q2 := by
  obtain ⟨r, h', a, b⟩ := k
  exact ⟨r, h', a, f r h' a.1.1 a.1.2 b⟩
theorem MA.mono {args : List Value} {Q2 : RR → AH → Prop} (k : MA G d y args h Q) (f : ∀ r h', h.1 ≤ h'.1 → h.2.1 ≤ h'.2.1 → Q r h' → Q2 r h') : MA G d y args h Q2 := WA.mono k f
/-- a step that leaves the heap alone -/
theorem WA.pure (f : ∀ (p : Program) (l : Launch) (e : Env) (R : Room) (s : State) (m : MethodId) (args : Array Value) (below : List Frame) (meth : Method) (c : Code) (H : Heap) (locs : List Loc) (cells slots : Nat) (Z : State → Prop) (la : Array Slot),
      CX G d y p l R s m meth c → LH la y.2.2.1 ls → (∀ la' : Array Slot, LH la' y.2.2.1 ls2 → W p l e R s m args below meth c H locs cells slots Z (F0 m pc2 la' st2)) → W p l e R s m args below meth c H locs cells slots Z (F0 m pc la st))
    (k : WA G d y pc2 ls2 st2 h Q) : WA G d y pc ls st h Q :=
  WA.lift (fun r h' a => ⟨a.1, fun p l e R s m args below meth c H locs cells slots mc ms la C hR hS hL h1 h2 h3 h4 => f p l e R s m args below meth c H locs cells slots _ la C hL fun la' hL' => a.2 p l e R s m args below meth c H locs cells slots mc ms la' C hR hS hL' h1 h2 h3 h4⟩) k
/-- a step that reads the heap -/
theorem WA.read (f : ∀ (p : Program) (l : Launch) (e : Env) (R : Room) (s : State) (m : MethodId) (args : Array Value) (below : List Frame) (meth : Method) (c : Code) (H : Heap) (locs : List Loc) (cells slots : Nat) (Z : State → Prop) (la : Array Slot),
      CX G d y p l R s m meth c → Rep G h H → va_S (fun q => G.1.heap.size ≤ q) s.heap H locs → LH la y.2.2.1 ls → cells ≤ R.cells → slots ≤ R.slots → W p l e R s m args below meth c H locs cells slots Z (F0 m pc2 la st2) → W p l e R s m args below meth c H locs cells slots Z (F0 m pc la st))
    (k : WA G d y pc2 ls st2 h Q) : WA G d y pc ls st h Q :=
  WA.lift (fun r h' a => ⟨a.1, fun p l e R s m args below meth c H locs cells slots mc ms la C hR hS hL h1 h2 h3 h4 => f p l e R s m args below meth c H locs cells slots _ la C hR hS hL (by omega) (by omega) (a.2 p l e R s m args below meth c H locs cells slots mc ms la C hR hS hL h1 h2 h3 h4)⟩) k
theorem CR.kept {a k : Nat} {fs : List Value} {H H1 : Heap} (e : H1[a]? = H[a]?) (hc : CR G a k fs H) : CR G a k fs H1 := by
  unfold CR at hc ⊢
  split
  · rename_i hk
    rw [if_pos hk] at hc
    obtain ⟨h1, q, h2, h3, h4⟩ := hc
    exact ⟨h1, q, h2, h3, h4.kept e⟩
  · rename_i hk
    rw [if_neg hk] at hc
    split
    · rename_i hk
      rw [if_pos hk] at hc
      obtain ⟨h1, ty, h2, h3⟩ := hc
      exact ⟨h1, ty, h2, by rw [e]; exact h3⟩
    · rename_i hk
      rw [if_neg hk] at hc
      split
      · rename_i hk
        rw [if_pos hk] at hc
        obtain ⟨h1, ty, cell, h2, h3, h4⟩ := hc
        exact ⟨h1, ty, cell, h2, by rw [e]; exact h3, h4⟩
      · rename_i hk
        rw [if_neg hk] at hc
        split
        · rename_i hk
          rw [if_pos hk] at hc
          obtain ⟨h1, cell, h3, h4⟩ := hc
          exact ⟨h1, cell, by rw [e]; exact h3, h4⟩
        · rename_i hk
          rw [if_neg hk] at hc
          split
          · rename_i hk
            rw [if_pos hk] at hc
            obtain ⟨h1, C, cC, kC, h2, h3, h4, h5, h6⟩ := hc
            exact ⟨h1, C, cC, kC, h2, h3, h4, h5, by rw [e]; exact h6⟩
          · rename_i hk
            rw [if_neg hk] at hc
            exact hc
theorem CR.lt {a k : Nat} {fs : List Value} {H : Heap} (hc : CR G a k fs H) : a < H.size := by
  unfold CR at hc
  split at hc
  · obtain ⟨h1, q, h2, h3, cell, h4, -⟩ := hc
    exact (Array.getElem?_eq_some_iff.mp h4).1
  · split at hc
    · obtain ⟨h1, ty, h2, h4⟩ := hc
      exact (Array.getElem?_eq_some_iff.mp h4).1
    · split at hc
      · obtain ⟨h1, ty, cell, h2, h4, -⟩ := hc
        exact (Array.getElem?_eq_some_iff.mp h4).1
      · split at hc
        · obtain ⟨h1, cell, h4, -⟩ := hc
          exact (Array.getElem?_eq_some_iff.mp h4).1
        · split at hc
          · obtain ⟨h1, C, cC, kC, h2, h3, h4, h5, h6⟩ := hc
            exact (Array.getElem?_eq_some_iff.mp h6).1
          · exact hc.elim
/-- a step that writes a cell -/
theorem WA.write {a : Nat} {cn : AC} (f : ∀ (p : Program) (l : Launch) (e : Env) (R : Room) (s : State) (m : MethodId) (args : Array Value) (below : List Frame) (meth : Method) (c : Code) (H : Heap) (locs : List Loc) (cells slots : Nat) (Z : State → Prop) (la : Array Slot),
      CX G d y p l R s m meth c → Rep G h H → LH la y.2.2.1 ls → (∀ (H1 : Heap) (L : List Loc), (∀ z ∈ L, z.base = a) → H1.size = H.size → (∀ q : Nat, q ≠ a → H1[q]? = H[q]?) → G.1.heap.size ≤ a → CR G a cn.1 cn.2 H1 → W p l e R s m args below meth c H1 (locs ++ L) cells slots Z (F0 m pc2 la st2)) → W p l e R s m args below meth c H locs cells slots Z (F0 m pc la st))
    (k : WA G d y pc2 ls st2 (ah_upd h a cn) Q) : WA G d y pc ls st h Q :=
  WA.lift (h2 := ah_upd h a cn) (fun r h' k => ⟨k.1, fun p l e R s m args below meth c H locs cells slots mc ms la C hR hS hL h1 h2 h3 h4 => f p l e R s m args below meth c H locs cells slots _ la C hR hL fun H1 L hL1 z1 o1 ga hc => k.2 p l e R s m args below meth c H1 (locs ++ L) cells slots mc ms la C
    ⟨z1.trans hR.1, hR.2.1, fun q hq => (o1 q (by omega)).trans (hR.2.2.1 q hq), fun b k fs hb => by
      by_cases e : b = a
      · subst e
        rw [show (ah_upd h b cn).2.2 b = some cn from if_pos rfl] at hb
        cases hb
        exact hc
      · rw [show (ah_upd h a cn).2.2 b = h.2.2 b from if_neg e] at hb
        exact (hR.2.2.2 b k fs hb).kept (o1 b e)⟩
    ⟨by rw [z1]; exact hS.1, fun q hq hn => (o1 q (fun e => hn (by rw [e]; exact ga))).trans (hS.2.1 q hq hn), fun z hz => (List.mem_append.mp hz).elim (hS.2.2 z) (fun hz => by rw [hL1 z hz]; exact ga)⟩ hL h1 h2 h3 h4⟩) k
/-- the same, with the room -/
theorem WA.write2 {a : Nat} {cn : AC} (f : ∀ (p : Program) (l : Launch) (e : Env) (R : Room) (s : State) (m : MethodId) (args : Array Value) (below : List Frame) (meth : Method) (c : Code) (H : Heap) (locs : List Loc) (cells slots : Nat) (Z : State → Prop) (la : Array Slot),
      CX G d y p l R s m meth c → Rep G h H → va_S (fun q => G.1.heap.size ≤ q) s.heap H locs → LH la y.2.2.1 ls → cells ≤ R.cells → slots ≤ R.slots → (∀ (H1 : Heap) (L : List Loc), (∀ z ∈ L, z.base = a) → H1.size = H.size → (∀ q : Nat, q ≠ a → H1[q]? = H[q]?) → G.1.heap.size ≤ a → CR G a cn.1 cn.2 H1 → W p l e R s m args below meth c H1 (locs ++ L) cells slots Z (F0 m pc2 la st2)) → W p l e R s m args below meth c H locs cells slots Z (F0 m pc la st))
    (k : WA G d y pc2 ls st2 (ah_upd h a cn) Q) : WA G d y pc ls st h Q :=
  WA.lift (h2 := ah_upd h a cn) (fun r h' k => ⟨k.1, fun p l e R s m args below meth c H locs cells slots mc ms la C hR hS hL h1 h2 h3 h4 => f p l e R s m args below meth c H locs cells slots _ la C hR hS hL (by omega) (by omega) fun H1 L hL1 z1 o1 ga hc => k.2 p l e R s m args below meth c H1 (locs ++ L) cells slots mc ms la C
    ⟨z1.trans hR.1, hR.2.1, fun q hq => (o1 q (by omega)).trans (hR.2.2.1 q hq), fun b k fs hb => by
      by_cases e : b = a
      · subst e
        rw [show (ah_upd h b cn).2.2 b = some cn from if_pos rfl] at hb
        cases hb
        exact hc
      · rw [show (ah_upd h a cn).2.2 b = h.2.2 b from if_neg e] at hb
        exact (hR.2.2.2 b k fs hb).kept (o1 b e)⟩
    ⟨by rw [z1]; exact hS.1, fun q hq hn => (o1 q (fun e => hn (by rw [e]; exact ga))).trans (hS.2.1 q hq hn), fun z hz => (List.mem_append.mp hz).elim (hS.2.2 z) (fun hz => by rw [hL1 z hz]; exact ga)⟩ hL h1 h2 h3 h4⟩) k
/-- a step that makes a cell -/
theorem WA.make {kk nn : Nat} {fn : List Value} (f : ∀ (p : Program) (l : Launch) (e : Env) (R : Room) (s : State) (m : MethodId) (args : Array Value) (below : List Frame) (meth : Method) (c : Code) (H : Heap) (locs : List Loc) (cells slots : Nat) (Z : State → Prop) (la : Array Slot),
      CX G d y p l R s m meth c → Rep G h H → va_S (fun q => G.1.heap.size ≤ q) s.heap H locs → LH la y.2.2.1 ls → cells + 1 ≤ R.cells → slots + nn ≤ R.slots → H.size = h.1 → (∀ H1 : Heap, H1.size = h.1 + 1 → (∀ q : Nat, q < h.1 → H1[q]? = H[q]?) → CR G h.1 kk fn H1 → W p l e R s m args below meth c H1 locs (cells + 1) (slots + nn) Z (F0 m pc2 la st2)) → W p l e R s m args below meth c H locs cells slots Z (F0 m pc la st))
    (k : WA G d y pc2 ls st2 (ah_new h kk fn nn) Q) : WA G d y pc ls st h Q :=
  WA.lift (h2 := ah_new h kk fn nn) (fun r h' k => by
    have k1 : h.1 + 1 ≤ h'.1 := k.1.1
    have k2 : h.2.1 + nn ≤ h'.2.1 := k.1.2
    refine ⟨⟨by omega, by omega⟩, fun p l e R s m args below meth c H locs cells slots mc ms la C hR hS hL h1 h2 h3 h4 => f p l e R s m args below meth c H locs cells slots _ la C hR hS hL (by omega) (by omega) hR.1 fun H1 z1 o1 hc => k.2 p l e R s m args below meth c H1 locs (cells + 1) (slots + nn) mc ms la C ?_ ?_ hL ?_ ?_ h3 h4⟩
    · refine ⟨z1, Nat.le_succ_of_le hR.2.1, fun q hq => (o1 q (by have := hR.2.1; omega)).trans (hR.2.2.1 q hq), fun b k fs hb => ?_⟩
      by_cases e : b = h.1
      · subst e
        rw [show (ah_new h kk fn nn).2.2 h.1 = some (kk, fn) from if_pos rfl] at hb
        cases hb
        exact hc
      · rw [show (ah_new h kk fn nn).2.2 b = h.2.2 b from if_neg e] at hb
        have hcb := hR.2.2.2 b k fs hb
        exact hcb.kept (o1 b (by have := hcb.lt; have := hR.1; omega))
    · refine ⟨by have := hS.1; have := hR.1; omega, fun q hq hn => (o1 q (by have := hS.1; have := hR.1; omega)).trans (hS.2.1 q hq hn), hS.2.2⟩
    · show cells + 1 + (h'.1 - (h.1 + 1)) ≤ mc; omega
    · show slots + nn + (h'.2.1 - (h.2.1 + nn)) ≤ ms; omega) k
theorem LH.get {la : Array Slot} {nL : Nat} (hL : LH la nL ls) {i : Nat} {v : Value} (h : ls[i]? = some v) (hv : v ≠ .retAddr 0) : la[i]? = some (.val v) := hL.2.2 i v h hv
/-- a place may be forgotten -/
theorem WA.locals (hs : ∀ (i : Nat) (v : Value), ls2[i]? = some v → v = .retAddr 0 ∨ ls[i]? = some v) (k : WA G d y pc ls2 st h Q) : WA G d y pc ls st h Q :=
  WA.pure (fun p l e R s m args below meth c H locs cells slots Z la C hL K => K la ⟨hL.1, hL.2.1, fun i v h hv => (hs i v h).elim (fun e => absurd e hv) (fun e => hL.2.2 i v e hv)⟩) k
theorem CX.word {p : Program} {l : Launch} {R : Room} {s : State} {m : MethodId} {meth : Method} {c : Code} (C : CX G d y p l R s m meth c) {a : Array Value} {w : Cond} (hw : w ∈ lw_all) : w.before a s = true :=
  word_at C.2.2.2.2.2.2.2.2.2.2.2.1 (lw_self w hw).2 (C.2.2.2.2.2.2.2.2.2.1 w (lw_all_tbl hw))
theorem CX.K {p : Program} {l : Launch} {R : Room} {s : State} {m : MethodId} {meth : Method} {c : Code} (C : CX G d y p l R s m meth c) : va_K G.2.2.1 kl (tysG G) s :=
  va_K.moved C.2.2.2.2.2.2.2.2.2.2.2.1.alike C.2.2.2.2.2.2.2.2.2.2.1
theorem CX.own {p : Program} {l : Launch} {R : Room} {s : State} {m : MethodId} {meth : Method} {c : Code} (C : CX G d y p l R s m meth c) : s.vm.findClass y.1.cls = some m.cls := C.2.2.2.2.2.2.1
theorem CX.named {p : Program} {l : Launch} {R : Room} {s : State} {m : MethodId} {meth : Method} {c : Code} (C : CX G d y p l R s m meth c) : s.methodNamed? y.1 = some m := C.2.2.2.2.2.2.2.1.2
theorem CX.warm {p : Program} {l : Launch} {R : Room} {s : State} {m : MethodId} {meth : Method} {c : Code} (C : CX G d y p l R s m meth c) : G.1.WarmedH s.vm := C.2.2.2.2.2.2.2.2.2.2.2.1
theorem CX.tbl {p : Program} {l : Launch} {R : Room} {s : State} {m : MethodId} {meth : Method} {c : Code} (C : CX G d y p l R s m meth c) : ∀ w ∈ lw_tbl, w.before G.2.1 G.1 = true := C.2.2.2.2.2.2.2.2.2.1
theorem CX.room {p : Program} {l : Launch} {R : Room} {s : State} {m : MethodId} {meth : Method} {c : Code} (C : CX G d y p l R s m meth c) : d ≤ R.frames ∧ 100 * d ≤ R.locals := C.2.2.2.2.2.2.2.2.2.2.2.2.2.2.2
end COREL
