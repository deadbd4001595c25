/-! ===== rows over WA: returns, throws, calls ===== -/
def headW (y : MD) : Cond := match y.2.2.2.2 with
  | [] => .code y.1 y.2.1 y.2.2.1 y.2.2.2.1
  | q :: qs => .codeWith y.1 y.2.1 y.2.2.1 y.2.2.2.1 (q :: qs)
theorem headW_named {y : MD} {a : Array Value} {s : State} (h : (headW y).before a s = true) : ∃ m, s.methodNamed? y.1 = some m := by
  unfold headW at h
  split at h
  · exact Cond.code_named h
  · obtain ⟨m, meth, c, h1, -⟩ := Cond.codeWith_spec h
    exact ⟨m, h1⟩
theorem headW_spec {y : MD} {a : Array Value} {s : State} {m : MethodId} (hn : s.methodNamed? y.1 = some m) (h : (headW y).before a s = true) : ∃ meth c, s.vm.method? m = some meth ∧ meth.code = some c ∧ c.code = y.2.1 ∧ c.maxLocals = y.2.2.1 ∧ meth.sig.returnType = y.2.2.2.1 ∧ meth.locks = false ∧ c.exceptionTable.toList = tableOf y.2.2.2.2 ∧ parseMethodDescriptor y.1.desc = some meth.sig := by
  unfold headW at h
  split at h
  · rename_i e
    obtain ⟨meth, c, h1, h2, h3, h4, h5, h6, h7, h8⟩ := Cond.code_spec hn h
    exact ⟨meth, c, h1, h2, h3, h4, h5, h6, by rw [Array.isEmpty_iff.mp h7, e]; rfl, h8⟩
  · rename_i q qs e
    obtain ⟨m9, meth, c, h0, h1, h2, h3, h4, h7, h5, h6, h8⟩ := Cond.codeWith_spec h
    cases Option.some.inj (h0.symm.trans hn)
    exact ⟨meth, c, h1, h2, h3, h4, h5, h6, by rw [e, ← h7, table_eq], h8⟩
theorem W.imp {p : Program} {l : Launch} {e : Env} {R : Room} {s : State} {m : MethodId} {args : Array Value} {below : List Frame} {meth : Method} {c : Code} {H : Heap} {locs : List Loc} {cells slots : Nat} {Z Z2 : State → Prop} {g : JFrame} (f : ∀ t, Z t → Z2 t) (k : W p l e R s m args below meth c H locs cells slots Z g) : W p l e R s m args below meth c H locs cells slots Z2 g := fun T hT X => by
  obtain ⟨t, a, b⟩ := k T hT X
  exact ⟨t, a, f t b⟩
section RET
variable {G : GG} {d : Nat} {y : MD} {pc : Nat} {ls st : List Value} {h : AH} {Q : RR → AH → Prop}
theorem ret_end {p : Program} {l : Launch} {e : Env} {R : Room} {s : State} {m : MethodId} {args : Array Value} {below : List Frame} {meth : Method} {c : Code} {H : Heap} {locs : List Loc} {cells slots mc ms : Nat} {v : Option Value} {g : JFrame} (h1 : cells ≤ mc) (h2 : slots ≤ ms)
    (k : W p l e R s m args below meth c H locs cells slots (MQ below (fun _ _ o t => Rep G h t.heap ∧ o = .returned v) args s cells slots (fun q => G.1.heap.size ≤ q)) g) : W p l e R s m args below meth c H locs cells slots (xQ G below s mc ms (.inl v) h) g := by
  refine W.imp (fun t ht => ?_) k
  obtain ⟨o, b1, b2, ⟨b3, b4⟩, L, ⟨-, b6, b7⟩, b8⟩ := ht
  exact ⟨o, b1, b2, b6, ⟨L, b7.mono h1 h2, b8⟩, b3, Or.inl ⟨v, rfl, b4⟩⟩
theorem wa_ireturn {v : Int32} (ty : FieldType) (hd : decode y.2.1 pc = .ok (.ireturn, 1)) (hr : y.2.2.2.1 = some ty) (hn : narrow ty (.int v) = .int v) (hQ : Q (.inl (some (.int v))) h) : WA G d y pc ls [.int v] h Q :=
  ⟨_, _, ⟨⟨Nat.le_refl _, Nat.le_refl _⟩, fun p l e R s m args below meth c H locs cells slots mc ms la C hR hS hL h1 h2 h3 h4 => ret_end (by omega) (by omega) (W.zret C.1 C.2.1 (C.2.2.2.1.trans hr) hn (fun t ht _ => ⟨by rw [ht]; exact hR, rfl⟩) hS.2.2 hd C.2.2.2.2.2.1)⟩, hQ⟩
theorem wa_areturn {v : Value} (ty : FieldType) (hd : decode y.2.1 pc = .ok (.areturn, 1)) (hr : y.2.2.2.1 = some ty) (ht9 : (∃ n, ty = .object n) ∨ ∃ t, ty = .array t) (hv : v = .null ∨ ∃ a, v = .ref a) (hQ : Q (.inl (some v)) h) : WA G d y pc ls [v] h Q :=
  ⟨_, _, ⟨⟨Nat.le_refl _, Nat.le_refl _⟩, fun p l e R s m args below meth c H locs cells slots mc ms la C hR hS hL h1 h2 h3 h4 => ret_end (by omega) (by omega) (W.aret C.1 C.2.1 (C.2.2.2.1.trans hr) ht9 hv (fun t ht _ => ⟨by rw [ht]; exact hR, rfl⟩) hS.2.2 hd C.2.2.2.2.2.1)⟩, hQ⟩
theorem wa_dreturn {v : UInt64} (hd : decode y.2.1 pc = .ok (.dreturn, 1)) (hr : y.2.2.2.1 = some .double) (hQ : Q (.inl (some (.double v))) h) : WA G d y pc ls [.double v] h Q :=
  ⟨_, _, ⟨⟨Nat.le_refl _, Nat.le_refl _⟩, fun p l e R s m args below meth c H locs cells slots mc ms la C hR hS hL h1 h2 h3 h4 => ret_end (by omega) (by omega) (W.dret C.1 C.2.1 (C.2.2.2.1.trans hr) (fun t ht _ => ⟨by rw [ht]; exact hR, rfl⟩) hS.2.2 hd C.2.2.2.2.2.1)⟩, hQ⟩
theorem wa_return (hd : decode y.2.1 pc = .ok (.return_, 1)) (hr : y.2.2.2.1 = none) (hQ : Q (.inl none) h) : WA G d y pc ls [] h Q :=
  ⟨_, _, ⟨⟨Nat.le_refl _, Nat.le_refl _⟩, fun p l e R s m args below meth c H locs cells slots mc ms la C hR hS hL h1 h2 h3 h4 => ret_end (by omega) (by omega) (W.vret C.1 C.2.1 (C.2.2.2.1.trans hr) (fun t ht _ => ⟨by rw [ht]; exact hR, rfl⟩) hS.2.2 hd C.2.2.2.2.2.1)⟩, hQ⟩
/-- an object's class -/
theorem Rep.recv {H : Heap} {p : Program} {l : Launch} {R : Room} {s : State} {m : MethodId} {meth : Method} {c : Code} (C : CX G d y p l R s m meth c) (hR : Rep G h H) {a k : Nat} {fs : List Value} {q : vw_C} (hc : h.2.2 a = some (k, fs)) (hk : kl[k]? = some q) : ∃ cell : Cell, H[a]? = some cell ∧ cell.vm = .none ∧ s.vm.findClass q.1 = some cell.cls := by
  obtain ⟨r, h1, cell, q1, q2, q3, -⟩ := (hR.obj hc hk).2.2 0 _ rfl
  exact ⟨cell, q1, q3, by rw [q2]; exact (C.K.1 k _ hk).2.1⟩
/-- thrown here: out of the method -/
theorem wax_out {a k : Nat} {fs : List Value} {q : vw_C} (hc : h.2.2 a = some (k, fs)) (hk : kl[k]? = some q)
    (hpass : ∀ z ∈ tableOf y.2.2.2.2, covers z pc = false ∨ (z.catchType ≠ 0 ∧ ∃ nm : String, Cond.classLink y.1.cls z.catchType nm ∈ lw_all ∧ Cond.not (.castable q.1 nm) ∈ flatC (Cond.and given_1 narrow_1))) (hQ : Q (.inr a) h) : WAX G d y pc ls a h Q :=
  ⟨_, _, ⟨⟨Nat.le_refl _, Nat.le_refl _⟩, fun p l e R s m args below meth c H locs cells slots mc ms la st C hR hS hL h1 h2 h3 h4 => by
    obtain ⟨ce, hcell, hv, hcl⟩ := hR.recv C hc hk
    intro T hT X
    have hpl : e.platform.magicAccessors = ({} : Platform).magicAccessors := by rw [X.admits.platform]
    obtain ⟨vm', hW', X', st9⟩ := X.outThrough C.2.2.2.2.2.1 a (g := F0 m pc la st) rfl rfl rfl (cell := ce) (by rw [hT]; exact hcell) (by rw [hv]; rfl)
      (by obtain ⟨k9, h9, -⟩ := Vm.findClass_spec hcl; exact ⟨k9, h9⟩) (fun z hz => by
        rcases hpass z (by rw [← C.2.2.2.2.1]; exact hz) with h | ⟨hz0, nm, hl1, hn1⟩
        · exact Or.inl h
        · obtain ⟨c6, hc6, hcl6⟩ := Cond.classLink_spec C.own (C.word (a := args) hl1) e.platform hpl
          obtain ⟨a8, b8, h1, h2, h3⟩ := va_Nc.moved C.warm.alike (va_Nc.of (flat_of_before _ C.2.2.2.2.2.2.2.2.2.2.2.2.2.2.1 _ hn1))
          cases Option.some.inj (h1.symm.trans hcl)
          cases Option.some.inj (h2.symm.trans hc6)
          exact Or.inr ⟨hz0, _, hcl6, h3⟩)
    obtain ⟨g₀, hfr⟩ := X'.frames_eq
    have hend : Ended ((T.setVm vm').setFrames (.throwing a :: below)) below (.threw a) := State.frames_setFrames _ (State.cur_lt_of_frames hfr)
    refine ⟨(T.setVm vm').setFrames (.throwing a :: below), ?_, .threw a, X'.here.running, hend, (X'.ends _).1, ⟨locs, (X'.ends _).2.mono (by omega) (by omega), hS.2.2⟩, by show Rep G h T.heap; rw [hT]; exact hR, Or.inr ⟨a, rfl, rfl⟩⟩
    rw [X.pushThrowing_eq]
    exact st9⟩, hQ⟩
/-- thrown here: caught by the row x of the method's table -/
theorem wax_catch {a k : Nat} {fs : List Value} {q : vw_C} (name : String) (pre : List (Nat × Nat × Nat × Nat)) (x : Nat × Nat × Nat × Nat) (suf : List (Nat × Nat × Nat × Nat)) (hc : h.2.2 a = some (k, fs)) (hk : kl[k]? = some q) (hsplit : y.2.2.2.2 = pre ++ x :: suf)
    (hpass : ∀ z ∈ tableOf pre, covers z pc = false ∨ (z.catchType ≠ 0 ∧ ∃ nm : String, Cond.classLink y.1.cls z.catchType nm ∈ lw_all ∧ Cond.not (.castable q.1 nm) ∈ flatC (Cond.and given_1 narrow_1))) (hx : covers ⟨x.1, x.2.1, x.2.2.1, x.2.2.2⟩ pc = true) (h0 : x.2.2.2 ≠ 0)
    (hlink : Cond.classLink y.1.cls x.2.2.2 name ∈ lw_all) (hcast : Cond.castable q.1 name ∈ lw_tbl) (kk : WA G d y x.2.2.1 ls [.ref a] h Q) : WAX G d y pc ls a h Q := by
  obtain ⟨r, h', k9, hQ⟩ := kk
  refine ⟨r, h', ⟨k9.1, fun p l e R s m args below meth c H locs cells slots mc ms la st C hR hS hL h1 h2 h3 h4 => ?_⟩, hQ⟩
  obtain ⟨ce, hcell, hv, hcl⟩ := hR.recv C hc hk
  exact vx_catch (name := name) C.own (tableOf pre) ⟨x.1, x.2.1, x.2.2.1, x.2.2.2⟩ (tableOf suf) (by rw [C.2.2.2.2.1, hsplit]; simp [tableOf])
    (fun z hz => (hpass z hz).imp_right fun ⟨hz0, nm, hl1, hn1⟩ => ⟨hz0, nm, C.word hl1, va_Nc.moved C.warm.alike (va_Nc.of (flat_of_before _ C.2.2.2.2.2.2.2.2.2.2.2.2.2.2.1 _ hn1))⟩) hx h0
    (C.word hlink) (va_Nw.use rfl (va_Nw.warmC C.warm (va_Nw.of rfl (C.tbl _ hcast)))) hcell hv hcl (k9.2 p l e R s m args below meth c H locs cells slots mc ms la C hR hS hL h1 h2 h3 h4)
theorem wa_athrow {a : Nat} (hd : decode y.2.1 pc = .ok (.athrow, 1)) (kk : WAX G d y pc ls a h Q) : WA G d y pc ls (.ref a :: st) h Q := by
  obtain ⟨r, h', k9, hQ⟩ := kk
  exact ⟨r, h', ⟨k9.1, fun p l e R s m args below meth c H locs cells slots mc ms la C hR hS hL h1 h2 h3 h4 => vx_athrow C.1 C.2.1 hd (k9.2 p l e R s m args below meth c H locs cells slots mc ms la st C hR hS hL h1 h2 h3 h4)⟩, hQ⟩
end RET
section CALLS
/-! what a call asks and gives back -/
def xPre (G : GG) (h : AH) (as : List Value) (R : Room) (mc ms : Nat) : Pt → Array Value → Prop := fun A a => a = as.toArray ∧ Rep G h A.U.heap ∧ A.cells + mc ≤ R.cells ∧ A.slots + ms ≤ R.slots
def xPost (G : GG) (r : RR) (h' : AH) (mc ms : Nat) : Pt → Array Value → Option Value → Pt → Prop := fun A _ v B => r = .inl v ∧ Rep G h' B.U.heap ∧ ∃ L : List Loc, B.locs = A.locs ++ L ∧ (∀ z ∈ L, G.1.heap.size ≤ z.base) ∧ B.cells = A.cells + mc ∧ B.slots = A.slots + ms
def xPostX (G : GG) (r : RR) (h' : AH) (mc ms : Nat) : Pt → Array Value → Addr → Pt → Prop := fun A _ q B => r = .inr q ∧ Rep G h' B.U.heap ∧ ∃ L : List Loc, B.locs = A.locs ++ L ∧ (∀ z ∈ L, G.1.heap.size ≤ z.base) ∧ B.cells = A.cells + mc ∧ B.slots = A.slots + ms
theorem ent_at : ∀ (vs : List Value) (i : Nat) (v : Value), (vs.flatMap fun v => if v.category = 2 then [v, Value.retAddr 0] else [v])[i]? = some v → v ≠ .retAddr 0 → (lg_sl vs)[i]? = some (.val v)
  | [], i, v, h, _ => by simp at h
  | u :: us, i, v, h, hv => by
    have ih := ent_at us
    by_cases hc : u.category = 2
    · simp only [List.flatMap_cons, if_pos hc, lg_sl] at h ⊢
      match i, h with
      | 0, h => simp at h; simp [h]
      | 1, h => simp at h; exact absurd h.symm hv
      | j + 2, h =>
        simp only [List.cons_append, List.nil_append, List.getElem?_cons_succ] at h ⊢
        exact ih j v h hv
    · simp only [List.flatMap_cons, if_neg hc, lg_sl] at h ⊢
      match i, h with
      | 0, h => simp at h; simp [h]
      | j + 1, h =>
        simp only [List.cons_append, List.nil_append, List.getElem?_cons_succ] at h ⊢
        exact ih j v h hv
theorem LH.entry {as : List Value} {n : Nat} (hlen : (lg_sl as).length ≤ n) : LH ((lg_sl as ++ List.replicate (n - (lg_sl as).length) Slot.unset).toArray) n (entL as n) := by
  have h0 := lv_entry as hlen
  refine ⟨h0.1, h0.2.1, fun i v hi hv => ?_⟩
  unfold entL at hi
  rw [List.getElem?_toArray]
  by_cases hl : i < (as.flatMap fun v => if v.category = 2 then [v, Value.retAddr 0] else [v]).length
  · rw [List.getElem?_append_left hl] at hi
    have h1 := ent_at as i v hi hv
    rw [List.getElem?_append_left (List.getElem?_eq_some_iff.mp h1).1]
    exact h1
  · rw [List.getElem?_append_right (by omega)] at hi
    have := List.eq_of_mem_replicate (List.mem_of_getElem? hi)
    exact absurd this hv
theorem xx_back {G : GG} {d d2 : Nat} {y y2 : MD} {as : List Value} {h h' : AH} {r : RR} (hM : EX G d2 y2 0 (entL as y2.2.2.1) [] h r h') (hpl : plainFor y2.1 = true) (hlen : (lg_sl as).length ≤ y2.2.2.1) (hcode : headW y2 ∈ lw_all) (hini : Cond.initialized y2.1.cls ∈ lw_all)
    {p : Program} {l : Launch} {e : Env} {R : Room} {s : State} {m₀ : MethodId} {sargs : Array Value} {below : List Frame} {meth₀ : Method} {c₀ : Code} (C : CX G d y p l R s m₀ meth₀ c₀) (hd : d2 < d) (hmL : y2.2.2.1 ≤ 80) {len : Nat} :
    vx_Back l R p e below s sargs y2.1 len 8 (xPre G h as R (h'.1 - h.1) (h'.2.1 - h.2.1)) (xPost G r h' (h'.1 - h.1) (h'.2.1 - h.2.1)) (xPostX G r h' (h'.1 - h.1) (h'.2.1 - h.2.1)) := by
  generalize hmc : h'.1 - h.1 = mc
  generalize hms : h'.2.1 - h.2.1 = ms
  have hMF : MetFree l y2.1 (headSpec (headW y2 :: lw_all) { frames := d2, cells := mc, slots := ms, locals := 100 * d2 }) (fun a U => a = as.toArray ∧ Rep G h U.heap ∧ G.1.WarmedH U.vm) (fun _ _ _ _ _ => True) (fun _ st o t => xP G r h' mc ms st o t) := by
    refine MetFree.of_bodySF (code := y2.2.1) (maxLocals := y2.2.2.1) (ret := y2.2.2.2.1) hpl ?_ ?_
    · intro args s m h hn
      obtain ⟨meth, c, h1, h2, h3, h4, h5, h6, -, -⟩ := headW_spec hn (atoms_spec (ws := headW y2 :: lw_all) h _ List.mem_cons_self)
      exact ⟨meth, c, h1, h2, h3, h4, h5, h6⟩
    · intro p e s m args below meth c s₁ B hml hP _
      obtain ⟨rfl, hRep, hWm⟩ := hP
      have hh0 : s₁.heap = s.heap := by rw [B.state]; rfl
      have ht : c.exceptionTable.toList = tableOf y2.2.2.2.2 := by
        obtain ⟨meth9, c9, h1, h2, -, -, -, -, h7, -⟩ := headW_spec B.named (atoms_spec (ws := headW y2 :: lw_all) B.pre _ List.mem_cons_self)
        cases Option.some.inj (h1.symm.trans B.method)
        cases Option.some.inj (h2.symm.trans (Stand.of_body B).code)
        exact h7
      have CC : CX G d2 y2 p l (headSpec (headW y2 :: lw_all) { frames := d2, cells := mc, slots := ms, locals := 100 * d2 }).room s m meth c :=
        ⟨B.exec, B.bytes, hml, B.returns, ht, B.notSynchronized, findClass_of_methodNamed B.named, ⟨(name_of_methodNamed B.named B.method).1, B.named⟩, C.2.2.2.2.2.2.2.2.1, C.tbl, C.2.2.2.2.2.2.2.2.2.2.1, hWm, by rw [hRep.1]; exact hRep.2.1, hRep.2.2.1, C.2.2.2.2.2.2.2.2.2.2.2.2.2.2.1, Nat.le_refl _, Nat.le_refl _⟩
      have K := hM.2 p l e _ s m as.toArray below meth c s.heap [] 0 0 mc ms _ CC hRep va_S.rf (LH.entry hlen) (by rw [hmc]; omega) (by rw [hms]; omega) (Nat.le_refl _) (Nat.le_refl _)
      rw [← lg_entry_eq] at K
      obtain ⟨t, a1, o, b1, b2, b3⟩ := K s₁ hh0 (Stand.of_body B)
      exact ⟨t, o, a1, b1, b2, b3⟩
  intro m meth c A g ig mk a X hg hsize hdg hW hn hp
  obtain ⟨ha, hRep, hpc, hps⟩ := hp
  have hWG : G.1.WarmedH A.U.vm := State.WarmedH.trans C.warm X.warmed
  have hat : ∀ w ∈ lw_all, w.before a A.U = true := fun w hw => word_at hWG (lw_self w hw).2 (C.tbl w (lw_all_tbl hw))
  have h1 : (headSpec (headW y2 :: lw_all) { frames := d2, cells := mc, slots := ms, locals := 100 * d2 }).pre.before a A.U = true := atoms_intro fun w hw => (List.mem_cons.mp hw).elim (fun e => by rw [e]; exact hat _ hcode) (hat w)
  have h2 : (headW y2).before a A.U = true := hat _ hcode
  have h3 : (Cond.initialized y2.1.cls).before a A.U = true := hat _ hini
  have hroom := C.room
  obtain ⟨U, Ls, c0, s0⟩ := A
  dsimp only [Pt.U, Pt.locs, Pt.cells, Pt.slots] at h1 h2 h3 hpc hps hRep X hn hWG ⊢
  have hPc : (fun (a : Array Value) (U : State) => a = as.toArray ∧ Rep G h U.heap ∧ G.1.WarmedH U.vm) a (U.calling g mk a) := ⟨ha, hRep, hWG⟩
  obtain ⟨methY, cY, hmY, hcY, -, hlY, -, -, -, -⟩ := headW_spec hn h2
  obtain ⟨kY, hkY, -⟩ := className_of_methodNamed hn
  have hinitY : kY.init = .initialized := Cond.initialized_spec (findClass_of_methodNamed hn) hkY h3
  have h : At U g.method c below := by rw [hg]; exact X.here
  have happ : (headSpec (headW y2 :: lw_all) { frames := d2, cells := mc, slots := ms, locals := 100 * d2 }).appliesLoose y2.1 e.platform (U.calling g mk a) = true :=
    Spec.appliesLoose_calling (g := g) h hdg hn hkY hinitY
      (X.room_calling (g := g) (R' := (headSpec (headW y2 :: lw_all) { frames := d2, cells := mc, slots := ms, locals := 100 * d2 }).room) hsize hmY hcY (show d2 + 1 ≤ R.frames by omega) (by rw [hlY]; show _ + 100 * d2 ≤ _; omega) hpc hps) h1
  obtain ⟨mid, hmid⟩ := h.above
  have hfr : (U.setTop g).frames = (.java g :: mid) ++ below := by rw [State.frames_setTop' g h.top, hmid]; rfl
  obtain ⟨o, s₂, hsteps, -, hend, hq⟩ := Steps.callFree hMF p X.admits X.cas X.clock (acts := []) hfr happ hPc trivial
  obtain ⟨hW₂, ⟨L, hsm, hL⟩, hRep₂, ho⟩ := (show xP G r h' mc ms (U.calling g mk a) o s₂ from hq)
  rw [State.frames_setTop' g h.top] at hend
  obtain ⟨g₀, hg0⟩ := Option.isSome_iff_exists.mp h.top
  obtain ⟨r9, hr⟩ := State.topJava?_eq_some.mp hg0
  have hr' : (({ U with heap := s₂.heap, slotsUsed := s₂.slotsUsed } : State).setVm s₂.vm).frames = .java g₀ :: r9 := hr
  obtain ⟨e2, q2, q3, q4, q5, q6⟩ := id hsm
  have e3 : s₂ = ({ (U.calling g mk a).setFrames s₂.frames with heap := s₂.heap, slotsUsed := s₂.slotsUsed } : State).setVm s₂.vm := by
    have : s₂ = ({ s₂ with vm := (U.calling g mk a).vm } : State).setVm s₂.vm := rfl
    rw [e2] at this
    exact this
  have hW' : U.WarmedH s₂.vm := hW₂
  have hsame : U.sameButNew ({ U with heap := s₂.heap, slotsUsed := s₂.slotsUsed } : State) L mc ms := by
    refine ⟨?_, q2, q3, q4, q5, q6⟩
    obtain ⟨t, ht, -⟩ := State.frames_cons hr
    show ({ U with heap := s₂.heap, slotsUsed := s₂.slotsUsed } : State) = { U.setFrames U.frames with heap := s₂.heap, slotsUsed := s₂.slotsUsed }
    rw [State.setFrames_self ht]
  rcases ho with ⟨v, er, rfl⟩ | ⟨q, er, rfl⟩
  · obtain ⟨c₂, i₂, len₂, hc₂, hd₂, hf₂⟩ := hend
    have hcc : c₂ = c := by
      have h1 : s₂.code? g.method = U.code? g.method := by
        rw [State.code?_eq, State.code?_eq, hW'.alike.method?]
      exact Option.some.inj (hc₂.symm.trans (h1.trans h.code))
    subst hcc
    have hlen : len₂ = len := by rw [hdg] at hd₂; cases hd₂; rfl
    subst hlen
    have hs₂ : s₂ = (({ U with heap := s₂.heap, slotsUsed := s₂.slotsUsed } : State).setVm s₂.vm).setTop { g with pc := g.pc + len₂, stack := v.toList ++ g.stack } := by
      refine e3.trans ?_
      rw [hf₂, State.calling_eq h.top, State.setFrames_setFrames, State.setTop_of_frames _ hr', hr]
      rfl
    subst hg
    refine Or.inl ⟨v, ⟨(({ U with heap := s₂.heap, slotsUsed := s₂.slotsUsed } : State).setVm s₂.vm), Ls ++ L, c0 + mc, s0 + ms⟩,
      ⟨X.admits, X.cas, X.clock, X.frames, X.room, X.hears, X.method, X.code, (X.here.setHeapUsed s₂.heap s₂.slotsUsed).setVm hW'.alike, X.tail, State.WarmedH.trans X.warmed hW', X.limits, X.bytes, X.same.trans (hsame.setVm s.vm)⟩,
      ⟨er, hRep₂, L, rfl, hL, rfl, rfl⟩, ?_⟩
    show Steps p.tables e below _ ((({ U with heap := s₂.heap, slotsUsed := s₂.slotsUsed } : State).setVm s₂.vm).setTop { g with pc := g.pc + len₂, stack := v.toList ++ g.stack })
    rw [← hs₂]
    exact hsteps
  · have hf₂ : s₂.frames = .throwing q :: .java g :: U.frames.tail := hend
    have hs₂ : s₂ = ((({ U with heap := s₂.heap, slotsUsed := s₂.slotsUsed } : State).setVm s₂.vm).setTop g).pushFrame (.throwing q) := by
      refine e3.trans ?_
      rw [hf₂, State.calling_eq h.top, State.setFrames_setFrames, State.pushFrame, State.frames_setTop _ hr', State.setTop_of_frames _ hr', State.setFrames_setFrames, hr]
      rfl
    subst hg
    refine Or.inr ⟨q, ⟨(({ U with heap := s₂.heap, slotsUsed := s₂.slotsUsed } : State).setVm s₂.vm), Ls ++ L, c0 + mc, s0 + ms⟩,
      ⟨X.admits, X.cas, X.clock, X.frames, X.room, X.hears, X.method, X.code, (X.here.setHeapUsed s₂.heap s₂.slotsUsed).setVm hW'.alike, X.tail, State.WarmedH.trans X.warmed hW', X.limits, X.bytes, X.same.trans (hsame.setVm s.vm)⟩,
      ⟨er, hRep₂, L, rfl, hL, rfl, rfl⟩, ?_⟩
    show Steps p.tables e below _ (((({ U with heap := s₂.heap, slotsUsed := s₂.slotsUsed } : State).setVm s₂.vm).setTop g).pushFrame (.throwing q))
    rw [← hs₂]
    exact hsteps
/-- behind a call -/
abbrev AFT (G : GG) (d : Nat) (y : MD) (pc n : Nat) (ls st : List Value) (Q : RR → AH → Prop) : RR → AH → Prop := fun r h => match r with
  | .inl v => WA G d y (pc + n) ls (v.toList ++ st) h Q
  | .inr q => WAX G d y pc ls q h Q
section
variable {G : GG} {d d2 : Nat} {y y2 : MD} {pc n : Nat} {ls st st0 as : List Value} {h : AH} {Q Q1 : RR → AH → Prop}
/-- a call: by any law of the machine that ends in the two ways -/
theorem WA.call (M : MA G d2 y2 as h Q1)
    (f : ∀ (r : RR) (h' : AH), EX G d2 y2 0 (entL as y2.2.2.1) [] h r h' → ∀ (p : Program) (l : Launch) (e : Env) (R : Room) (s : State) (m : MethodId) (args : Array Value) (below : List Frame) (meth : Method) (c : Code) (T : State) (locs : List Loc) (cells slots : Nat) (la : Array Slot),
      CX G d y p l R s m meth c → Rep G h T.heap → LH la y.2.2.1 ls → Stand p l e R s m args below meth c T locs cells slots → cells + (h'.1 - h.1) ≤ R.cells → slots + (h'.2.1 - h.2.1) ≤ R.slots →
      (∃ (v : Option Value) (vm₁ : Vm) (B : Pt), s.WarmedH vm₁ ∧ Stand p l e R s m args below meth c B.U B.locs B.cells B.slots ∧ xPost G r h' (h'.1 - h.1) (h'.2.1 - h.2.1) ⟨T.setVm vm₁, locs, cells, slots⟩ as.toArray v B ∧
        ∀ target, Steps p.tables e below (B.U.setTop (F0 m (pc + n) la (v.toList ++ st))) target → Steps p.tables e below (T.setTop (F0 m pc la st0)) target) ∨
      (∃ (q : Addr) (vm₁ : Vm) (B : Pt), s.WarmedH vm₁ ∧ Stand p l e R s m args below meth c B.U B.locs B.cells B.slots ∧ xPostX G r h' (h'.1 - h.1) (h'.2.1 - h.2.1) ⟨T.setVm vm₁, locs, cells, slots⟩ as.toArray q B ∧
        Steps p.tables e below (T.setTop (F0 m pc la st0)) ((B.U.setTop (F0 m pc la st)).pushFrame (.throwing q))))
    (k : ∀ r h', h.1 ≤ h'.1 → h.2.1 ≤ h'.2.1 → Q1 r h' → AFT G d y pc n ls st Q r h') : WA G d y pc ls st0 h Q := by
  obtain ⟨r, h', hM, hQ1⟩ := M
  have K := k r h' hM.1.1 hM.1.2 hQ1
  have m1 := hM.1.1
  have m2 := hM.1.2
  cases r with
  | inl v =>
    obtain ⟨r2, h2, K1, K2⟩ := (show WA G d y (pc + n) ls (v.toList ++ st) h' Q from K)
    have n1 := K1.1.1
    have n2 := K1.1.2
    refine ⟨r2, h2, ⟨⟨by omega, by omega⟩, fun p l e R s m args below meth c H locs cells slots mc ms la C hR hS hL h1 h2 h3 h4 => ?_⟩, K2⟩
    intro T hT X
    subst hT
    rcases f _ h' hM p l e R s m args below meth c T locs cells slots la C hR hL X (by omega) (by omega) with ⟨v9, vm₁, B, hW₁, X', ⟨er, hRep, L, e1, e2, e3, e4⟩, st9⟩ | ⟨q, vm₁, B, hW₁, X', ⟨er, -⟩, -⟩
    · cases er
      obtain ⟨U', l2, c2, s2⟩ := B
      dsimp only [Pt.U, Pt.locs, Pt.cells, Pt.slots] at X' e1 e3 e4 st9 hRep
      subst e1; subst e3; subst e4
      obtain ⟨t, a1, b1⟩ := K1.2 p l e R s m args below meth c U'.heap (locs ++ L) _ _ mc ms la C hRep ⟨by
          have := hS.1
          have e5 := hR.1
          have e6 := hRep.1
          omega, fun q hq hn => by
          have hq2 : q < G.1.heap.size := Nat.not_le.mp hn
          rw [hRep.2.2.1 q hq2, C.2.2.2.2.2.2.2.2.2.2.2.2.2.1 q hq2], fun z hz => (List.mem_append.mp hz).elim (hS.2.2 z) (e2 z)⟩ hL (by omega) (by omega) h3 h4 U' rfl X'
      exact ⟨t, st9 t a1, b1⟩
    · cases er
  | inr q =>
    obtain ⟨r2, h2, K1, K2⟩ := (show WAX G d y pc ls q h' Q from K)
    have n1 := K1.1.1
    have n2 := K1.1.2
    refine ⟨r2, h2, ⟨⟨by omega, by omega⟩, fun p l e R s m args below meth c H locs cells slots mc ms la C hR hS hL h1 h2 h3 h4 => ?_⟩, K2⟩
    intro T hT X
    subst hT
    rcases f _ h' hM p l e R s m args below meth c T locs cells slots la C hR hL X (by omega) (by omega) with ⟨v9, vm₁, B, hW₁, X', ⟨er, -⟩, -⟩ | ⟨q9, vm₁, B, hW₁, X', ⟨er, hRep, L, e1, e2, e3, e4⟩, st9⟩
    · cases er
    · cases er
      obtain ⟨U', l2, c2, s2⟩ := B
      dsimp only [Pt.U, Pt.locs, Pt.cells, Pt.slots] at X' e1 e3 e4 st9 hRep
      subst e1; subst e3; subst e4
      obtain ⟨t, a1, b1⟩ := K1.2 p l e R s m args below meth c U'.heap (locs ++ L) _ _ mc ms la st C hRep ⟨by
          have := hS.1
          have e5 := hR.1
          have e6 := hRep.1
          omega, fun q hq hn => by
          have hq2 : q < G.1.heap.size := Nat.not_le.mp hn
          rw [hRep.2.2.1 q hq2, C.2.2.2.2.2.2.2.2.2.2.2.2.2.1 q hq2], fun z hz => (List.mem_append.mp hz).elim (hS.2.2 z) (e2 z)⟩ hL (by omega) (by omega) h3 h4 U' rfl X'
      exact ⟨t, st9.trans a1, b1⟩
end
/-- what every call asks of the callee's descriptor *and* of the method called -/
def callOK (y2 : MD) (n : Nat) : Prop := plainFor y2.1 = true ∧ headW y2 ∈ lw_all ∧ Cond.initialized y2.1.cls ∈ lw_all ∧ y2.2.2.1 ≤ 80 ∧ (parseMethodDescriptor y2.1.desc).map (fun d => d.parameters.length) = some n ∧ (y2.1.cls ≠ "java/lang/invoke/MethodHandle" ∧ y2.1.cls ≠ "java/lang/invoke/VarHandle")
theorem callOK.len {y2 : MD} {n : Nat} (h : callOK y2 n) : ∀ sig, parseMethodDescriptor y2.1.desc = some sig → n = sig.parameters.length := fun sig e => by
  have h2 := h.2.2.2.2.1
  rw [e] at h2
  exact (Option.some.inj h2).symm
section
variable {G : GG} {d d2 : Nat} {y y2 : MD} {pc n idx : Nat} {ls rest as : List Value} {h : AH} {Q Q1 : RR → AH → Prop}
/-- invokevirtual (of a method found under its own name), or a private one -/
theorem wa_callV {b k : Nat} {fs : List Value} {q : vw_C} {st0 : List Value} (M : MA G d2 y2 (.ref b :: as) h Q1) (hd : decode y.2.1 pc = .ok (.invokevirtual idx, 3)) (ok : callOK y2 n) (hl : Cond.methodLink y.1.cls idx y2.1 ∈ lw_all) (hinst : Cond.instanceMethod y2.1 ∈ lw_all) (hsel : Cond.selects q.1 y2.1 y2.1 ∈ lw_all) (hc : h.2.2 b = some (k, fs)) (hk : kl[k]? = some q)
    (hst : st0 = as.reverse ++ .ref b :: rest) (hn : as.length = n) (hlen : (lg_sl (.ref b :: as)).length ≤ y2.2.2.1) (hcat : (rest.map fun v => v.category).sum ≤ 8) (hd2 : d2 < d)
    (kk : ∀ r h', h.1 ≤ h'.1 → h.2.1 ≤ h'.2.1 → Q1 r h' → AFT G d y pc 3 ls rest Q r h') : WA G d y pc ls st0 h Q :=
  WA.call M (fun r h' hM p l e R s m args below meth c T locs cells slots la C hR hL X hc1 hs1 => by
    obtain ⟨cellB, g1, g2, g3⟩ := hR.recv C hc hk
    obtain ⟨mk, methM, hnamed, hmethM, hstM, habM⟩ := Cond.instanceMethod_spec (C.word (a := args) hinst)
    obtain ⟨methM', cM, hmethM', -, -, -, -, -, -, hsigM⟩ := headW_spec hnamed (C.word (a := args) ok.2.1)
    cases hmethM.symm.trans hmethM'
    obtain ⟨c2, r2, m2, q1, q2, q3, q4, kP, hkP, hkPi⟩ := Cond.selects_spec (C.word (a := args) hsel)
    cases g3.symm.trans q1
    cases (State.methodFound?_of_named hnamed ok.2.2.2.2.2).symm.trans q2
    cases hnamed.symm.trans q3
    have hselP : selectMethod e.platform s.vm cellB.cls mk = .method mk := by rw [Launch.admits_selectMethod X.admits]; exact q4
    obtain ⟨vm₁, X₁, hstep₁⟩ := X.invokevirtual C.1 C.own (C.word hl) hnamed hmethM hstM hkP hkPi ok.2.2.2.2.2 (a := b) (cell := cellB) g1
      (fun z h => by rw [g2] at h; cases h) hselP hmethM habM hkP hkPi (g := F0 m pc la st0) rfl (argsL := as) (rest := rest) (hn.trans (ok.len _ hsigM)) hst (by rw [C.2.1]; exact hd)
    have hK := xx_back hM ok.1 hlen ok.2.1 ok.2.2.1 C (e := e) (sargs := args) (below := below) (m₀ := m) hd2 ok.2.2.2.1 (len := 3)
    rcases hK m meth c ⟨T.setVm vm₁, locs, cells, slots⟩ (F0 m pc la rest) (.invokevirtual idx) mk (Value.ref b :: as).toArray X₁ rfl (hL.1.trans C.2.2.1.symm) (by rw [C.2.1]; exact hd) (by show 2 * 0 + (rest.map fun v => v.category).sum ≤ 8; omega) (X₁.named hnamed) ⟨rfl, hR, hc1, hs1⟩ with ⟨v, B, X', hpost, hsteps⟩ | ⟨q, B, X', hpost, hsteps⟩
    · exact Or.inl ⟨v, vm₁, B, X₁.warmed, X', hpost, fun target h => hstep₁ _ fun acts => by rw [doInvoke_state]; exact hsteps.trans h⟩
    · exact Or.inr ⟨q, vm₁, B, X₁.warmed, X', hpost, hstep₁ _ fun acts => by rw [doInvoke_state]; exact hsteps⟩) kk
theorem wa_callS {st0 : List Value} (M : MA G d2 y2 as h Q1) (hd : decode y.2.1 pc = .ok (.invokestatic idx, 3)) (ok : callOK y2 n) (hl : Cond.methodLink y.1.cls idx y2.1 ∈ lw_all) (hstat : Cond.static y2.1 ∈ lw_all)
    (hst : st0 = as.reverse ++ rest) (hn : as.length = n) (hlen : (lg_sl as).length ≤ y2.2.2.1) (hcat : (rest.map fun v => v.category).sum ≤ 8) (hd2 : d2 < d)
    (kk : ∀ r h', h.1 ≤ h'.1 → h.2.1 ≤ h'.2.1 → Q1 r h' → AFT G d y pc 3 ls rest Q r h') : WA G d y pc ls st0 h Q :=
  WA.call M (fun r h' hM p l e R s m args below meth c T locs cells slots la C hR hL X hc1 hs1 => by
    obtain ⟨mk, hnamed⟩ := headW_named (C.word (a := args) ok.2.1)
    obtain ⟨methM, cM, hmethM, -, -, -, -, -, -, hsigM⟩ := headW_spec hnamed (C.word (a := args) ok.2.1)
    have hstatic : methM.isStatic = true := Cond.static_spec hnamed hmethM (C.word (a := args) hstat)
    obtain ⟨kP, hkP, -⟩ := className_of_methodNamed hnamed
    have hinitP : kP.init = .initialized := Cond.initialized_spec (findClass_of_methodNamed hnamed) hkP (C.word (a := args) ok.2.2.1)
    obtain ⟨vm₁, X₁, hstep₁⟩ := X.invokestatic C.1 C.own (C.word hl) hnamed hmethM hstatic hkP hinitP ok.2.2.2.2.2 (g := F0 m pc la st0) rfl (argsL := as) (rest := rest) (hn.trans (ok.len _ hsigM)) hst (by rw [C.2.1]; exact hd)
    have hK := xx_back hM ok.1 hlen ok.2.1 ok.2.2.1 C (e := e) (sargs := args) (below := below) (m₀ := m) hd2 ok.2.2.2.1 (len := 3)
    rcases hK m meth c ⟨T.setVm vm₁, locs, cells, slots⟩ (F0 m pc la rest) (.invokestatic idx) mk as.toArray X₁ rfl (hL.1.trans C.2.2.1.symm) (by rw [C.2.1]; exact hd) (by show 2 * 0 + (rest.map fun v => v.category).sum ≤ 8; omega) (X₁.named hnamed) ⟨rfl, hR, hc1, hs1⟩ with ⟨v, B, X', hpost, hsteps⟩ | ⟨q, B, X', hpost, hsteps⟩
    · exact Or.inl ⟨v, vm₁, B, X₁.warmed, X', hpost, fun target h => hstep₁ _ fun acts => by rw [doInvoke_state]; exact hsteps.trans h⟩
    · exact Or.inr ⟨q, vm₁, B, X₁.warmed, X', hpost, hstep₁ _ fun acts => by rw [doInvoke_state]; exact hsteps⟩) kk
theorem code_word {y2 : MD} (e : y2.2.2.2.2 = []) (h : headW y2 ∈ lw_all) : Cond.code y2.1 y2.2.1 y2.2.2.1 y2.2.2.2.1 ∈ lw_all := by
  unfold headW at h
  rw [e] at h
  exact h
/-- a constructor -/
theorem wa_callI {b : Nat} {st0 : List Value} (M : MA G d2 y2 (.ref b :: as) h Q1) (hd : decode y.2.1 pc = .ok (.invokespecial idx, 3)) (ok : callOK y2 n) (he : y2.2.2.2.2 = []) (hr : y2.2.2.2.1 = none) (hini : y2.1.name = "<init>") (hl : Cond.methodLink y.1.cls idx y2.1 ∈ lw_all) (hinst : Cond.instanceMethod y2.1 ∈ lw_all)
    (hst : st0 = as.reverse ++ .ref b :: rest) (hn : as.length = n) (hlen : (lg_sl (.ref b :: as)).length ≤ y2.2.2.1) (hcat : (rest.map fun v => v.category).sum ≤ 8) (hd2 : d2 < d)
    (kk : ∀ r h', h.1 ≤ h'.1 → h.2.1 ≤ h'.2.1 → Q1 r h' → AFT G d y pc 3 ls rest Q r h') : WA G d y pc ls st0 h Q :=
  WA.call M (fun r h' hM p l e R s m args below meth c T locs cells slots la C hR hL X hc1 hs1 => by
    have hK := xx_back hM ok.1 hlen ok.2.1 ok.2.2.1 C (e := e) (sargs := args) (below := below) (m₀ := m) hd2 ok.2.2.2.1 (len := 3)
    exact vx_callI X C.1 (maxL := y2.2.2.1) (bytes := y2.2.1) C.own hini (C.word hl) (C.word hinst) (C.word (by have := code_word he ok.2.1; rw [hr] at this; exact this)) ok.2.2.2.2.2 hK (g := F0 m pc la st0) rfl (hL.1.trans C.2.2.1.symm) (a := b) (argsL := as) (rest := rest) (fun sig e => hn.trans (ok.len _ e)) hst (by show 2 * 0 + (rest.map fun v => v.category).sum ≤ 8; omega) (by rw [C.2.1]; exact hd) (fun vm₁ _ => ⟨rfl, hR, hc1, hs1⟩)) kk
/-- a nest mate's private constructor -/
theorem wa_callIN {b : Nat} {host : String} {st0 : List Value} (M : MA G d2 y2 (.ref b :: as) h Q1) (hd : decode y.2.1 pc = .ok (.invokespecial idx, 3)) (ok : callOK y2 n) (he : y2.2.2.2.2 = []) (hr : y2.2.2.2.1 = none) (hini : y2.1.name = "<init>") (hl : Cond.methodLinkNest y.1.cls idx y2.1 host ∈ lw_tbl) (hinst : Cond.instanceMethod y2.1 ∈ lw_all)
    (hst : st0 = as.reverse ++ .ref b :: rest) (hn : as.length = n) (hlen : (lg_sl (.ref b :: as)).length ≤ y2.2.2.1) (hcat : (rest.map fun v => v.category).sum ≤ 8) (hd2 : d2 < d)
    (kk : ∀ r h', h.1 ≤ h'.1 → h.2.1 ≤ h'.2.1 → Q1 r h' → AFT G d y pc 3 ls rest Q r h') : WA G d y pc ls st0 h Q :=
  WA.call M (fun r h' hM p l e R s m args below meth c T locs cells slots la C hR hL X hc1 hs1 => by
    have hK := xx_back hM ok.1 hlen ok.2.1 ok.2.2.1 C (e := e) (sargs := args) (below := below) (m₀ := m) hd2 ok.2.2.2.1 (len := 3)
    exact vx_callIN X C.1 (maxL := y2.2.2.1) (bytes := y2.2.1) C.own hini (va_Nw.use rfl (va_Nw.warmM C.warm (va_Nw.of rfl (C.tbl _ hl)))) (C.word hinst) (C.word (by have := code_word he ok.2.1; rw [hr] at this; exact this)) ok.2.2.2.2.2 hK (g := F0 m pc la st0) rfl (hL.1.trans C.2.2.1.symm) (a := b) (argsL := as) (rest := rest) (fun sig e => hn.trans (ok.len _ e)) hst (by show 2 * 0 + (rest.map fun v => v.category).sum ≤ 8; omega) (by rw [C.2.1]; exact hd) (fun vm₁ _ => ⟨rfl, hR, hc1, hs1⟩)) kk
/-- a nest mate's private method -/
theorem wa_callVN {b k : Nat} {fs : List Value} {q : vw_C} {host : String} {st0 : List Value} (M : MA G d2 y2 (.ref b :: as) h Q1) (hd : decode y.2.1 pc = .ok (.invokevirtual idx, 3)) (ok : callOK y2 n) (he : y2.2.2.2.2 = []) (hl : Cond.methodLinkNest y.1.cls idx y2.1 host ∈ lw_tbl) (hinst : Cond.instanceMethod y2.1 ∈ lw_all) (hsel : Cond.selects q.1 y2.1 y2.1 ∈ lw_all) (hc : h.2.2 b = some (k, fs)) (hk : kl[k]? = some q)
    (hst : st0 = as.reverse ++ .ref b :: rest) (hn : as.length = n) (hlen : (lg_sl (.ref b :: as)).length ≤ y2.2.2.1) (hcat : (rest.map fun v => v.category).sum ≤ 8) (hd2 : d2 < d)
    (kk : ∀ r h', h.1 ≤ h'.1 → h.2.1 ≤ h'.2.1 → Q1 r h' → AFT G d y pc 3 ls rest Q r h') : WA G d y pc ls st0 h Q :=
  WA.call M (fun r h' hM p l e R s m args below meth c T locs cells slots la C hR hL X hc1 hs1 => by
    obtain ⟨cellB, g1, g2, g3⟩ := hR.recv C hc hk
    have hK := xx_back hM ok.1 hlen ok.2.1 ok.2.2.1 C (e := e) (sargs := args) (below := below) (m₀ := m) hd2 ok.2.2.2.1 (len := 3)
    exact vx_callVN X C.1 C.own (va_Nw.use rfl (va_Nw.warmM C.warm (va_Nw.of rfl (C.tbl _ hl)))) (C.word hinst) (C.word hsel) (C.word (code_word he ok.2.1)) ok.2.2.2.2.2 hK g1 (by rw [g2]; rfl) g3 (g := F0 m pc la st0) rfl (hL.1.trans C.2.2.1.symm) (argsL := as) (rest := rest) (fun sig e => hn.trans (ok.len _ e)) hst (by show 2 * 0 + (rest.map fun v => v.category).sum ≤ 8; omega) (by rw [C.2.1]; exact hd) (fun vm₁ _ => ⟨rfl, hR, hc1, hs1⟩)) kk
theorem wa_callSN {host : String} {st0 : List Value} (M : MA G d2 y2 as h Q1) (hd : decode y.2.1 pc = .ok (.invokestatic idx, 3)) (ok : callOK y2 n) (he : y2.2.2.2.2 = []) (hl : Cond.methodLinkNest y.1.cls idx y2.1 host ∈ lw_tbl) (hstat : Cond.static y2.1 ∈ lw_all)
    (hst : st0 = as.reverse ++ rest) (hn : as.length = n) (hlen : (lg_sl as).length ≤ y2.2.2.1) (hcat : (rest.map fun v => v.category).sum ≤ 8) (hd2 : d2 < d)
    (kk : ∀ r h', h.1 ≤ h'.1 → h.2.1 ≤ h'.2.1 → Q1 r h' → AFT G d y pc 3 ls rest Q r h') : WA G d y pc ls st0 h Q :=
  WA.call M (fun r h' hM p l e R s m args below meth c T locs cells slots la C hR hL X hc1 hs1 => by
    have hK := xx_back hM ok.1 hlen ok.2.1 ok.2.2.1 C (e := e) (sargs := args) (below := below) (m₀ := m) hd2 ok.2.2.2.1 (len := 3)
    exact vx_callSN X C.1 C.own (va_Nw.use rfl (va_Nw.warmM C.warm (va_Nw.of rfl (C.tbl _ hl)))) (C.word hstat) (C.word ok.2.2.1) (C.word (code_word he ok.2.1)) ok.2.2.2.2.2 hK (g := F0 m pc la st0) rfl (hL.1.trans C.2.2.1.symm) (argsL := as) (rest := rest) (fun sig e => hn.trans (ok.len _ e)) hst (by show 2 * 0 + (rest.map fun v => v.category).sum ≤ 8; omega) (by rw [C.2.1]; exact hd) (fun vm₁ _ => ⟨rfl, hR, hc1, hs1⟩)) kk
/-- invokevirtual of x, found as owner's method; the object's class selects y2 -/
theorem wa_callU {b k : Nat} {fs : List Value} {q : vw_C} {x : MethodName} {owner : String} {st0 : List Value} (M : MA G d2 y2 (.ref b :: as) h Q1) (hd : decode y.2.1 pc = .ok (.invokevirtual idx, 3)) (ok : callOK y2 n) (he : y2.2.2.2.2 = []) (hl : Cond.methodLink y.1.cls idx x ∈ lw_all) (hsame : Cond.sameMethod x.cls owner x.name x.desc ∈ lw_all) (hdecl : Cond.instanceMethod ⟨owner, x.name, x.desc⟩ ∈ lw_all ∨ Cond.declares ⟨owner, x.name, x.desc⟩ ∈ lw_tbl) (howner : owner ≠ "java/lang/invoke/MethodHandle" ∧ owner ≠ "java/lang/invoke/VarHandle") (hsel : Cond.selects q.1 x y2.1 ∈ lw_all) (hinst : Cond.instanceMethod y2.1 ∈ lw_all) (hc : h.2.2 b = some (k, fs)) (hk : kl[k]? = some q)
    (hpx : (parseMethodDescriptor x.desc).map (fun d => d.parameters.length) = some n)
    (hst : st0 = as.reverse ++ .ref b :: rest) (hn : as.length = n) (hlen : (lg_sl (.ref b :: as)).length ≤ y2.2.2.1) (hcat : (rest.map fun v => v.category).sum ≤ 8) (hd2 : d2 < d) (hDc : ∀ s : State, G.1.WarmedH s.vm → va_Decl s ⟨owner, x.name, x.desc⟩)
    (kk : ∀ r h', h.1 ≤ h'.1 → h.2.1 ≤ h'.2.1 → Q1 r h' → AFT G d y pc 3 ls rest Q r h') : WA G d y pc ls st0 h Q :=
  WA.call M (fun r h' hM p l e R s m args below meth c T locs cells slots la C hR hL X hc1 hs1 => by
    obtain ⟨cellB, g1, g2, g3⟩ := hR.recv C hc hk
    have hK := xx_back hM ok.1 hlen ok.2.1 ok.2.2.1 C (e := e) (sargs := args) (below := below) (m₀ := m) hd2 ok.2.2.2.1 (len := 3)
    exact vx_callVU X C.1 C.own (C.word hl) (C.word hsame) (hDc s C.warm) howner (C.word hsel) (C.word hinst) (C.word (code_word he ok.2.1)) hK g1 (by rw [g2]; rfl) g3 (g := F0 m pc la st0) rfl (hL.1.trans C.2.2.1.symm) (argsL := as) (rest := rest) (fun sig e => by
      rw [e] at hpx
      exact hn.trans (Option.some.inj hpx).symm) hst (by show 2 * 0 + (rest.map fun v => v.category).sum ≤ 8; omega) (by rw [C.2.1]; exact hd) (fun vm₁ _ => ⟨rfl, hR, hc1, hs1⟩)) kk
/-- super.y2() -/
theorem wa_callSU {b k : Nat} {fs : List Value} {q : vw_C} {st0 : List Value} (M : MA G d2 y2 (.ref b :: as) h Q1) (hd : decode y.2.1 pc = .ok (.invokespecial idx, 3)) (ok : callOK y2 n) (he : y2.2.2.2.2 = []) (hl : Cond.methodLink y.1.cls idx y2.1 ∈ lw_all) (hsame : Cond.sameMethod y2.1.cls y2.1.cls y2.1.name y2.1.desc ∈ lw_all) (hsup : Cond.superclass y.1.cls y2.1.cls ∈ lw_all) (hinst : Cond.instanceMethod y2.1 ∈ lw_all) (hno : y2.1.name ≠ "<init>") (hc : h.2.2 b = some (k, fs)) (hk : kl[k]? = some q)
    (hst : st0 = as.reverse ++ .ref b :: rest) (hn : as.length = n) (hlen : (lg_sl (.ref b :: as)).length ≤ y2.2.2.1) (hcat : (rest.map fun v => v.category).sum ≤ 8) (hd2 : d2 < d)
    (kk : ∀ r h', h.1 ≤ h'.1 → h.2.1 ≤ h'.2.1 → Q1 r h' → AFT G d y pc 3 ls rest Q r h') : WA G d y pc ls st0 h Q :=
  WA.call M (fun r h' hM p l e R s m args below meth c T locs cells slots la C hR hL X hc1 hs1 => by
    obtain ⟨cellB, g1, g2, g3⟩ := hR.recv C hc hk
    obtain ⟨kB, hkB, -⟩ := Vm.findClass_spec g3
    have hK := xx_back hM ok.1 hlen ok.2.1 ok.2.2.1 C (e := e) (sargs := args) (below := below) (m₀ := m) hd2 ok.2.2.2.1 (len := 3)
    exact vx_callSU X C.1 C.own (C.word hl) (C.word hsame) (C.word hsup) (C.word hinst) (C.word (code_word he ok.2.1)) hno hK g1 (by rw [g2]; rfl) hkB (g := F0 m pc la st0) rfl (hL.1.trans C.2.2.1.symm) (argsL := as) (rest := rest) (fun sig e => hn.trans (ok.len _ e)) hst (by show 2 * 0 + (rest.map fun v => v.category).sum ≤ 8; omega) (by rw [C.2.1]; exact hd) (fun vm₁ _ => ⟨rfl, hR, hc1, hs1⟩)) kk
/-- invokeinterface x; the object's class selects y2 -/
theorem wa_callF {b k cnt : Nat} {fs : List Value} {q : vw_C} {x : MethodName} {st0 : List Value} (M : MA G d2 y2 (.ref b :: as) h Q1) (hd : decode y.2.1 pc = .ok (.invokeinterface idx cnt, 5)) (ok : callOK y2 n) (he : y2.2.2.2.2 = []) (hl : Cond.methodLink y.1.cls idx x ∈ lw_all) (hF : Cond.declares x ∈ lw_tbl ∧ Cond.interfaceMethod x.cls x.cls x.name x.desc ∈ lw_tbl ∧ Cond.publicMethod y2.1 ∈ lw_tbl ∧ Cond.unhidden q.1 x.name x.desc ∈ lw_tbl ∧ Cond.castable q.1 x.cls ∈ lw_tbl) (hx9 : x.cls ≠ "java/lang/invoke/MethodHandle" ∧ x.cls ≠ "java/lang/invoke/VarHandle") (hsel : Cond.selects q.1 x y2.1 ∈ lw_all) (hinst : Cond.instanceMethod y2.1 ∈ lw_all) (hc : h.2.2 b = some (k, fs)) (hk : kl[k]? = some q)
    (hpx : (parseMethodDescriptor x.desc).map (fun d => d.parameters.length) = some n)
    (hst : st0 = as.reverse ++ .ref b :: rest) (hn : as.length = n) (hlen : (lg_sl (.ref b :: as)).length ≤ y2.2.2.1) (hcat : (rest.map fun v => v.category).sum ≤ 8) (hd2 : d2 < d)
    (kk : ∀ r h', h.1 ≤ h'.1 → h.2.1 ≤ h'.2.1 → Q1 r h' → AFT G d y pc 5 ls rest Q r h') : WA G d y pc ls st0 h Q :=
  WA.call M (fun r h' hM p l e R s m args below meth c T locs cells slots la C hR hL X hc1 hs1 => by
    obtain ⟨cellB, g1, g2, g3⟩ := hR.recv C hc hk
    obtain ⟨kB, hkB, -⟩ := Vm.findClass_spec g3
    obtain ⟨f1, f2, f3, f4, f5⟩ := va_Fw.moved hx9 C.warm.alike (va_Fw.of (C := q.1) (x := x) (y := y2.1) (C.tbl _ hF.1) (C.tbl _ hF.2.1) (C.tbl _ hF.2.2.1) (C.tbl _ hF.2.2.2.1) (C.tbl _ hF.2.2.2.2))
    have hK := xx_back hM ok.1 hlen ok.2.1 ok.2.2.1 C (e := e) (sargs := args) (below := below) (m₀ := m) hd2 ok.2.2.2.1 (len := 5)
    exact vx_callIF X C.1 C.own (C.word hl) (va_any rfl f1) (va_any rfl f2) (C.word hsel) (C.word hinst) (va_any rfl f3) (va_any rfl f4) (va_any rfl f5) (C.word (code_word he ok.2.1)) hx9 hK g1 (by rw [g2]; rfl) g3 hkB (g := F0 m pc la st0) rfl (hL.1.trans C.2.2.1.symm) (argsL := as) (rest := rest) (fun sig e => by
      rw [e] at hpx
      exact hn.trans (Option.some.inj hpx).symm) hst (by show 2 * 0 + (rest.map fun v => v.category).sum ≤ 8; omega) (by rw [C.2.1]; exact hd) (fun vm₁ _ => ⟨rfl, hR, hc1, hs1⟩)) kk
theorem wa_objInit {b : Nat} (hd : decode y.2.1 pc = .ok (.invokespecial idx, 3)) (hl : Cond.methodLink y.1.cls idx Lib.objectInit ∈ lw_all) (hinst : Cond.instanceMethod Lib.objectInit ∈ lw_all) (hcode : Cond.code Lib.objectInit ⟨#[0xb1]⟩ 1 none ∈ lw_all) (hcat : (rest.map fun v => v.category).sum ≤ 8) (hd2 : 0 < d)
    (kk : WA G d y (pc + 3) ls rest h Q) : WA G d y pc ls (.ref b :: rest) h Q :=
  WA.read (fun p l e R s m args below meth c H locs cells slots Z la C hR hS hL h1 h2 K => by
    have := C.room
    exact W.objInit C.1 C.2.1 C.own (C.word hl) (C.word hinst) (C.word hcode) rfl (hL.1.trans C.2.2.1.symm) rfl hd (by omega) (by show 2 * 0 + _ + 12 ≤ _; omega) K) kk
end
end CALLS
