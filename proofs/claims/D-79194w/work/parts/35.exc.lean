/-! ===== rows over WA: exceptions made ===== -/
section EXCM
theorem xx_back9 {p : Program} {l : Launch} {e : Env} {R : Room} {s : State} {m : MethodId} {args : Array Value} {below : List Frame} {meth : Method} {c : Code} {locs L : List Loc} {cells slots : Nat} {T S : State} {R' : Room} {k n : Nat} (X : Stand p l e R s m args below meth c T locs cells slots) (Y : Stand p l e R' ((T.setVm s.vm).setFrames (.invoking m args :: below)) m args below meth c T [] 0 0) (Z : Stand p l e R' ((T.setVm s.vm).setFrames (.invoking m args :: below)) m args below meth c S L k n) :
    Stand p l e R s m args below meth c S (locs ++ L) (cells + k) (slots + n) := by
  have hW0 : s.WarmedH ((T.setVm s.vm).setFrames (.invoking m args :: below)).vm := State.WarmedH.refl s
  refine { admits := X.admits, cas := X.cas, clock := X.clock, frames := X.frames, room := X.room, hears := X.hears, method := X.method, code := X.code, here := Z.here, tail := Z.tail, warmed := State.WarmedH.trans hW0 Z.warmed, limits := Z.limits.trans (Y.limits.symm.trans X.limits), bytes := Z.bytes.trans (Y.bytes.symm.trans X.bytes), same := ?_ }
  obtain ⟨e1, e2⟩ := Z.same
  rw [State.setFrames_setFrames] at e1
  have h2 : (T.setVm s.vm).sameButNew (S.setVm s.vm) L k n := ⟨e1, e2⟩
  exact X.same.trans h2
set_option maxHeartbeats 1000000 in
/-- 'cls.<init>()' of a JDK exception's class, on a new object of the class ocls (cls itself, or a class below it) -/
theorem xx_ctor {p : Program} {l : Launch} {e : Env} {R : Room} {s : State} {m₀ : MethodId} {args : Array Value} {below : List Frame} {meth : Method} {c : Code} {W : State} {cells slots : Nat} (X : Stand p l e R s m₀ args below meth c W [] cells slots) (hexec : p.tables.exec = Jvm.exec) (htr : e.platform.stackTraces = false) {own ocls cls : String} {names : List String} {ic : Nat}
    (hown : s.vm.findClass own = some m₀.cls) (hcls : Bundle.fit cls = true) (hnames : ∀ n ∈ names, Bundle.fit n = true)
    (hT : ∀ a ∈ Bundle.throwableAtoms, a.before args s = true) (hCh : ∀ a ∈ Bundle.chain0Atoms cls names, a.before args s = true)
    (hlink : (Cond.methodLink own ic (Bundle.init0 cls)).before args s = true) (hS0 : (Cond.selects ocls Bundle.tFill0 Bundle.tFill0).before args s = true) (hSF : (Cond.selects ocls Bundle.tFill Bundle.tFill).before args s = true)
    (hl1 : (Cond.lays ocls Bundle.tN "cause" "Ljava/lang/Throwable;").before args s = true) (hl2 : (Cond.lays ocls Bundle.tN "stackTrace" Bundle.steD).before args s = true) (hl3 : (Cond.lays ocls Bundle.tN "suppressedExceptions" Bundle.listD).before args s = true) (hl5 : (Cond.lays ocls Bundle.tN "backtrace" "Ljava/lang/Object;").before args s = true)
    (hr1 : (Cond.isRef (.static Bundle.tN "UNASSIGNED_STACK" Bundle.steD)).before args s = true) (hr2 : (Cond.isRef (.static Bundle.tN "SUPPRESSED_SENTINEL" Bundle.listD)).before args s = true)
    (hf1 : (Cond.fieldLink Bundle.tN 198 Bundle.tN "backtrace" "Ljava/lang/Object;").before args s = true) (hf2 : (Cond.lays Bundle.tN Bundle.tN "backtrace" "Ljava/lang/Object;").before args s = true)
    {a : Addr} {cX : ClassId} {kX : Class} (hfoundX : s.vm.findClass ocls = some cX) (hkX : s.vm.classes[cX]? = some kX) (hord : kX.kind = .ordinary) (hcell : W.heap[a]? = some (freshCell cX kX))
    {g : JFrame} (hg : g.method = m₀) (hsize : g.locals.size = c.maxLocals) {rest : List Value} (hstack : g.stack = .ref a :: rest)
    (hd6 : decode c.code g.pc = .ok (.invokespecial ic, 3))
    (hRframes : names.length + 3 < R.frames) (hRlocals : 2 * g.monitorRoom + (rest.map fun v => v.category).sum + (13 * (names.length + 1) + 41) ≤ R.locals) :
    ∃ (V : State) (ce : Cell) (L : List Loc), Stand p l e R s m₀ args below meth c (V.setCell a ce) L cells slots ∧ (∀ y ∈ L, y.base = a) ∧ V.heap = W.heap ∧ ce.cls = cX ∧ ce.vm = .none ∧
      (∀ (C f d : String) (i : Nat), (Cond.lays ocls C f d).before args s = true ∨ (Cond.laysFinal ocls C f d).before args s = true → SlotIs s C f d i → (∃ t, parseFieldDescriptor d = some t) → f ≠ "cause" → f ≠ "stackTrace" → f ≠ "suppressedExceptions" → ce.slots[i]? = (freshCell cX kX).slots[i]?) ∧
      ∀ target, Steps p.tables e below ((V.setCell a ce).setTop { g with stack := rest, pc := g.pc + 3 }) target → Steps p.tables e below (W.setTop g) target := by
  have howns : e.platform.frameOwnsMonitors = true := by rw [X.admits.platform]
  have hfin : e.platform.finalization = false := by rw [X.admits.platform]
  have hpl : e.platform.magicAccessors = ({} : Platform).magicAccessors := by rw [X.admits.platform]
  obtain ⟨T, Z, L, LZ, Y⟩ := ThrowableC.of_atoms (args := args) howns hfin hpl hT
  obtain ⟨P1, Ps, hlen, L1, hL, hP1m, hlink1, hlink9⟩ := Bundle.chain0 (args := args) hpl Y.init0 names cls hcls hnames hCh
  have hsel0 : selectMethod e.platform s.vm cX T.fill0 = .method T.fill0 := by
    obtain ⟨c2, r2, m2, q1, q2, q3, q4, -⟩ := Cond.selects_spec hS0
    cases Option.some.inj (q1.symm.trans hfoundX)
    cases Option.some.inj (q2.symm.trans (State.methodFound?_of_named Y.fill0 (by decide)))
    cases Option.some.inj (q3.symm.trans Y.fill0)
    rw [Launch.admits_selectMethod X.admits]; exact q4
  have hselF : selectMethod e.platform s.vm cX T.fill = .method T.fill := by
    obtain ⟨c2, r2, m2, q1, q2, q3, q4, -⟩ := Cond.selects_spec hSF
    cases Option.some.inj (q1.symm.trans hfoundX)
    cases Option.some.inj (q2.symm.trans (State.methodFound?_of_named Y.fill (by decide)))
    cases Option.some.inj (q3.symm.trans Y.fill)
    rw [Launch.admits_selectMethod X.admits]; exact q4
  obtain ⟨cellS0, hcS0, hiss⟩ := Y.statics
  obtain ⟨u0, hu0⟩ := Cond.staticRefV Y.unassigned L.unassignedStatic L.statics hcS0 hiss hr1
  obtain ⟨sen, hsen⟩ := Cond.staticRefV Y.sentinel L.sentinelStatic L.statics hcS0 hiss hr2
  obtain ⟨ci198, i198, fB, hk198, hg198, ha198, hsB, -, hnB, htB, hffB⟩ := Cond.ownField (t := .object "java/lang/Object") Y.found L.cls (by decide +kernel) hf1 hf2 e.platform hpl
  obtain ⟨cellS, hcS', heS, -, hkeep⟩ := X.same.2.2.2.2.2 T.aS cellS0 hcS0
  have hcellS : W.heap[T.aS]? = some cellS := hcS'
  have hout' : ∀ i, (⟨T.aS, i⟩ : Loc) ∉ ([] : List Loc) := fun i hmem => nomatch hmem
  have hknownS : cellS.vm ≠ .unknown := by
    rw [heS]; intro hu
    rw [show cellS0.vm = .unknown from hu] at hiss
    cases hiss
  have hneS : T.aS ≠ a := by
    intro he
    rw [he, hcell] at hcellS
    have e9 := Option.some.inj hcellS
    have e10 : cellS.vm = cellS0.vm := by rw [heS]
    rw [← e9] at e10
    have e11 : cellS0.vm = .none := e10.symm
    rw [e11] at hiss
    cases hiss
  obtain ⟨iM, hffM⟩ := Y.msg
  obtain ⟨tyC, dC, hdC, hdnC⟩ := Cond.laysAt hfoundX hkX Y.cause hl1
  obtain ⟨tyS, dS, hdS, hdnS⟩ := Cond.laysAt hfoundX hkX Y.stack hl2
  obtain ⟨tyP, dP, hdP, hdnP⟩ := Cond.laysAt hfoundX hkX Y.supp hl3
  obtain ⟨tyB, dB, hdB, hdnB⟩ := Cond.laysAt hfoundX hkX hffB hl5
  have bC := Cond.laysApart hdB hdC hdnB hdnC (by rw [hnB, Y.causeName]; decide)
  have bS := Cond.laysApart hdB hdS hdnB hdnS (by rw [hnB, Y.stackName]; decide)
  have bP := Cond.laysApart hdB hdP hdnB hdnP (by rw [hnB, Y.suppName]; decide)
  have hskip : SkipFacts T e.platform s (fun u => u) u0 ((preparedCellV T.toThrowableT (freshCell cX kX) a u0 sen).withEntry W.cur) :=
    ⟨{ ci198 := ci198, i198 := i198, fBack := fB }, ⟨hk198, hg198, ha198, hsB⟩, by
      have := fresh_default (c := cX) tyB
      rw [htB] at this
      simpa [preparedCellV, Cell.setSlot, Cell.withEntry, Array.getElem?_setIfInBounds, bC, bS, bP, bC.symm, bS.symm, bP.symm, defaultValue] using this, fun _ _ => rfl⟩
  obtain ⟨tm, methC, cdC, kC, vm₁, hnC, -, -, -, -, -, -, -, hW₁, st1⟩ := Steps.initCold (tb := p.tables) (e := e) (below := below) (s := s) (U := W) X.here hexec X.warmed hpl hown (t := Bundle.init0 cls) rfl rfl (Bundle.fit_spec hcls).2
    hlink (hCh (.instanceMethod (Bundle.init0 cls)) (by cases names <;> simp [Bundle.chain0Atoms, Bundle.passAtoms])) (bytes := Bundle.five) (maxL := 1) (hCh (.code (Bundle.init0 cls) Bundle.five 1 none) (by cases names <;> simp [Bundle.chain0Atoms, Bundle.passAtoms]))
    (f := g) hg (a := a) (rest := rest) hstack hd6
  cases Option.some.inj (hnC.symm.trans hP1m)
  have X₁ := X.noted hW₁
  obtain ⟨vm₂, X₂, st2⟩ := X₁.ctorPlainOffV hexec (g := { g with stack := rest }) hg hsize T L Z LZ (P1 :: Ps)
    (fun P hP => by rcases List.mem_cons.mp hP with rfl | hP; exact L1; exact hL P hP) ⟨hlink1, hlink9⟩ (u0 := u0) (sen := sen) (self := a) (cell := freshCell cX kX) (cellS := cellS)
    hcell (fun _ => by simp) (by simp) rfl rfl hsel0 hselF hcellS hneS hknownS (by rw [hkeep _ (hout' _)]; exact hu0) (by rw [hkeep _ (hout' _)]; exact hsen)
    (Takes.of_laid hkX hord tyC (by rw [Y.causeType]; rfl)) (Takes.of_laid hkX hord tyS (by rw [Y.stackType]; exact fits_refV_array _ u0)) (Takes.of_laid hkX hord tyP (by rw [Y.suppType]; exact fits_refV_object _ sen)) Y.objLocals hskip htr [] hd6
    (by simp only [List.length_cons, hlen]; omega) (by simp only [List.length_cons, hlen]; exact hRlocals)
  refine ⟨(W.setVm vm₁).setVm vm₂, _, _, X₂, fun y hy => ?_, rfl, rfl, rfl, ?_, fun target hwalk => st1 _ (fun acts => ?_)⟩
  · simp only [List.nil_append, List.mem_cons, List.not_mem_nil, or_false] at hy
    rcases hy with rfl | rfl | rfl | rfl <;> rfl
  · intro C f d i hlay hsl hp n1 n2 n3
    obtain ⟨t9, hp⟩ := hp
    obtain ⟨cf, kf, fi, fd, hi, rfl⟩ := hsl
    have hnm : fd.name = f := (State.fieldFound?_type hi hp).1
    have a1 := u_apart hlay (Or.inl hl1) hi Y.cause (by rw [hnm, Y.causeName]; exact n1)
    have a2 := u_apart hlay (Or.inl hl2) hi Y.stack (by rw [hnm, Y.stackName]; exact n2)
    have a3 := u_apart hlay (Or.inl hl3) hi Y.supp (by rw [hnm, Y.suppName]; exact n3)
    simp [preparedCellV, Cell.setSlot, Array.getElem?_setIfInBounds, a1, a2, a3, a1.symm, a2.symm, a3.symm]
  · rw [doInvoke_state]
    exact st2 _ hwalk
section
variable {G : GG} {d : Nat} {y : MD} {pc idx : Nat} {ls st : List Value} {h : AH} {Q : RR → AH → Prop}
theorem wa_newX {nn : Nat} {C : String} (j : Nat) (hd : decode y.2.1 pc = .ok (.new idx, 3)) (hj : rl[j]? = some C) (hcl : Cond.classLink y.1.cls idx C ∈ lw_all) (hinst : Cond.instantiable C nn ∈ lw_all) (hini : Cond.initialized C ∈ lw_all)
    (kk : WA G d y (pc + 3) ls (.ref h.1 :: st) (ah_new h (58 + j) [] nn) Q) : WA G d y pc ls st h Q :=
  WA.make (fun p l e R s m args below meth c H locs cells slots Z la C9 hR hS hL h1 h2 hz K => by
    obtain ⟨cC, kC, hfc, hkC, hkind, -⟩ := Cond.instantiable_spec (C9.tbl _ (lw_all_tbl hinst))
    have hal := C9.warm.alike
    refine W.newcK C9.1 C9.2.1 C9.own (C9.word hcl) (C9.word hinst) (C9.word hini) rfl hd h1 h2 (cC := cC) (by rw [hal.findClass]; exact hfc) hz fun H1 kC2 hkC2 e1 z1 o1 => ?_
    refine K H1 z1 o1 ?_
    have hj7 : j < 7 := (List.getElem?_eq_some_iff.mp hj).1
    obtain ⟨k', hk', he⟩ := hal.2.2 _ _ hkC
    cases hk'.symm.trans hkC2
    unfold CR
    rw [if_neg (by omega), if_neg (by omega), if_neg (by omega), if_neg (by omega), if_pos (by omega)]
    refine ⟨hR.2.1, C, cC, kC, by rw [Nat.add_sub_cancel_left]; exact hj, hfc, hkC, hkind, ?_⟩
    rw [e1]
    unfold blank
    rw [he]) kk
/-- the words of the constructors' chain -/
def excOK (cls : String) (names : List String) : Prop := Bundle.fit cls = true ∧ (∀ n ∈ names, Bundle.fit n = true) ∧ ∀ w ∈ Bundle.chain0Atoms cls names, w ∈ lw_all ∨ ∃ x, w = .declares x ∧ w ∈ lw_tbl
theorem thr_words : ∀ w ∈ Bundle.throwableAtoms, w ∈ lw_all ∨ w ∈ [Cond.laysStatic Bundle.tN "UNASSIGNED_STACK" Bundle.steD, Cond.laysStatic Bundle.tN "SUPPRESSED_SENTINEL" Bundle.listD] := by
  intro w hw
  simp only [Bundle.throwableAtoms, List.mem_cons, List.not_mem_nil, or_false] at hw
  rcases hw with rfl | rfl | rfl | rfl | rfl | rfl | rfl | rfl | rfl | rfl | rfl | rfl | rfl | rfl | rfl | rfl | rfl | rfl | rfl | rfl | rfl | rfl | rfl | rfl
  · exact Or.inl q104
  · exact Or.inl q564
  · exact Or.inl q573
  · exact Or.inl q583
  · exact Or.inl q586
  · exact Or.inl q588
  · exact Or.inl q565
  · exact Or.inl q566
  · exact Or.inl q151
  · exact Or.inl q152
  · exact Or.inl q567
  · exact Or.inl q572
  · exact Or.inl q584
  · exact Or.inl q798
  · exact Or.inl q554
  · exact Or.inl q799
  · exact Or.inl q556
  · exact Or.inl q800
  · exact Or.inl q558
  · exact Or.inl q568
  · exact Or.inr (by simp)
  · exact Or.inl q570
  · exact Or.inr (by simp)
  · exact Or.inl q560
theorem wa_excInit {a j kq : Nat} {ocls cls : String} {names : List String} {q : vw_C} (fs : List Value) (hd : decode y.2.1 pc = .ok (.invokespecial idx, 3)) (hc : h.2.2 a = some (58 + j, [])) (hj : rl[j]? = some ocls) (hk : kl[kq]? = some q) (hq : q.1 = ocls) (ok : excOK cls names) (hl : Cond.methodLink y.1.cls idx (Bundle.init0 cls) ∈ lw_all)
    (hS0 : Cond.selects ocls Bundle.tFill0 Bundle.tFill0 ∈ lw_all) (hSF : Cond.selects ocls Bundle.tFill Bundle.tFill ∈ lw_all)
    (hl1 : Cond.lays ocls Bundle.tN "cause" "Ljava/lang/Throwable;" ∈ lw_all) (hl2 : Cond.lays ocls Bundle.tN "stackTrace" Bundle.steD ∈ lw_all) (hl3 : Cond.lays ocls Bundle.tN "suppressedExceptions" Bundle.listD ∈ lw_all) (hl5 : Cond.lays ocls Bundle.tN "backtrace" "Ljava/lang/Object;" ∈ lw_all)
    (hn1 : Cond.isRef (.static Bundle.tN "UNASSIGNED_STACK" Bundle.steD) ∈ flatC (Cond.and given_1 narrow_1)) (hn2 : Cond.isRef (.static Bundle.tN "SUPPRESSED_SENTINEL" Bundle.listD) ∈ flatC (Cond.and given_1 narrow_1))
    (hfs : ∃ ty : Nat → FieldType, (∀ i, i < q.2.2 → parseFieldDescriptor (q.2.1 i).2.2.1 = some (ty i) ∧ (q.2.1 i).2.1 ≠ "cause" ∧ (q.2.1 i).2.1 ≠ "stackTrace" ∧ (q.2.1 i).2.1 ≠ "suppressedExceptions") ∧ (List.range q.2.2).map (fun i => defaultValue (ty i)) = fs) (hcat : (st.map fun v => v.category).sum ≤ 8) (hdd : names.length + 4 ≤ d)
    (kk : WA G d y (pc + 3) ls st (ah_upd h a (kq, fs)) Q) : WA G d y pc ls (.ref a :: st) h Q :=
  WA.write2 (cn := (kq, fs)) (fun p l e R s m args below meth c H locs cells slots Z la C hR hS hL hc1 hs1 K => by
    have hroom := C.room
    subst hq
    have hj7 : j < 7 := (List.getElem?_eq_some_iff.mp hj).1
    have hcr := hR.2.2.2 a _ _ hc
    unfold CR at hcr
    rw [if_neg (by omega), if_neg (by omega), if_neg (by omega), if_neg (by omega), if_pos (by omega)] at hcr
    obtain ⟨ga, C1, cC, kC, e0, e1, e2, e3, e4⟩ := hcr
    rw [Nat.add_sub_cancel_left] at e0
    cases e0.symm.trans hj
    obtain ⟨hKn, hcq, -⟩ := C.K.1 kq _ hk
    have hal := C.warm.alike
    have hcC : G.2.2.1.1 kq = cC := Option.some.inj (hcq.symm.trans (by rw [hal.findClass]; exact e1))
    obtain ⟨kC', hkC', heC⟩ := hal.2.2 _ _ e2
    have hbl : H[a]? = some (freshCell cC kC') := by
      rw [e4]
      unfold blank
      rw [heC]
    intro T hT X
    subst hT
    have htr : e.platform.stackTraces = false := (show e.platform.stackTraces = l.stackTraces by rw [X.admits.platform]).trans C.2.2.2.2.2.2.2.2.1
    have Y := vx_rebase X (R' := { frames := R.frames, locals := R.locals, cells := 0, slots := 0 }) (Nat.le_refl _) (Nat.le_refl _) hc1 hs1
    obtain ⟨s', hA'⟩ : ∃ z, z = (T.setVm s.vm).setFrames (.invoking m args :: below) := ⟨_, rfl⟩
    rw [← hA'] at Y
    have hvm : s'.vm = s.vm := by rw [hA']; rfl
    have hhp : s'.heap = T.heap := by rw [hA']; rfl
    have hW0 : G.1.WarmedH s'.vm := by rw [hvm]; exact C.warm
    have hwd : ∀ w ∈ lw_all, w.before args s' = true := fun w hw => word_at hW0 (lw_self w hw).2 (C.tbl w (lw_all_tbl hw))
    have zq : ∀ n ds, Cond.laysStatic Bundle.tN n ds ∈ lw_tbl → Cond.isRef (.static Bundle.tN n ds) ∈ flatC (Cond.and given_1 narrow_1) → vx_Zq Bundle.tN n ds (fun q => G.1.heap.size ≤ q) s' s'.heap := by
      intro n ds h1 h2
      have hz := vx_Zqof (A := fun q => G.1.heap.size ≤ q) (C.tbl _ h1) (C.tbl _ (lw_all_tbl q104)) (flat_of_before _ C.2.2.2.2.2.2.2.2.2.2.2.2.2.2.1 _ h2) (fun a ha => Nat.not_le.mpr ha)
      rw [hhp]
      exact (vx_Zq.moved hW0.alike hz).kept (fun a ha _ => hR.2.2.1 a ha)
    have z1 := zq _ _ q569 hn1
    have z2 := zq _ _ q571 hn2
    obtain ⟨V, ce, L, Z9, hL9, hV, hcl9, hvm9, hsl9, st9⟩ := xx_ctor Y C.1 htr (own := y.1.cls) (ocls := q.1) (cls := cls) (names := names) (ic := idx) (by rw [hvm]; exact C.own) ok.1 ok.2.1
      (fun w hw => (thr_words w hw).elim (hwd w) fun h9 => by
        simp only [List.mem_cons, List.not_mem_nil, or_false] at h9
        rcases h9 with rfl | rfl
        · exact z1.2.word
        · exact z2.2.word)
      (fun w hw => (ok.2.2 w hw).elim (hwd w) fun ⟨x, hx, h9⟩ => by
        subst hx
        exact va_Nw.use rfl (va_Nw.warmD hW0 (va_Nw.of rfl (C.tbl _ h9))))
      (hwd _ hl) (hwd _ hS0) (hwd _ hSF) (hwd _ hl1) (hwd _ hl2) (hwd _ hl3) (hwd _ hl5) (vx_isRefq z1.1) (vx_isRefq z2.1) (hwd _ q796) (hwd _ q562)
      (a := a) (cX := cC) (kX := kC') (by rw [hvm, hal.findClass]; exact e1) (by rw [hvm]; exact hkC') (by rw [heC]; exact e3) hbl (g := F0 m pc la (.ref a :: st)) rfl (hL.1.trans C.2.2.1.symm) (rest := st) rfl (by rw [C.2.1]; exact hd) (by show names.length + 3 < R.frames; omega) (by show 2 * 0 + (st.map fun v => v.category).sum + (13 * (names.length + 1) + 41) ≤ R.locals; omega)
    have hlt : a < T.heap.size := (Array.getElem?_eq_some_iff.mp hbl).1
    have hh : (V.setCell a ce).heap[a]? = some ce := heapAt_setCell_self (s := V) ce (by rw [hV]; exact hlt)
    subst hA'
    have X5 := xx_back9 X Y Z9
    obtain ⟨ty, hty, hfs⟩ := hfs
    obtain ⟨hin, -, -⟩ := kl_ok kq q hk
    have hts : ∀ w ∈ lw_all, w.before args s = true := fun w hw => C.word hw
    have hborn := u_born (ws := lw_all) (args := args) (o := a) (H := T.heap) (kC := kC') ty hts hin (show u_Kn s q.1 q.2.1 q.2.2 (G.2.2.1.1 kq) (G.2.2.1.2 kq) from C.K.1 kq _ hk) (by rw [hcC]; exact hkC') (by rw [hcC]; exact hbl) (fun i hi => (hty i hi).1)
    obtain ⟨cell9, g1, -, -, g4⟩ := hborn
    cases hbl.symm.trans g1
    obtain ⟨t, a1, b1⟩ := K (V.setCell a ce).heap L hL9 (by rw [size_setCell, hV]) (fun q hq => by rw [heapAt_setCell_ne _ (Ne.symm hq), hV]) ga (CR.ofObj hk ga (by rw [← hfs]; simp) ⟨ce, hh, by rw [hcl9, hcC], hvm9, fun i hi => by
      have hw9 : (Cond.lays q.1 (q.2.1 i).1 (q.2.1 i).2.1 (q.2.1 i).2.2.1).before args ((T.setVm s.vm).setFrames (.invoking m args :: below)) = true ∨ (Cond.laysFinal q.1 (q.2.1 i).1 (q.2.1 i).2.1 (q.2.1 i).2.2.1).before args ((T.setVm s.vm).setFrames (.invoking m args :: below)) = true := by
        have h9 := hwd _ (hin _ (u_in_lay hi))
        unfold u_lay at h9
        split at h9
        · exact Or.inr h9
        · exact Or.inl h9
      rw [hsl9 _ _ _ _ hw9 (hKn i hi) ⟨_, (hty i hi).1⟩ (hty i hi).2.1 (hty i hi).2.2.1 (hty i hi).2.2.2, g4 i hi, ← hfs]
      simp [vp_V, hi]⟩) _ rfl X5
    exact ⟨t, st9 _ a1, b1⟩) kk
end
end EXCM
