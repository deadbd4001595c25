/-! ===== rows over WA: casts, stores of references, copies, statics, natives, exceptions made ===== -/
section MORE
variable {G : GG} {d : Nat} {y : MD} {pc idx : Nat} {ls st : List Value} {h : AH} {Q : RR → AH → Prop}
theorem wa_castN (hd : decode y.2.1 pc = .ok (.checkcast idx, 3)) (kk : WA G d y (pc + 3) ls (.null :: st) h Q) : WA G d y pc ls (.null :: st) h Q := WA.pure (fun p l e R s m args below meth c H locs cells slots Z la C hL K => lv_castN C.1 C.2.1 hd (K la hL)) kk
theorem wa_castY {a k : Nat} {fs : List Value} {q : vw_C} {nm : String} (hd : decode y.2.1 pc = .ok (.checkcast idx, 3)) (hc : h.2.2 a = some (k, fs)) (hk : kl[k]? = some q) (hl : Cond.classLink y.1.cls idx nm ∈ lw_all) (hcast : Cond.castable q.1 nm ∈ lw_tbl) (kk : WA G d y (pc + 3) ls (.ref a :: st) h Q) : WA G d y pc ls (.ref a :: st) h Q :=
  WA.read (fun p l e R s m args below meth c H locs cells slots Z la C hR hS hL h1 h2 K => by
    obtain ⟨cell, g1, g2, g3⟩ := hR.recv C hc hk
    exact va_castY C.1 C.2.1 C.own (C.word hl) (va_Nw.warmC C.warm (va_Nw.of rfl (C.tbl _ hcast))) ⟨cell, g1, by rw [g2]; rfl, g3⟩ hd K) kk
theorem wa_castS {a k : Nat} {fs : List Value} {q : vw_C} (hd : decode y.2.1 pc = .ok (.checkcast idx, 3)) (hc : h.2.2 a = some (k, fs)) (hk : kl[k]? = some q) (hl : Cond.classLink y.1.cls idx q.1 ∈ lw_all) (kk : WA G d y (pc + 3) ls (.ref a :: st) h Q) : WA G d y pc ls (.ref a :: st) h Q :=
  WA.read (fun p l e R s m args below meth c H locs cells slots Z la C hR hS hL h1 h2 K => by
    obtain ⟨cell, g1, g2, g3⟩ := hR.recv C hc hk
    exact va_castS C.1 C.2.1 C.own (C.word hl) (C.K.1 k _ hk).2 ⟨cell, g1, by rw [g2]; rfl, g3⟩ hd K) kk
theorem wa_castA {a k : Nat} {fs : List Value} {E nm : String} (hd : decode y.2.1 pc = .ok (.checkcast idx, 3)) (hc : h.2.2 a = some (k, fs)) (hk : k = 35 ∧ E = "java/lang/Object" ∨ k = 36 ∧ E = "java/util/HashMap$Node") (hl : Cond.classLink y.1.cls idx nm ∈ lw_all) (hnm : "[" ++ (FieldType.object E).toString = nm) (kk : WA G d y (pc + 3) ls (.ref a :: st) h Q) : WA G d y pc ls (.ref a :: st) h Q :=
  WA.read (fun p l e R s m args below meth c H locs cells slots Z la C hR hS hL h1 h2 K => by
    have key : ∀ (j : Nat) (cell : Cell), (tysG G)[j]? = some (G.2.2.2 j, .object E) → H[a]? = some cell → cell.cls = G.2.2.2 j → cell.vm = .none → W p l e R s m args below meth c H locs cells slots Z (F0 m pc la (.ref a :: st)) := by
      intro j cell ht hA e1 e2
      have hcl := va_nmO (C.K.2 j _ ht).2 hnm
      intro T hT X
      obtain ⟨vm', X', st9⟩ := X.checkcastYes C.1 C.own (C.word hl) (by rw [hT]; exact hA) (by rw [e2]; rfl) hcl (by rw [e1]; exact va_asg _ _) (g := F0 m pc la (.ref a :: st)) rfl rfl (by rw [C.2.1]; exact hd)
      obtain ⟨t, a1, b1⟩ := K (T.setVm vm') hT X'
      exact ⟨t, st9 t a1, b1⟩
    rcases hk with ⟨rfl, rfl⟩ | ⟨rfl, rfl⟩
    · exact key 3 _ rfl (hR.arr hc (by decide) (by decide)).2 rfl rfl
    · exact key 4 _ rfl (hR.arr hc (by decide) (by decide)).2 rfl rfl) kk
theorem wa_instN (hd : decode y.2.1 pc = .ok (.instanceof idx, 3)) (kk : WA G d y (pc + 3) ls (.int 0 :: st) h Q) : WA G d y pc ls (.null :: st) h Q := WA.pure (fun p l e R s m args below meth c H locs cells slots Z la C hL K => lv_instN C.1 C.2.1 hd (K la hL)) kk
theorem wa_instY {a k : Nat} {fs : List Value} {q : vw_C} {nm : String} (hd : decode y.2.1 pc = .ok (.instanceof idx, 3)) (hc : h.2.2 a = some (k, fs)) (hk : kl[k]? = some q) (hl : Cond.classLink y.1.cls idx nm ∈ lw_all) (hcast : Cond.castable q.1 nm ∈ lw_tbl) (kk : WA G d y (pc + 3) ls (.int 1 :: st) h Q) : WA G d y pc ls (.ref a :: st) h Q :=
  WA.read (fun p l e R s m args below meth c H locs cells slots Z la C hR hS hL h1 h2 K => by
    obtain ⟨cell, g1, g2, g3⟩ := hR.recv C hc hk
    exact va_instY C.1 C.2.1 C.own (C.word hl) (va_Nw.warmC C.warm (va_Nw.of rfl (C.tbl _ hcast))) ⟨cell, g1, by rw [g2]; rfl, g3⟩ hd K) kk
theorem wa_instS {a k : Nat} {fs : List Value} {q : vw_C} (hd : decode y.2.1 pc = .ok (.instanceof idx, 3)) (hc : h.2.2 a = some (k, fs)) (hk : kl[k]? = some q) (hl : Cond.classLink y.1.cls idx q.1 ∈ lw_all) (kk : WA G d y (pc + 3) ls (.int 1 :: st) h Q) : WA G d y pc ls (.ref a :: st) h Q :=
  WA.read (fun p l e R s m args below meth c H locs cells slots Z la C hR hS hL h1 h2 K => by
    obtain ⟨cell, g1, g2, g3⟩ := hR.recv C hc hk
    exact va_instS C.1 C.2.1 C.own (C.word hl) (C.K.1 k _ hk).2 ⟨cell, g1, by rw [g2]; rfl, g3⟩ hd K) kk
theorem wa_instNo {a k : Nat} {fs : List Value} {q : vw_C} {nm : String} (hd : decode y.2.1 pc = .ok (.instanceof idx, 3)) (hc : h.2.2 a = some (k, fs)) (hk : kl[k]? = some q) (hl : Cond.classLink y.1.cls idx nm ∈ lw_all) (hn : Cond.not (.castable q.1 nm) ∈ flatC (Cond.and given_1 narrow_1)) (kk : WA G d y (pc + 3) ls (.int 0 :: st) h Q) : WA G d y pc ls (.ref a :: st) h Q :=
  WA.read (fun p l e R s m args below meth c H locs cells slots Z la C hR hS hL h1 h2 K => by
    obtain ⟨cell, g1, g2, g3⟩ := hR.recv C hc hk
    exact va_instNo C.1 C.2.1 C.own (C.word hl) (va_Nc.moved C.warm.alike (va_Nc.of (flat_of_before _ C.2.2.2.2.2.2.2.2.2.2.2.2.2.2.1 _ hn))) ⟨cell, g1, by rw [g2]; rfl, g3⟩ hd K) kk
/-- what a cell's class is when it is stored into an array of references -/
def kinOf (E C : String) : Prop := C = E ∨ Cond.castable C E ∈ lw_tbl
theorem kinOf.use {p : Program} {l : Launch} {R : Room} {s : State} {m : MethodId} {meth : Method} {c : Code} (C : CX G d y p l R s m meth c) {E D : String} (hE : kinOf E D) {cE cD : ClassId} (h1 : s.vm.findClass E = some cE) (h2 : s.vm.findClass D = some cD) : s.vm.assignable cD cE = true := by
  rcases hE with rfl | hE
  · cases h1.symm.trans h2
    exact va_asg _ _
  · obtain ⟨c0, t0, f1, f2, f3⟩ := Cond.castable_spec (va_Nw.use (A := #[]) rfl (va_Nw.warmC C.warm (va_Nw.of rfl (C.tbl _ hE))))
    cases h1.symm.trans f2
    cases h2.symm.trans f1
    exact f3
theorem wa_aastore {a b k kb : Nat} {fs gs : List Value} {q : vw_C} {x : Int32} (j : Nat) (E : String) (hd : decode y.2.1 pc = .ok (.aastore, 1)) (hc : h.2.2 a = some (k, fs)) (hk : k = 35 ∧ E = "java/lang/Object" ∨ k = 36 ∧ E = "java/util/HashMap$Node") (hj : x.toInt = (j : Int)) (hl : j < fs.length) (hb : h.2.2 b = some (kb, gs)) (hkb : kl[kb]? = some q) (hkin : kinOf E q.1) (kk : WA G d y (pc + 1) ls st (ah_upd h a (k, fs.set j (.ref b))) Q) : WA G d y pc ls (.ref b :: .int x :: .ref a :: st) h Q :=
  WA.write (cn := (k, fs.set j (.ref b))) (fun p l e R s m args below meth c H locs cells slots Z la C hR hL K => by
    obtain ⟨cv, g1, g2, g3⟩ := hR.recv C hb hkb
    obtain ⟨kv, hkv, -⟩ := Vm.findClass_spec g3
    have h0 : ¬ x < 0 := fun e => ix_in hj hl (Or.inl e)
    have key : ∀ (i : Nat), k = 32 + i → (tysG G)[i]? = some (G.2.2.2 i, .object E) → al[i]? = some (.object E) → W p l e R s m args below meth c H locs cells slots Z (F0 m pc la (.ref b :: .int x :: .ref a :: st)) := by
      intro i hi ht hal
      subst hi
      have hk1 : ¬ 32 + i < 30 := by omega
      have hk2 : 32 + i < 40 := by have : i < 6 := (List.getElem?_eq_some_iff.mp hal).1; omega
      obtain ⟨ga, hA⟩ := hR.arr hc hk1 hk2
      rw [Nat.add_sub_cancel_left] at hA
      obtain ⟨kA, comp, r1, r2, r3, -⟩ := (C.K.2 i _ ht).2
      obtain ⟨kc, hkc, -⟩ := Vm.findClass_spec r3
      refine W.aast C.1 C.2.1 hA (fun q e => by cases e) (fun e => by cases e) r1 r2 rfl hkc ⟨h0, by rw [ix_cl hj]; simpa using hl⟩ g1 (fun q e => by rw [g2] at e; cases e) hkv (hkin.use C r3 g3) rfl rfl hd fun H1 e1 z1 o1 => ?_
      rw [ix_cl hj, toA_set _ _ _ _ hl] at e1
      exact K H1 _ (fun q hq => by rw [List.mem_singleton.mp hq]) z1 o1 ga (CR.ofArr (k := 32 + i) (ty := .object E) hk1 hk2 (by rw [Nat.add_sub_cancel_left]; exact hal) ga (by rw [Nat.add_sub_cancel_left]; exact e1))
    rcases hk with ⟨rfl, rfl⟩ | ⟨rfl, rfl⟩
    · exact key 3 rfl rfl rfl
    · exact key 4 rfl rfl rfl) kk
theorem wa_aastoreN {a k : Nat} {fs : List Value} {x : Int32} (j : Nat) (hd : decode y.2.1 pc = .ok (.aastore, 1)) (hc : h.2.2 a = some (k, fs)) (hk : k = 35 ∨ k = 36) (hj : x.toInt = (j : Int)) (hl : j < fs.length) (kk : WA G d y (pc + 1) ls st (ah_upd h a (k, fs.set j .null)) Q) : WA G d y pc ls (.null :: .int x :: .ref a :: st) h Q :=
  WA.write (cn := (k, fs.set j .null)) (fun p l e R s m args below meth c H locs cells slots Z la C hR hL K => by
    have key : ∀ (i : Nat) (E : String), k = 32 + i → (tysG G)[i]? = some (G.2.2.2 i, .object E) → al[i]? = some (.object E) → W p l e R s m args below meth c H locs cells slots Z (F0 m pc la (.null :: .int x :: .ref a :: st)) := by
      intro i E hi ht hal
      subst hi
      have hk1 : ¬ 32 + i < 30 := by omega
      have hk2 : 32 + i < 40 := by have : i < 6 := (List.getElem?_eq_some_iff.mp hal).1; omega
      obtain ⟨ga, hA⟩ := hR.arr hc hk1 hk2
      rw [Nat.add_sub_cancel_left] at hA
      refine va_WaastN (C := E) C.1 C.2.1 hA (C.arr ht _) (fun e => by cases e) (ix_in hj (by simpa using hl)) rfl rfl hd fun H1 e1 z1 o1 => ?_
      rw [ix_cl hj, toA_set _ _ _ _ hl] at e1
      exact K H1 _ (fun q hq => by rw [List.mem_singleton.mp hq]) z1 o1 ga (CR.ofArr (k := 32 + i) (ty := .object E) hk1 hk2 (by rw [Nat.add_sub_cancel_left]; exact hal) ga (by rw [Nat.add_sub_cancel_left]; exact e1))
    rcases hk with rfl | rfl
    · exact key 3 _ rfl rfl rfl
    · exact key 4 _ rfl rfl rfl) kk
/-- System.arraycopy, as lists -/
def cpL (fs gs : List Value) (sp dp n : Nat) : List Value := (List.range gs.length).map fun j => if dp ≤ j ∧ j < dp + n then fs.getD (sp + (j - dp)) .null else gs.getD j .null
theorem cpL_len (fs gs : List Value) (sp dp n : Nat) : (cpL fs gs sp dp n).length = gs.length := by simp [cpL]
theorem cpL_get (fs gs : List Value) (sp dp n j : Nat) (hj : j < gs.length) : (cpL fs gs sp dp n)[j]? = some (if dp ≤ j ∧ j < dp + n then fs.getD (sp + (j - dp)) .null else gs.getD j .null) := by simp [cpL, hj]
theorem toA_arrV (cA : ClassId) (fs : List Value) : ({ cls := cA, slots := fs.toArray, vm := .none } : Cell) = arrV cA fs.length (fun j => fs.getD j .null) := by
  unfold arrV
  congr 1
  apply Array.ext
  · simp
  · intro i h1 h2
    simp at h1
    simp [h1]
theorem arrV_toA (cA : ClassId) (n : Nat) (f : Nat → Value) : arrV cA n f = { cls := cA, slots := ((List.range n).map f).toArray, vm := .none } := by
  unfold arrV
  congr 1
  apply Array.ext
  · simp
  · intro i h1 h2
    simp
/-- what may be copied into an array of the kind -/
def cpOK (h : AH) (k : Nat) (v : Value) : Prop := k = 32 ∧ (∃ x : Int32, v = .int x) ∨ (k = 35 ∨ k = 36) ∧ (v = .null ∨ ∃ (b kb : Nat) (gs : List Value) (q : vw_C), v = .ref b ∧ h.2.2 b = some (kb, gs) ∧ kl[kb]? = some q ∧ kinOf (if k = 35 then "java/lang/Object" else "java/util/HashMap$Node") q.1)
theorem nn_of {z : Int32} {j : Nat} (hj : z.toInt = (j : Int)) : ¬ z < 0 := by
  rw [Int32.lt_iff_toInt_lt, hj, Int32.toInt_zero]
  omega
theorem wa_copy {a b k : Nat} {fs gs : List Value} {x1 x2 x3 : Int32} (sp dp n : Nat) (hd : decode y.2.1 pc = .ok (.invokestatic idx, 3)) (hl : Cond.methodLink y.1.cls idx arraycopyName ∈ lw_all) (hnat : Cond.native arraycopyName ∈ lw_all) (hstat : Cond.static arraycopyName ∈ lw_all) (hini : Cond.initialized "java/lang/System" ∈ lw_all)
    (ha : h.2.2 a = some (k, fs)) (hb : h.2.2 b = some (k, gs)) (hk : k = 32 ∨ k = 35 ∨ k = 36) (h1 : x1.toInt = (sp : Int)) (h2 : x2.toInt = (dp : Int)) (h3 : x3.toInt = (n : Int)) (h4 : sp + n ≤ fs.length) (h5 : dp + n ≤ gs.length) (hok : ∀ i, i < n → ∀ v, fs[sp + i]? = some v → cpOK h k v) (hcat : (st.map fun v => v.category).sum ≤ 8) (hd2 : 0 < d)
    (kk : WA G d y (pc + 3) ls st (ah_upd h b (k, cpL fs gs sp dp n)) Q) : WA G d y pc ls (.int x3 :: .int x2 :: .ref b :: .int x1 :: .ref a :: st) h Q :=
  WA.write (cn := (k, cpL fs gs sp dp n)) (fun p l e R s m args below meth c H locs cells slots Z la C hR hL K => by
    have hroom := C.room
    have hw : nativeFrameWords "java/lang/System" "arraycopy" 5 + 11 ≤ 60 := by decide
    have key : ∀ (i : Nat) (ty : FieldType), k = 32 + i → (tysG G)[i]? = some (G.2.2.2 i, ty) → al[i]? = some ty → (∀ (T : State) (vm₁ : Vm) (comp : ClassId) (kA : Class), T.heap = H → s.vm.Alike vm₁ → s.vm.classes[G.2.2.2 i]? = some kA → kA.kind = .array comp ty → ∀ z, z < n → ∀ v, fs[sp + z]? = some v → fits ty v = true ∧ (T.setVm vm₁).takes comp v) → W p l e R s m args below meth c H locs cells slots Z (F0 m pc la (.int x3 :: .int x2 :: .ref b :: .int x1 :: .ref a :: st)) := by
      intro i ty hi ht hal hv
      subst hi
      have hk1 : ¬ 32 + i < 30 := by omega
      have hk2 : 32 + i < 40 := by have : i < 6 := (List.getElem?_eq_some_iff.mp hal).1; omega
      obtain ⟨-, hA⟩ := hR.arr ha hk1 hk2
      obtain ⟨gb, hB⟩ := hR.arr hb hk1 hk2
      rw [Nat.add_sub_cancel_left] at hA hB
      obtain ⟨-, kA, hkA, comp, hkind⟩ := C.arr ht #[]
      intro T hT X
      obtain ⟨vm', X', step⟩ := X.arraycopy C.1 C.own (C.word hl) (C.word hnat) (C.word hstat) (C.word hini) (src := a) (dst := b) (cs := { cls := G.2.2.2 i, slots := fs.toArray, vm := .none }) (cd := { cls := G.2.2.2 i, slots := gs.toArray, vm := .none }) (srcPos := x1) (destPos := x2) (n := x3) (by rw [hT]; exact hA) (by rw [hT]; exact hB)
        (fun _ h => by cases h) (fun _ h => by cases h) (fun h => by cases h) (fun h => by cases h) hkA hkA hkind hkind (by simp) (nn_of h1) (nn_of h2) (nn_of h3)
        (by rw [h1, h3]; show ¬ _ > ((fs.toArray.size : Nat) : Int); simp; omega)
        (by rw [h2, h3]; show ¬ _ > ((gs.toArray.size : Nat) : Int); simp; omega)
        (fun vm₁ hal9 z hz => by
          rw [ix_cl h3] at hz
          have hlt : sp + z < fs.length := by omega
          have e9 : ({ cls := G.2.2.2 i, slots := fs.toArray, vm := .none } : Cell).slots.getD (x1.toNatClampNeg + z) .null = fs[sp + z] := by
            rw [ix_cl h1]
            simp [hlt]
          rw [e9]
          exact hv T vm₁ comp kA hT hal9 hkA hkind z hz _ (List.getElem?_eq_getElem hlt))
        (g := F0 m pc la (.int x3 :: .int x2 :: .ref b :: .int x1 :: .ref a :: st)) rfl (hL.1.trans C.2.2.1.symm) (rest := st) rfl (by rw [C.2.1]; exact hd) (by omega) (by show 2 * 0 + (st.map fun v => v.category).sum + (nativeFrameWords "java/lang/System" "arraycopy" 5 + 11) ≤ _; omega)
      have e1 : copied { cls := G.2.2.2 i, slots := fs.toArray, vm := .none } { cls := G.2.2.2 i, slots := gs.toArray, vm := .none } x1 x2 x3 = { cls := G.2.2.2 i, slots := (cpL fs gs sp dp n).toArray, vm := .none } := by
        unfold copied
        rw [ix_cl h1, ix_cl h2, ix_cl h3, toA_arrV _ fs, toA_arrV _ gs]
        rw [va_copied (fun z : Value => z) (G.2.2.2 i) (G.2.2.2 i) (fun j => fs.getD j .null) (fun j => gs.getD j .null) h4, arrV_toA]
        rfl
      rw [e1] at X' step
      have hlb : b < H.size := (Array.getElem?_eq_some_iff.mp hB).1
      generalize hH1 : ((T.setVm vm').setCell b { cls := G.2.2.2 i, slots := (cpL fs gs sp dp n).toArray, vm := .none }).heap = H1
      have e5 : H1 = H.setIfInBounds b { cls := G.2.2.2 i, slots := (cpL fs gs sp dp n).toArray, vm := .none } := by rw [← hH1, ← hT]; rfl
      obtain ⟨t, a1, b1⟩ := K H1 _ (fun q hq => by
          obtain ⟨z, -, hz⟩ := List.mem_map.mp hq
          rw [← hz]) (by rw [e5]; simp) (fun q hq => by rw [e5]; simp [Array.getElem?_setIfInBounds, Ne.symm hq]) gb (CR.ofArr (k := 32 + i) (ty := ty) hk1 hk2 (by rw [Nat.add_sub_cancel_left]; exact hal) gb (by rw [Nat.add_sub_cancel_left, e5]; simp [Array.getElem?_setIfInBounds, hlb])) _ hH1 X'
      exact ⟨t, step t a1, b1⟩
    have hrefs : ∀ (E : String) (i : Nat), k = 32 + i → (k = 35 ∨ k = 36) → (if k = 35 then "java/lang/Object" else "java/util/HashMap$Node") = E → (tysG G)[i]? = some (G.2.2.2 i, .object E) → (∀ (T : State) (vm₁ : Vm) (comp : ClassId) (kA : Class), T.heap = H → s.vm.Alike vm₁ → s.vm.classes[G.2.2.2 i]? = some kA → kA.kind = .array comp (.object E) → ∀ z, z < n → ∀ v, fs[sp + z]? = some v → fits (.object E) v = true ∧ (T.setVm vm₁).takes comp v) := by
      intro E i hi hk35 hE ht T vm₁ comp kA hT hal9 hkA hkind z hz v hv
      rcases hok z hz v hv with ⟨e0, -⟩ | ⟨-, rfl | ⟨bb, kb, gs9, q, rfl, hbb, hkb, hkin⟩⟩
      · rcases hk35 with e | e <;> omega
      · exact ⟨rfl, trivial⟩
      · rw [hE] at hkin
        obtain ⟨cellV, g1, g2, g3⟩ := hR.recv C hbb hkb
        obtain ⟨kA', comp', r1, r2, r3, -⟩ := (C.K.2 i _ ht).2
        cases hkA.symm.trans r1
        cases hkind.symm.trans r2
        obtain ⟨kC, hkC, -⟩ := Vm.findClass_spec g3
        obtain ⟨kE, hkE, -⟩ := Vm.findClass_spec r3
        obtain ⟨kC', hkC', -⟩ := hal9.2.2 _ _ hkC
        obtain ⟨kE', hkE', -⟩ := hal9.2.2 _ _ hkE
        refine ⟨rfl, cellV, (show T.heap[bb]? = some cellV by rw [hT]; exact g1), (fun q h => by rw [g2] at h; cases h), ⟨kC', hkC'⟩, ⟨kE', hkE'⟩, ?_⟩
        show vm₁.assignable _ _ = true
        rw [hal9.assignable]
        exact hkin.use C r3 g3
    rcases hk with rfl | rfl | rfl
    · exact key 0 .int rfl rfl rfl (fun T vm₁ comp kA hT hal9 hkA hkind z hz v hv => by
        rcases hok z hz v hv with ⟨-, x, rfl⟩ | ⟨e, -⟩
        · exact ⟨rfl, trivial⟩
        · omega)
    · exact key 3 _ rfl rfl rfl (hrefs _ 3 rfl (Or.inl rfl) rfl rfl)
    · exact key 4 _ rfl rfl rfl (hrefs _ 4 rfl (Or.inr rfl) rfl rfl)) kk
/-- a static field whose value the start gives -/
theorem wa_gets {C n ds ref : String} {v : Value} (hd : decode y.2.1 pc = .ok (.getstatic idx, 3)) (hl : Cond.fieldLink y.1.cls idx ref n ds ∈ lw_all) (hs : ref = C ∨ Cond.sameField ref C n ds ∈ lw_all) (hlay : Cond.laysStatic C n ds ∈ lw_tbl) (hini : Cond.initialized C ∈ lw_tbl) (hv : (Term.static C n ds).eval G.2.1 G.1 none [] G.1 = some v)
    (kk : WA G d y (pc + 3) ls (v :: st) h Q) : WA G d y pc ls st h Q :=
  WA.read (fun p l e R s m args below meth c H locs cells slots Z la C9 hR hS hL h1 h2 K => by
    have hZ : va_Z C n ds v (fun q => G.1.heap.size ≤ q) G.1 G.1.heap := va_Zof (C9.tbl _ hlay) (C9.tbl _ hini) hv (fun a ha => Nat.not_le.mpr ha)
    have hZ2 : va_Z C n ds v (fun q => G.1.heap.size ≤ q) s s.heap := (va_Z.moved C9.warm.alike hZ).kept (fun a ha _ => C9.2.2.2.2.2.2.2.2.2.2.2.2.2.1 a ha)
    exact va_gets C9.1 C9.2.1 hZ2 hS C9.own (C9.word hl) (fun x hx => hs.elim (fun e => by rw [e]; exact hx) (fun w9 => u_same (C9.word (a := #[]) w9) x hx)) hd K) kk
theorem wa_min {x z : Int32} (hd : decode y.2.1 pc = .ok (.invokestatic idx, 3)) (hl : Cond.methodLink y.1.cls idx Lib.Math.min.name ∈ lw_all) (hstat : Cond.static Lib.Math.min.name ∈ lw_all) (hini : Cond.initialized "java/lang/Math" ∈ lw_all) (hcode : Cond.code Lib.Math.min.name Lib.Math.min.code 2 (some .int) ∈ lw_all) (hcat : (st.map fun v => v.category).sum ≤ 8) (hd2 : 0 < d)
    (kk : WA G d y (pc + 3) ls (.int (if z < x then z else x) :: st) h Q) : WA G d y pc ls (.int z :: .int x :: st) h Q :=
  WA.read (fun p l e R s m args below meth c H locs cells slots Z la C hR hS hL h1 h2 K => by
    have := C.room
    exact va_mmin C.1 C.2.1 (C.2.2.1.trans hL.1.symm) C.own (C.word hl) (C.word hstat) (C.word hini) (C.word hcode) (by omega) (by omega) h1 h2 hd K) kk
theorem wa_max {x z : Int32} (hd : decode y.2.1 pc = .ok (.invokestatic idx, 3)) (hl : Cond.methodLink y.1.cls idx Lib.Math.max.name ∈ lw_all) (hstat : Cond.static Lib.Math.max.name ∈ lw_all) (hini : Cond.initialized "java/lang/Math" ∈ lw_all) (hcode : Cond.code Lib.Math.max.name Lib.Math.max.code 2 (some .int) ∈ lw_all) (hcat : (st.map fun v => v.category).sum ≤ 8) (hd2 : 0 < d)
    (kk : WA G d y (pc + 3) ls (.int (if x < z then z else x) :: st) h Q) : WA G d y pc ls (.int z :: .int x :: st) h Q :=
  WA.read (fun p l e R s m args below meth c H locs cells slots Z la C hR hS hL h1 h2 K => by
    have := C.room
    exact va_mmax C.1 C.2.1 (C.2.2.1.trans hL.1.symm) C.own (C.word hl) (C.word hstat) (C.word hini) (C.word hcode) (by omega) (by omega) h1 h2 hd K) kk
theorem wa_d2l {b : UInt64} (hd : decode y.2.1 pc = .ok (.invokestatic idx, 3)) (hl : Cond.methodLink y.1.cls idx ⟨"java/lang/Double", "doubleToRawLongBits", "(D)J"⟩ ∈ lw_all) (hnat : Cond.native ⟨"java/lang/Double", "doubleToRawLongBits", "(D)J"⟩ ∈ lw_all) (hstat : Cond.static ⟨"java/lang/Double", "doubleToRawLongBits", "(D)J"⟩ ∈ lw_all) (hini : Cond.initialized "java/lang/Double" ∈ lw_all) (hcat : (st.map fun v => v.category).sum ≤ 8) (hd2 : 0 < d)
    (kk : WA G d y (pc + 3) ls (.long b.toInt64 :: st) h Q) : WA G d y pc ls (.double b :: st) h Q :=
  WA.read (fun p l e R s m args below meth c H locs cells slots Z la C hR hS hL h1 h2 K => by
    have := C.room
    exact vn_d2l C.1 C.2.1 (C.2.2.1.trans hL.1.symm) C.own (C.word hl) (C.word hnat) (C.word hstat) (C.word hini) (by omega) (by omega) hd K) kk
theorem wa_ldc {v : Int32} (hd : decode y.2.1 pc = .ok (.ldc idx, 2)) (hw : Cond.constant y.1.cls idx v ∈ lw_all) (kk : WA G d y (pc + 2) ls (.int v :: st) h Q) : WA G d y pc ls st h Q := WA.pure (fun p l e R s m args below meth c H locs cells slots Z la C hL K => lv_ldc C.1 C.2.1 C.own (C.word hw) hd (K la hL)) kk
theorem wa_ldcw {v : Int32} (hd : decode y.2.1 pc = .ok (.ldc_w idx, 3)) (hw : Cond.constant y.1.cls idx v ∈ lw_all) (kk : WA G d y (pc + 3) ls (.int v :: st) h Q) : WA G d y pc ls st h Q := WA.pure (fun p l e R s m args below meth c H locs cells slots Z la C hL K => lv_ldcw C.1 C.2.1 C.own (C.word hw) hd (K la hL)) kk
theorem wa_ldcf {v : UInt32} (hd : decode y.2.1 pc = .ok (.ldc idx, 2)) (hw : Cond.constantFloat y.1.cls idx v ∈ lw_all) (kk : WA G d y (pc + 2) ls (.float v :: st) h Q) : WA G d y pc ls st h Q := WA.pure (fun p l e R s m args below meth c H locs cells slots Z la C hL K => lv_ldcf C.1 C.2.1 C.own (C.word hw) hd (K la hL)) kk
theorem wa_ldc2 {v : Int64} (hd : decode y.2.1 pc = .ok (.ldc2_w idx, 3)) (hw : Cond.constantLong y.1.cls idx v ∈ lw_all) (kk : WA G d y (pc + 3) ls (.long v :: st) h Q) : WA G d y pc ls st h Q := WA.pure (fun p l e R s m args below meth c H locs cells slots Z la C hL K => lv_ldc2 C.1 C.2.1 C.own (C.word hw) hd (K la hL)) kk
theorem wa_ldc2d {v : UInt64} (hd : decode y.2.1 pc = .ok (.ldc2_w idx, 3)) (hw : Cond.constantDouble y.1.cls idx v ∈ lw_all) (kk : WA G d y (pc + 3) ls (.double v :: st) h Q) : WA G d y pc ls st h Q := WA.pure (fun p l e R s m args below meth c H locs cells slots Z la C hL K => lv_ldc2d C.1 C.2.1 C.own (C.word hw) hd (K la hL)) kk
end MORE
