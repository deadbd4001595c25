/-! ===== rows over WA: fields, arrays, new cells ===== -/
theorem in_Ref : ∀ w ∈ u_ws RX10 TRef 1, w ∈ lw_all := by
  intro w h
  simp only [u_ws, List.range_succ, List.range_zero, List.nil_append, List.map_cons, List.map_nil, List.mem_cons, List.not_mem_nil, or_false] at h
  rw [h]
  exact q1985
theorem in_Bad : ∀ w ∈ u_ws RX14 TBad 1, w ∈ lw_all := by
  intro w h
  simp only [u_ws, List.range_succ, List.range_zero, List.nil_append, List.map_cons, List.map_nil, List.mem_cons, List.not_mem_nil, or_false] at h
  rw [h]
  exact q2572
theorem in_None (C : String) : ∀ w ∈ u_ws C TNone 0, w ∈ lw_all := by
  intro w h
  simp [u_ws] at h
def KOK (q : vw_C) : Prop := (∀ w ∈ u_ws q.1 q.2.1 q.2.2, w ∈ lw_all) ∧ (∃ ty : Nat → FieldType, ∀ k, k < q.2.2 → parseFieldDescriptor (q.2.1 k).2.2.1 = some (ty k)) ∧ ∀ a, a < q.2.2 → ∀ b, b < q.2.2 → a ≠ b → (q.2.1 a).2.1 ≠ (q.2.1 b).2.1
theorem kl_ok (k : Nat) (q : vw_C) (h : kl[k]? = some q) : KOK q := by
  match k, h with
  | 0, h => cases h; exact ⟨in_X1, ⟨tyX1, tyX1_ok⟩, nmX1⟩
  | 1, h => cases h; exact ⟨in_X2, ⟨tyX2, tyX2_ok⟩, nmX2⟩
  | 2, h => cases h; exact ⟨in_X3, ⟨tyX3, tyX3_ok⟩, nmX3⟩
  | 3, h => cases h; exact ⟨in_X4, ⟨tyX4, tyX4_ok⟩, nmX4⟩
  | 4, h => cases h; exact ⟨in_X5, ⟨tyX5, tyX5_ok⟩, nmX5⟩
  | 5, h => cases h; exact ⟨in_X6, ⟨tyX6, tyX6_ok⟩, nmX6⟩
  | 6, h => cases h; exact ⟨in_X7, ⟨tyX7, tyX7_ok⟩, nmX7⟩
  | 7, h => cases h; exact ⟨in_X9, ⟨tyX9, tyX9_ok⟩, nmX9⟩
  | 8, h => cases h; exact ⟨in_X11, ⟨tyX11, tyX11_ok⟩, nmX11⟩
  | 9, h => cases h; exact ⟨in_X12, ⟨tyX12, tyX12_ok⟩, nmX12⟩
  | 10, h => cases h; exact ⟨in_X13, ⟨tyX13, tyX13_ok⟩, nmX13⟩
  | 11, h => cases h; exact ⟨in_J2, ⟨tyJ2, tyJ2_ok⟩, nmJ2⟩
  | 12, h => cases h; exact ⟨in_J5, ⟨tyJ5, tyJ5_ok⟩, nmJ5⟩
  | 13, h => cases h; exact ⟨in_J25, ⟨tyJ25, tyJ25_ok⟩, nmJ25⟩
  | 14, h => cases h; exact ⟨in_J26, ⟨tyJ26, tyJ26_ok⟩, nmJ26⟩
  | 15, h => cases h; exact ⟨in_J36, ⟨tyJ36, tyJ36_ok⟩, nmJ36⟩
  | 16, h => cases h; exact ⟨in_J31, ⟨tyJ31, tyJ31_ok⟩, nmJ31⟩
  | 17, h => cases h; exact ⟨in_J39, ⟨tyJ39, tyJ39_ok⟩, nmJ39⟩
  | 18, h => cases h; exact ⟨in_J41, ⟨tyJ41, tyJ41_ok⟩, nmJ41⟩
  | 19, h => cases h; exact ⟨in_J28, ⟨tyJ28, tyJ28_ok⟩, nmJ28⟩
  | 20, h => cases h; exact ⟨in_J30, ⟨tyJ30, tyJ30_ok⟩, nmJ30⟩
  | 21, h => cases h; exact ⟨in_Ref, ⟨fun _ => .int, fun k _ => (by decide +kernel : parseFieldDescriptor "I" = some FieldType.int)⟩, fun a ha b hb hab => absurd ((Nat.lt_one_iff.mp ha).trans (Nat.lt_one_iff.mp hb).symm) hab⟩
  | 22, h => cases h; exact ⟨in_Bad, ⟨fun _ => .int, fun k _ => (by decide +kernel : parseFieldDescriptor "I" = some FieldType.int)⟩, fun a ha b hb hab => absurd ((Nat.lt_one_iff.mp ha).trans (Nat.lt_one_iff.mp hb).symm) hab⟩
  | 23, h => cases h; exact ⟨in_None _, ⟨fun _ => .int, fun k hk => absurd hk (Nat.not_lt_zero k)⟩, fun a ha => absurd ha (Nat.not_lt_zero a)⟩
  | 24, h => cases h; exact ⟨in_None _, ⟨fun _ => .int, fun k hk => absurd hk (Nat.not_lt_zero k)⟩, fun a ha => absurd ha (Nat.not_lt_zero a)⟩
  | 25, h => cases h; exact ⟨in_None _, ⟨fun _ => .int, fun k hk => absurd hk (Nat.not_lt_zero k)⟩, fun a ha => absurd ha (Nat.not_lt_zero a)⟩
  | 26, h => cases h; exact ⟨in_None _, ⟨fun _ => .int, fun k hk => absurd hk (Nat.not_lt_zero k)⟩, fun a ha => absurd ha (Nat.not_lt_zero a)⟩
  | 27, h => cases h; exact ⟨in_None _, ⟨fun _ => .int, fun k hk => absurd hk (Nat.not_lt_zero k)⟩, fun a ha => absurd ha (Nat.not_lt_zero a)⟩
  | k + 28, h => simp [kl] at h
section HEAPR
variable {G : GG} {d : Nat} {y : MD} {pc : Nat} {ls st : List Value} {h : AH} {Q : RR → AH → Prop}
theorem kl_lt {k : Nat} {q : vw_C} (hk : kl[k]? = some q) : k < 30 := by
  have h1 := (List.getElem?_eq_some_iff.mp hk).1
  have h2 : kl.length = 28 := rfl
  omega
theorem CR.obj {a k : Nat} {fs : List Value} {H : Heap} {q : vw_C} (hk : kl[k]? = some q) (hc : CR G a k fs H) : G.1.heap.size ≤ a ∧ fs.length = q.2.2 ∧ va_P G.2.2.1 kl [(a, .inr (k, fs))] H := by
  unfold CR at hc
  rw [if_pos (kl_lt hk)] at hc
  obtain ⟨h1, q', h2, h3, h4⟩ := hc
  cases h2.symm.trans hk
  refine ⟨h1, h3, fun j x hj => ?_⟩
  have hz : j < 1 := (List.getElem?_eq_some_iff.mp hj).1
  rw [show j = 0 by omega] at hj
  cases hj
  exact ⟨q, hk, h4⟩
theorem CR.ofObj {a k : Nat} {fs : List Value} {H : Heap} {q : vw_C} (hk : kl[k]? = some q) (ha : G.1.heap.size ≤ a) (hl : fs.length = q.2.2) (ho : t_OB a (G.2.2.1.1 k) q.2.2 (G.2.2.1.2 k) H (vp_V fs)) : CR G a k fs H := by
  unfold CR
  rw [if_pos (kl_lt hk)]
  exact ⟨ha, q, hk, hl, ho⟩
theorem Rep.obj {H : Heap} (hR : Rep G h H) {a k : Nat} {fs : List Value} {q : vw_C} (hc : h.2.2 a = some (k, fs)) (hk : kl[k]? = some q) : G.1.heap.size ≤ a ∧ fs.length = q.2.2 ∧ va_P G.2.2.1 kl [(a, .inr (k, fs))] H := CR.obj hk (hR.2.2.2 a k fs hc)
/-- a field under the name by which it is spelt -/
def samef (ref : String) (t : String × String × String × Bool) : Prop := ref = t.1 ∨ Cond.sameField ref t.1 t.2.1 t.2.2.1 ∈ lw_all
theorem samef.use {p : Program} {l : Launch} {R : Room} {s : State} {m : MethodId} {meth : Method} {c : Code} {ref : String} {t : String × String × String × Bool} (hs : samef ref t) (C : CX G d y p l R s m meth c) (x : ClassId × Class × Nat × Field) (hx : s.fieldFound? t.1 t.2.1 t.2.2.1 = some x) : s.fieldFound? ref t.2.1 t.2.2.1 = some x := by
  rcases hs with rfl | hs
  · exact hx
  · exact u_same (C.word (a := #[]) hs) x hx
theorem wa_getf {idx a k : Nat} {fs : List Value} {q : vw_C} {ref : String} (i : Nat) {v : Value} (hd : decode y.2.1 pc = .ok (.getfield idx, 3)) (hc : h.2.2 a = some (k, fs)) (hk : kl[k]? = some q) (hl : Cond.fieldLink y.1.cls idx ref (q.2.1 i).2.1 (q.2.1 i).2.2.1 ∈ lw_all) (hs : samef ref (q.2.1 i)) (hi : i < q.2.2) (hv : fs[i]? = some v)
    (kk : WA G d y (pc + 3) ls (v :: st) h Q) : WA G d y pc ls (.ref a :: st) h Q :=
  WA.read (fun p l e R s m args below meth c H locs cells slots Z la C hR hS hL h1 h2 K =>
    va_get C.1 C.2.1 (own := y.1.cls) (Ts := lw_all) (fun w hw => C.word hw) (kl_ok k q hk).1 C.own C.K (hR.obj hc hk).2.2 0 rfl hk i hi (C.word hl) (hs.use C) hv hd K) kk
theorem wa_getfN {idx a k : Nat} {fs : List Value} {q : vw_C} {ref host : String} (i : Nat) {v : Value} (hd : decode y.2.1 pc = .ok (.getfield idx, 3)) (hc : h.2.2 a = some (k, fs)) (hk : kl[k]? = some q) (hl : Cond.fieldLinkNest y.1.cls idx ref (q.2.1 i).2.1 (q.2.1 i).2.2.1 host ∈ lw_tbl) (hs : samef ref (q.2.1 i)) (hi : i < q.2.2) (hv : fs[i]? = some v)
    (kk : WA G d y (pc + 3) ls (v :: st) h Q) : WA G d y pc ls (.ref a :: st) h Q :=
  WA.read (fun p l e R s m args below meth c H locs cells slots Z la C hR hS hL h1 h2 K =>
    va_getN C.1 C.2.1 (own := y.1.cls) (Ts := lw_all) (fun w hw => C.word hw) (kl_ok k q hk).1 C.own C.K (hR.obj hc hk).2.2 0 rfl hk i hi (va_Nw.use rfl (va_Nw.warmF C.warm (va_Nw.of rfl (C.tbl _ hl)))) (hs.use C) hv hd K) kk
theorem put_end {p : Program} {l : Launch} {R : Room} {s : State} {m : MethodId} {meth : Method} {c : Code} (C : CX G d y p l R s m meth c) {a k i sl : Nat} {fs : List Value} {v : Value} {q : vw_C} {H' : Heap} {cell : Cell} (hk : kl[k]? = some q) (ga : G.1.heap.size ≤ a) (hlen : fs.length = q.2.2) (hi : i < q.2.2) (hsl : (G.2.2.1.2 k) i = sl) (q2 : cell.cls = G.2.2.1.1 k) (q3 : cell.vm = .none) (q4 : ∀ j, j < q.2.2 → cell.slots[(G.2.2.1.2 k) j]? = some (vp_V fs j)) (e1 : H'[a]? = some (cell.setSlot sl v)) : CR G a k (fs.set i v) H' := by
  obtain ⟨hin, ⟨ty0, hty0⟩, hnm⟩ := kl_ok k q hk
  have hap := va_apart (own := y.1.cls) (Ts := lw_all) (s := s) (args := #[]) (D := G.2.2.1) (cl := kl) (tys := tysG G) (fun w hw => C.word hw) hin ty0 hty0 hnm C.K hk
  subst hsl
  exact CR.ofObj hk ga (by simp [hlen]) (t_OB.to (V := updV (vp_V fs) i v) ⟨_, e1, q2, q3, t_set q4 hap hi v⟩ (fun j _ => vp_updV_set (by omega) v j))
theorem wa_putf {idx a k : Nat} {fs : List Value} {q : vw_C} {ref : String} (i : Nat) {v : Value} (ty : FieldType) (hd : decode y.2.1 pc = .ok (.putfield idx, 3)) (hc : h.2.2 a = some (k, fs)) (hk : kl[k]? = some q) (hl : Cond.fieldLink y.1.cls idx ref (q.2.1 i).2.1 (q.2.1 i).2.2.1 ∈ lw_all) (hs : samef ref (q.2.1 i)) (hi : i < q.2.2) (hfin : (q.2.1 i).2.2.2 = false) (hty : parseFieldDescriptor (q.2.1 i).2.2.1 = some ty) (hn : narrow ty v = v) (hfit : fits ty v = true)
    (kk : WA G d y (pc + 3) ls st (ah_upd h a (k, fs.set i v)) Q) : WA G d y pc ls (v :: .ref a :: st) h Q :=
  WA.write (cn := (k, fs.set i v)) (fun p l e R s m args below meth c H locs cells slots Z la C hR hL K => by
    obtain ⟨ga, hlen, hP⟩ := hR.obj hc hk
    obtain ⟨hin, -, -⟩ := kl_ok k q hk
    have hts : ∀ w ∈ lw_all, w.before args s = true := fun w hw => C.word hw
    obtain ⟨r, h1, cell, q1, q2, q3, q4⟩ := hP 0 _ rfl
    cases h1.symm.trans hk
    obtain ⟨hS, hfc, kC, hkC, hkind⟩ := C.K.1 k _ hk
    obtain ⟨cf, kf, fi, f, hi9, hsl⟩ := hS i hi
    have hlay := hts _ (hin _ (u_in_lay hi))
    unfold u_lay at hlay
    rw [if_neg (by rw [hfin]; decide)] at hlay
    have hst := (u_facts hfc hkC (u_lays hts hin hi) hi9).1
    have h6 := u_store hfc hkC hkind hlay hi9 hty hn hfit
    refine W.putK C.1 C.2.1 (f := f) ⟨C.own, C.word hl, ⟨_, _, _, hs.use C _ hi9⟩, hst⟩ (by rw [q2]; exact h6) q1 q3 (by rw [hsl]; exact k2_hasslot (q4 i hi)) rfl rfl hd fun H' e1 e2 e3 => ?_
    exact K H' _ (fun z hz => by rw [List.mem_singleton.mp hz]) e2 e3 ga (put_end C hk ga hlen hi hsl.symm q2 q3 q4 e1)) kk
theorem wa_putfN {idx a k : Nat} {fs : List Value} {q : vw_C} {ref host : String} (i : Nat) {v : Value} (ty : FieldType) (hd : decode y.2.1 pc = .ok (.putfield idx, 3)) (hc : h.2.2 a = some (k, fs)) (hk : kl[k]? = some q) (hl : Cond.fieldLinkNest y.1.cls idx ref (q.2.1 i).2.1 (q.2.1 i).2.2.1 host ∈ lw_tbl) (hs : samef ref (q.2.1 i)) (hi : i < q.2.2) (hfin : (q.2.1 i).2.2.2 = false) (hty : parseFieldDescriptor (q.2.1 i).2.2.1 = some ty) (hn : narrow ty v = v) (hfit : fits ty v = true)
    (kk : WA G d y (pc + 3) ls st (ah_upd h a (k, fs.set i v)) Q) : WA G d y pc ls (v :: .ref a :: st) h Q :=
  WA.write (cn := (k, fs.set i v)) (fun p l e R s m args below meth c H locs cells slots Z la C hR hL K => by
    obtain ⟨ga, hlen, hP⟩ := hR.obj hc hk
    obtain ⟨hin, -, -⟩ := kl_ok k q hk
    have hts : ∀ w ∈ lw_all, w.before args s = true := fun w hw => C.word hw
    obtain ⟨r, h1, cell, q1, q2, q3, q4⟩ := hP 0 _ rfl
    cases h1.symm.trans hk
    obtain ⟨hS, hfc, kC, hkC, hkind⟩ := C.K.1 k _ hk
    obtain ⟨cf, kf, fi, f, hi9, hsl⟩ := hS i hi
    have hlay := hts _ (hin _ (u_in_lay hi))
    unfold u_lay at hlay
    rw [if_neg (by rw [hfin]; decide)] at hlay
    have hst := (u_facts hfc hkC (u_lays hts hin hi) hi9).1
    have h6 := u_store hfc hkC hkind hlay hi9 hty hn hfit
    refine va_WputK C.1 C.2.1 (f := f) C.own (va_Nw.use rfl (va_Nw.warmF C.warm (va_Nw.of rfl (C.tbl _ hl)))) (hs.use C _ hi9) hst (by rw [q2]; exact h6) q1 q3 (by rw [hsl]; exact k2_hasslot (q4 i hi)) rfl rfl hd fun H' e1 e2 e3 => ?_
    exact K H' _ (fun z hz => by rw [List.mem_singleton.mp hz]) e2 e3 ga (put_end C hk ga hlen hi hsl.symm q2 q3 q4 e1)) kk
/-- a final field, in a constructor of its own class -/
theorem wa_putfF {idx a k : Nat} {fs : List Value} {q : vw_C} {ref : String} (i : Nat) {v : Value} (ty : FieldType) (hd : decode y.2.1 pc = .ok (.putfield idx, 3)) (hc : h.2.2 a = some (k, fs)) (hk : kl[k]? = some q) (hl : Cond.fieldLink y.1.cls idx ref (q.2.1 i).2.1 (q.2.1 i).2.2.1 ∈ lw_all) (hs : samef ref (q.2.1 i)) (hi : i < q.2.2) (hfin : (q.2.1 i).2.2.2 = true) (hinit : y.1.name = "<init>") (hdecl : (q.2.1 i).1 = y.1.cls) (hty : parseFieldDescriptor (q.2.1 i).2.2.1 = some ty) (hn : narrow ty v = v) (hfit : fits ty v = true)
    (kk : WA G d y (pc + 3) ls st (ah_upd h a (k, fs.set i v)) Q) : WA G d y pc ls (v :: .ref a :: st) h Q :=
  WA.write (cn := (k, fs.set i v)) (fun p l e R s m args below meth c H locs cells slots Z la C hR hL K => by
    obtain ⟨ga, hlen, hP⟩ := hR.obj hc hk
    obtain ⟨hin, -, -⟩ := kl_ok k q hk
    have hts : ∀ w ∈ lw_all, w.before args s = true := fun w hw => C.word hw
    obtain ⟨r, h1, cell, q1, q2, q3, q4⟩ := hP 0 _ rfl
    cases h1.symm.trans hk
    obtain ⟨hS, hfc, kC, hkC, hkind⟩ := C.K.1 k _ hk
    obtain ⟨cf, kf, fi, f, hi9, hsl⟩ := hS i hi
    have hlay := hts _ (hin _ (u_in_lay hi))
    unfold u_lay at hlay
    rw [if_pos hfin] at hlay
    have hst := (u_facts hfc hkC (u_lays hts hin hi) hi9).1
    have hcf : m.cls = cf := by
      obtain ⟨_, _, c', _, _, _, -, -, hf', -, -, -, hown2, -⟩ := Cond.laysFinal_spec hlay
      have e1 : c' = cf := by have := hi9.symm.trans hf'; simp at this; exact this.1.symm
      rw [hdecl] at hown2
      rw [← e1]; exact Option.some.inj (C.own.symm.trans hown2)
    have h6 := u_fits hfc hkC hkind (Or.inr hlay) hi9 hty hn hfit
    refine W.putFinK C.1 C.2.1 C.own (C.word hl) (hs.use C _ hi9) hst hcf (by rw [C.2.2.2.2.2.2.2.1.1]; exact hinit) (by rw [q2]; exact h6) q1 q3 (by rw [hsl]; exact k2_hasslot (q4 i hi)) rfl rfl hd fun H' e1 e2 e3 => ?_
    exact K H' _ (fun z hz => by rw [List.mem_singleton.mp hz]) e2 e3 ga (put_end C hk ga hlen hi hsl.symm q2 q3 q4 e1)) kk
theorem wa_new {idx k : Nat} {q : vw_C} (fs : List Value) (ty : Nat → FieldType) (hd : decode y.2.1 pc = .ok (.new idx, 3)) (hk : kl[k]? = some q) (hcl : Cond.classLink y.1.cls idx q.1 ∈ lw_all) (hinst : Cond.instantiable q.1 q.2.2 ∈ lw_all) (hini : Cond.initialized q.1 ∈ lw_all) (hty : ∀ j, j < q.2.2 → parseFieldDescriptor (q.2.1 j).2.2.1 = some (ty j)) (hfs : (List.range q.2.2).map (fun j => defaultValue (ty j)) = fs)
    (kk : WA G d y (pc + 3) ls (.ref h.1 :: st) (ah_new h k fs q.2.2) Q) : WA G d y pc ls st h Q :=
  WA.make (fun p l e R s m args below meth c H locs cells slots Z la C hR hS hL h1 h2 hz K => by
    obtain ⟨hin, -, -⟩ := kl_ok k q hk
    have hts : ∀ w ∈ lw_all, w.before args s = true := fun w hw => C.word hw
    have hKn := C.K.1 k _ hk
    refine W.newcK C.1 C.2.1 C.own (C.word hcl) (C.word hinst) (C.word hini) rfl hd h1 h2 hKn.2.1 hz fun H1 kC hkC e1 z1 o1 => ?_
    refine K H1 z1 o1 (CR.ofObj hk hR.2.1 (by rw [← hfs]; simp) ?_)
    refine (u_born ty hts hin hKn hkC e1 hty).to fun j hj => ?_
    rw [← hfs]
    simp [vp_V, hj]) kk
theorem CX.arr {p : Program} {l : Launch} {R : Room} {s : State} {m : MethodId} {meth : Method} {c : Code} (C : CX G d y p l R s m meth c) {j : Nat} {ty : FieldType} (hj : (tysG G)[j]? = some (G.2.2.2 j, ty)) (sl : Array Value) : s.isArrayOf { cls := G.2.2.2 j, slots := sl, vm := .none } ty := by
  obtain ⟨-, kA, h1, comp, h2⟩ := (C.K.2 j _ hj).1 0 (fun _ => .null)
  exact ⟨fun k h => (by cases h), kA, h1, comp, h2⟩
theorem Rep.arr {H : Heap} (hR : Rep G h H) {a k : Nat} {fs : List Value} (hc : h.2.2 a = some (k, fs)) (h1 : ¬ k < 30) (h2 : k < 40) : G.1.heap.size ≤ a ∧ H[a]? = some { cls := G.2.2.2 (k - 32), slots := fs.toArray, vm := .none } := by
  have h9 := hR.2.2.2 a k fs hc
  unfold CR at h9
  rw [if_neg h1, if_pos h2] at h9
  obtain ⟨e1, ty, -, e2⟩ := h9
  exact ⟨e1, e2⟩
theorem CR.ofArr {a k : Nat} {fs : List Value} {H : Heap} {ty : FieldType} (h1 : ¬ k < 30) (h2 : k < 40) (ht : al[k - 32]? = some ty) (ha : G.1.heap.size ≤ a) (e : H[a]? = some { cls := G.2.2.2 (k - 32), slots := fs.toArray, vm := .none }) : CR G a k fs H := by
  unfold CR
  rw [if_neg h1, if_pos h2]
  exact ⟨ha, ty, ht, e⟩
/-- a read-only array, of the start's heap -/
theorem Rep.arrR {H : Heap} (hR : Rep G h H) {a k : Nat} {fs : List Value} {ty : FieldType} (hc : h.2.2 a = some (k, fs)) (h1 : ¬ k < 40) (h2 : k < 48) (ht : al[k - 40]? = some ty) : ∃ cell : Cell, H[a]? = some cell ∧ G.1.isArrayOf cell ty ∧ cell.vm ≠ .unknown ∧ cell.slots = fs.toArray := by
  have h9 := hR.2.2.2 a k fs hc
  unfold CR at h9
  rw [if_neg (by omega), if_neg h1, if_pos h2] at h9
  obtain ⟨-, ty', cell, e0, e1, e2, e3, e4⟩ := h9
  cases e0.symm.trans ht
  exact ⟨cell, e1, e2, e3, e4⟩
theorem ix_in {x : Int32} {j n : Nat} (hj : x.toInt = (j : Int)) (hn : j < n) : ¬ (x < 0 ∨ n ≤ x.toNatClampNeg) := by
  have h0 : x.toNatClampNeg = j := by
    show x.toInt.toNat = j
    omega
  rw [h0]
  rintro (h | h)
  · rw [Int32.lt_iff_toInt_lt, hj, Int32.toInt_zero] at h
    omega
  · omega
theorem ix_cl {x : Int32} {j : Nat} (hj : x.toInt = (j : Int)) : x.toNatClampNeg = j := by
  show x.toInt.toNat = j
  omega
theorem toA_get {fs : List Value} {j : Nat} {v : Value} (hv : fs[j]? = some v) : fs.toArray[j]? = some v := by
  rw [List.getElem?_toArray]
  exact hv
theorem toA_set (cA : ClassId) (fs : List Value) (j : Nat) (v : Value) (hj : j < fs.length) : ({ cls := cA, slots := fs.toArray, vm := .none } : Cell).setSlot j v = { cls := cA, slots := (fs.set j v).toArray, vm := .none } := by
  simp [Cell.setSlot]
theorem va_lt {fs : List Value} {j : Nat} {v : Value} (hv : fs[j]? = some v) : j < fs.length := (List.getElem?_eq_some_iff.mp hv).1
theorem wa_iaload {a : Nat} {fs : List Value} {x : Int32} (j : Nat) {v : Value} (hd : decode y.2.1 pc = .ok (.iaload, 1)) (hc : h.2.2 a = some (32, fs)) (hj : x.toInt = (j : Int)) (hv : fs[j]? = some v) (kk : WA G d y (pc + 1) ls (v :: st) h Q) : WA G d y pc ls (.int x :: .ref a :: st) h Q :=
  WA.read (fun p l e R s m args below meth c H locs cells slots Z la C hR hS hL h1 h2 K => by
    have hA := (hR.arr hc (by decide) (by decide)).2
    exact W.iald C.1 C.2.1 hA (C.arr rfl _) (fun q => by cases q) (ix_in hj (by simpa using va_lt hv)) (by rw [ix_cl hj]; exact toA_get hv) rfl rfl hd K) kk
theorem wa_iastore {a : Nat} {fs : List Value} {x : Int32} {z : Int32} (j : Nat) (hd : decode y.2.1 pc = .ok (.iastore, 1)) (hc : h.2.2 a = some (32, fs)) (hj : x.toInt = (j : Int)) (hl : j < fs.length) (kk : WA G d y (pc + 1) ls st (ah_upd h a (32, fs.set j (.int z))) Q) : WA G d y pc ls (.int z :: .int x :: .ref a :: st) h Q :=
  WA.write (cn := (32, fs.set j (.int z))) (fun p l e R s m args below meth c H locs cells slots Z la C hR hL K => by
    obtain ⟨ga, hA⟩ := hR.arr hc (by decide) (by decide)
    refine W.iast C.1 C.2.1 hA (C.arr rfl _) (fun q => by cases q) (ix_in hj (by simpa using hl)) rfl rfl hd fun H1 e1 z1 o1 => ?_
    rw [ix_cl hj, toA_set _ _ _ _ hl] at e1
    exact K H1 _ (fun q hq => by rw [List.mem_singleton.mp hq]) z1 o1 ga (CR.ofArr (k := 32) (ty := .int) (by decide) (by decide) rfl ga e1)) kk
theorem wa_laload {a : Nat} {fs : List Value} {x : Int32} (j : Nat) {v : Value} (hd : decode y.2.1 pc = .ok (.laload, 1)) (hc : h.2.2 a = some (33, fs)) (hj : x.toInt = (j : Int)) (hv : fs[j]? = some v) (kk : WA G d y (pc + 1) ls (v :: st) h Q) : WA G d y pc ls (.int x :: .ref a :: st) h Q :=
  WA.read (fun p l e R s m args below meth c H locs cells slots Z la C hR hS hL h1 h2 K => by
    have hA := (hR.arr hc (by decide) (by decide)).2
    exact W.lald C.1 C.2.1 hA (C.arr rfl _) (fun q => by cases q) (ix_in hj (by simpa using va_lt hv)) (by rw [ix_cl hj]; exact toA_get hv) rfl rfl hd K) kk
theorem wa_lastore {a : Nat} {fs : List Value} {x : Int32} {z : Int64} (j : Nat) (hd : decode y.2.1 pc = .ok (.lastore, 1)) (hc : h.2.2 a = some (33, fs)) (hj : x.toInt = (j : Int)) (hl : j < fs.length) (kk : WA G d y (pc + 1) ls st (ah_upd h a (33, fs.set j (.long z))) Q) : WA G d y pc ls (.long z :: .int x :: .ref a :: st) h Q :=
  WA.write (cn := (33, fs.set j (.long z))) (fun p l e R s m args below meth c H locs cells slots Z la C hR hL K => by
    obtain ⟨ga, hA⟩ := hR.arr hc (by decide) (by decide)
    refine W.last C.1 C.2.1 hA (C.arr rfl _) (fun q => by cases q) (ix_in hj (by simpa using hl)) rfl rfl hd fun H1 e1 z1 o1 => ?_
    rw [ix_cl hj, toA_set _ _ _ _ hl] at e1
    exact K H1 _ (fun q hq => by rw [List.mem_singleton.mp hq]) z1 o1 ga (CR.ofArr (k := 33) (ty := .long) (by decide) (by decide) rfl ga e1)) kk
theorem wa_caload {a : Nat} {fs : List Value} {x : Int32} (j : Nat) {v : Value} (hd : decode y.2.1 pc = .ok (.caload, 1)) (hc : h.2.2 a = some (34, fs)) (hj : x.toInt = (j : Int)) (hv : fs[j]? = some v) (kk : WA G d y (pc + 1) ls (v :: st) h Q) : WA G d y pc ls (.int x :: .ref a :: st) h Q :=
  WA.read (fun p l e R s m args below meth c H locs cells slots Z la C hR hS hL h1 h2 K => by
    have hA := (hR.arr hc (by decide) (by decide)).2
    exact W.cald C.1 C.2.1 hA (C.arr rfl _) (fun q => by cases q) (ix_in hj (by simpa using va_lt hv)) (by rw [ix_cl hj]; exact toA_get hv) rfl rfl hd K) kk
theorem wa_castore {a : Nat} {fs : List Value} {x : Int32} {z : Int32} (j : Nat) (hd : decode y.2.1 pc = .ok (.castore, 1)) (hc : h.2.2 a = some (34, fs)) (hj : x.toInt = (j : Int)) (hl : j < fs.length) (kk : WA G d y (pc + 1) ls st (ah_upd h a (34, fs.set j (narrow .char (.int z)))) Q) : WA G d y pc ls (.int z :: .int x :: .ref a :: st) h Q :=
  WA.write (cn := (34, fs.set j (narrow .char (.int z)))) (fun p l e R s m args below meth c H locs cells slots Z la C hR hL K => by
    obtain ⟨ga, hA⟩ := hR.arr hc (by decide) (by decide)
    refine W.cast C.1 C.2.1 hA (C.arr rfl _) (fun q => by cases q) (ix_in hj (by simpa using hl)) rfl rfl hd fun H1 e1 z1 o1 => ?_
    rw [ix_cl hj, toA_set _ _ _ _ hl] at e1
    exact K H1 _ (fun q hq => by rw [List.mem_singleton.mp hq]) z1 o1 ga (CR.ofArr (k := 34) (ty := .char) (by decide) (by decide) rfl ga e1)) kk
theorem wa_ialoadR {a : Nat} {fs : List Value} {x : Int32} (j : Nat) {v : Value} (hd : decode y.2.1 pc = .ok (.iaload, 1)) (hc : h.2.2 a = some (40, fs)) (hj : x.toInt = (j : Int)) (hv : fs[j]? = some v) (kk : WA G d y (pc + 1) ls (v :: st) h Q) : WA G d y pc ls (.int x :: .ref a :: st) h Q :=
  WA.read (fun p l e R s m args below meth c H locs cells slots Z la C hR hS hL h1 h2 K => by
    obtain ⟨cell, e1, e2, e3, e4⟩ := hR.arrR (ty := .int) hc (by decide) (by decide) rfl
    exact W.iald C.1 C.2.1 e1 (State.isArrayOf_alike C.warm.alike e2) e3 (by rw [e4]; exact ix_in hj (by simpa using va_lt hv)) (by rw [e4, ix_cl hj]; exact toA_get hv) rfl rfl hd K) kk
theorem wa_baloadR {a : Nat} {fs : List Value} {x : Int32} (j : Nat) {v : Value} (hd : decode y.2.1 pc = .ok (.baload, 1)) (hc : h.2.2 a = some (45, fs)) (hj : x.toInt = (j : Int)) (hv : fs[j]? = some v) (kk : WA G d y (pc + 1) ls (v :: st) h Q) : WA G d y pc ls (.int x :: .ref a :: st) h Q :=
  WA.read (fun p l e R s m args below meth c H locs cells slots Z la C hR hS hL h1 h2 K => by
    obtain ⟨cell, e1, e2, e3, e4⟩ := hR.arrR (ty := .byte) hc (by decide) (by decide) rfl
    exact W.bald C.1 C.2.1 e1 (State.isArrayOf_alike C.warm.alike e2) e3 (by rw [e4]; exact ix_in hj (by simpa using va_lt hv)) (by rw [e4, ix_cl hj]; exact toA_get hv) rfl rfl hd K) kk
theorem wa_aaload {a k : Nat} {fs : List Value} {x : Int32} (j : Nat) {v : Value} (hd : decode y.2.1 pc = .ok (.aaload, 1)) (hc : h.2.2 a = some (k, fs)) (hk : k = 35 ∨ k = 36) (hj : x.toInt = (j : Int)) (hv : fs[j]? = some v) (kk : WA G d y (pc + 1) ls (v :: st) h Q) : WA G d y pc ls (.int x :: .ref a :: st) h Q :=
  WA.read (fun p l e R s m args below meth c H locs cells slots Z la C hR hS hL h1 h2 K => by
    rcases hk with rfl | rfl
    · exact W.aald C.1 C.2.1 (hR.arr hc (by decide) (by decide)).2 (C.arr (j := 3) rfl _) rfl (fun q => by cases q) (ix_in hj (by simpa using va_lt hv)) (by rw [ix_cl hj]; exact toA_get hv) rfl rfl hd K
    · exact W.aald C.1 C.2.1 (hR.arr hc (by decide) (by decide)).2 (C.arr (j := 4) rfl _) rfl (fun q => by cases q) (ix_in hj (by simpa using va_lt hv)) (by rw [ix_cl hj]; exact toA_get hv) rfl rfl hd K) kk
theorem wa_alen {a k : Nat} {fs : List Value} (hd : decode y.2.1 pc = .ok (.arraylength, 1)) (hc : h.2.2 a = some (k, fs)) (hk : k = 32 ∨ k = 33 ∨ k = 34 ∨ k = 35 ∨ k = 36) (kk : WA G d y (pc + 1) ls (.int (nI fs.length) :: st) h Q) : WA G d y pc ls (.ref a :: st) h Q :=
  WA.read (fun p l e R s m args below meth c H locs cells slots Z la C hR hS hL h1 h2 K => by
    rcases hk with rfl | rfl | rfl | rfl | rfl
    · exact W.alen C.1 C.2.1 (hR.arr hc (by decide) (by decide)).2 (C.arr (j := 0) rfl _) (by simp [nI, Nat.toInt32]) rfl rfl hd K
    · exact W.alen C.1 C.2.1 (hR.arr hc (by decide) (by decide)).2 (C.arr (j := 1) rfl _) (by simp [nI, Nat.toInt32]) rfl rfl hd K
    · exact W.alen C.1 C.2.1 (hR.arr hc (by decide) (by decide)).2 (C.arr (j := 2) rfl _) (by simp [nI, Nat.toInt32]) rfl rfl hd K
    · exact W.alen C.1 C.2.1 (hR.arr hc (by decide) (by decide)).2 (C.arr (j := 3) rfl _) (by simp [nI, Nat.toInt32]) rfl rfl hd K
    · exact W.alen C.1 C.2.1 (hR.arr hc (by decide) (by decide)).2 (C.arr (j := 4) rfl _) (by simp [nI, Nat.toInt32]) rfl rfl hd K) kk
theorem wa_alenR {a k : Nat} {fs : List Value} (ty : FieldType) (hd : decode y.2.1 pc = .ok (.arraylength, 1)) (hc : h.2.2 a = some (k, fs)) (hk1 : ¬ k < 40) (hk2 : k < 48) (hk3 : al[k - 40]? = some ty) (kk : WA G d y (pc + 1) ls (.int (nI fs.length) :: st) h Q) : WA G d y pc ls (.ref a :: st) h Q :=
  WA.read (fun p l e R s m args below meth c H locs cells slots Z la C hR hS hL h1 h2 K => by
    obtain ⟨cell, e1, e2, e3, e4⟩ := hR.arrR hc hk1 hk2 hk3
    exact W.alen C.1 C.2.1 e1 (State.isArrayOf_alike C.warm.alike e2) (by rw [e4]; simp [nI, Nat.toInt32]) rfl rfl hd K) kk
theorem arrV_list (cA : ClassId) (N : Nat) (x : Value) : arrV cA N (fun _ => x) = { cls := cA, slots := (List.replicate N x).toArray, vm := .none } := by
  rw [← arrV_new]
  simp
theorem wa_newarray {at9 : ArrayType} {x : Int32} (j k : Nat) (hd : decode y.2.1 pc = .ok (.newarray at9, 2)) (hj : x.toInt = (j : Int)) (hb : j * componentBytes (newarray.typeOf at9) ≤ 536870912) (ha : at9 = .int ∧ k = 32 ∨ at9 = .long ∧ k = 33 ∨ at9 = .char ∧ k = 34) (hw : Cond.arrayClass (newarray.typeOf at9) ∈ lw_all)
    (kk : WA G d y (pc + 2) ls (.ref h.1 :: st) (ah_new h k (List.replicate j (defaultValue (newarray.typeOf at9))) j) Q) : WA G d y pc ls (.int x :: st) h Q :=
  WA.make (fun p l e R s m args below meth c H locs cells slots Z la C hR hS hL h1 h2 hz K => by
    have hx : ¬ x < 0 := by
      rw [Int32.lt_iff_toInt_lt, hj, Int32.toInt_zero]
      omega
    refine va_newaK C.1 C.2.1 (C.word hw) rfl hd rfl hx (ix_cl hj) hb h1 h2 hz fun H1 cA e1 z1 o1 hAr hNm => ?_
    rw [arrV_list] at e1
    rcases ha with ⟨rfl, rfl⟩ | ⟨rfl, rfl⟩ | ⟨rfl, rfl⟩
    · have hc : cA = G.2.2.2 0 := Option.some.inj (hNm.symm.trans (C.K.2 0 _ rfl).2)
      subst hc
      exact K H1 z1 o1 (CR.ofArr (ty := .int) (by decide) (by decide) rfl hR.2.1 e1)
    · have hc : cA = G.2.2.2 1 := Option.some.inj (hNm.symm.trans (C.K.2 1 _ rfl).2)
      subst hc
      exact K H1 z1 o1 (CR.ofArr (ty := .long) (by decide) (by decide) rfl hR.2.1 e1)
    · have hc : cA = G.2.2.2 2 := Option.some.inj (hNm.symm.trans (C.K.2 2 _ rfl).2)
      subst hc
      exact K H1 z1 o1 (CR.ofArr (ty := .char) (by decide) (by decide) rfl hR.2.1 e1)) kk
theorem over_use {p : Program} {l : Launch} {R : Room} {s : State} {m : MethodId} {meth : Method} {c : Code} (C : CX G d y p l R s m meth c) {E : String} (hw : Cond.arrayOver (.object E) ∈ lw_tbl) {a : Array Value} : (Cond.arrayOver (.object E)).before a s = true := va_AO.use (va_AO.moved C.warm.alike (va_AO.of (C.tbl _ hw)))
theorem wa_anewarray {idx : Nat} {E : String} {x : Int32} (j k : Nat) (hd : decode y.2.1 pc = .ok (.anewarray idx, 3)) (hj : x.toInt = (j : Int)) (hb : j * 4 ≤ 536870912) (ha : E = "java/lang/Object" ∧ k = 35 ∨ E = "java/util/HashMap$Node" ∧ k = 36) (hcl : Cond.classLink y.1.cls idx E ∈ lw_all) (hw : Cond.arrayOver (.object E) ∈ lw_tbl)
    (kk : WA G d y (pc + 3) ls (.ref h.1 :: st) (ah_new h k (List.replicate j .null) j) Q) : WA G d y pc ls (.int x :: st) h Q :=
  WA.make (fun p l e R s m args below meth c H locs cells slots Z la C hR hS hL h1 h2 hz K => by
    have hx : ¬ x < 0 := by
      rw [Int32.lt_iff_toInt_lt, hj, Int32.toInt_zero]
      omega
    refine W.anew C.1 C.2.1 C.own (C.word hcl) (over_use C hw) rfl hd rfl hx (by rw [ix_cl hj]; exact hb) h1 (by rw [ix_cl hj]; exact h2) fun cA kA comp f1 f2 f3 f4 => ?_
    rw [ix_cl hj]
    generalize hH1 : H.push ({ cls := cA, slots := Array.replicate j .null, vm := .none } : Cell) = H1
    have z1 : H1.size = h.1 + 1 := by rw [← hH1, Array.size_push, hz]
    have e1 : H1[h.1]? = some { cls := cA, slots := (List.replicate j Value.null).toArray, vm := .none } := by rw [← hH1, ← hz, Array.getElem?_push_size]; simp
    have o1 : ∀ q : Nat, q < h.1 → H1[q]? = H[q]? := fun q hq => by rw [← hH1, Array.getElem?_push, if_neg (by omega)]
    rw [hz]
    rcases ha with ⟨rfl, rfl⟩ | ⟨rfl, rfl⟩
    · obtain ⟨kA', comp', g1, g2, g3, g4⟩ := (C.K.2 3 _ rfl).2
      have hc : cA = G.2.2.2 3 := Option.some.inj (f1.symm.trans g4)
      subst hc
      exact K H1 z1 o1 (CR.ofArr (ty := .object "java/lang/Object") (by decide) (by decide) rfl hR.2.1 e1)
    · obtain ⟨kA', comp', g1, g2, g3, g4⟩ := (C.K.2 4 _ rfl).2
      have hc : cA = G.2.2.2 4 := Option.some.inj (f1.symm.trans g4)
      subst hc
      exact K H1 z1 o1 (CR.ofArr (ty := .object "java/util/HashMap$Node") (by decide) (by decide) rfl hR.2.1 e1)) kk
end HEAPR
