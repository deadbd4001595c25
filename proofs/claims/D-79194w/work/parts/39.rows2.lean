/-! ===== more rows: virtual calls by an owner's name, class objects, the bits of doubles ===== -/
def DcOK (G : GG) (d : Nat) (y : MD) (x : MethodName) : Prop := ∀ (p : Program) (l : Launch) (R : Room) (s : State) (m : MethodId) (meth : Method) (c : Code), CX G d y p l R s m meth c → va_Decl s x
section R2
variable {G : GG} {d d2 : Nat} {y y2 : MD} {pc n idx : Nat} {ls rest as st : List Value} {h : AH} {Q Q1 : RR → AH → Prop}
theorem hDc_code {x : MethodName} {b : ByteArray} {m : Nat} {ret : Option FieldType} (h1 : Cond.instanceMethod x ∈ lw_all) (h2 : Cond.code x b m ret ∈ lw_all) : DcOK G d y x := fun p l R s m meth c C => va_Decl.of (args := #[]) (C.word h1) (C.word h2)
theorem hDc_decl {x : MethodName} (h1 : Cond.declares x ∈ lw_tbl) : DcOK G d y x := fun p l R s m meth c C => va_Decl.abs (va_Nw.warmD C.warm (va_Nw.of rfl (C.tbl _ h1)))
/-- invokevirtual of x, found as owner's method; the object's class selects y2 -/
theorem wa_callW {b k : Nat} {fs : List Value} {q : vw_C} {x : MethodName} {owner : String} {st0 : List Value} (M : MA G d2 y2 (.ref b :: as) h Q1) (hd : decode y.2.1 pc = .ok (.invokevirtual idx, 3)) (ok : callOK y2 n) (he : y2.2.2.2.2 = []) (hl : Cond.methodLink y.1.cls idx x ∈ lw_all) (hsame : Cond.sameMethod x.cls owner x.name x.desc ∈ lw_all) (hDc : DcOK G d y ⟨owner, x.name, x.desc⟩) (howner : owner ≠ "java/lang/invoke/MethodHandle" ∧ owner ≠ "java/lang/invoke/VarHandle") (hsel : Cond.selects q.1 x y2.1 ∈ lw_all) (hinst : Cond.instanceMethod y2.1 ∈ lw_all) (hc : h.2.2 b = some (k, fs)) (hk : kl[k]? = some q)
    (hpx : (parseMethodDescriptor x.desc).map (fun d => d.parameters.length) = some n)
    (hst : st0 = as.reverse ++ .ref b :: rest) (hn : as.length = n) (hlen : (lg_sl (.ref b :: as)).length ≤ y2.2.2.1) (hcat : (rest.map fun v => v.category).sum ≤ 8) (hd2 : d2 < d)
    (kk : ∀ r h', h.1 ≤ h'.1 → h.2.1 ≤ h'.2.1 → Q1 r h' → AFT G d y pc 3 ls rest Q r h') : WA G d y pc ls st0 h Q :=
  WA.call M (fun r h' hM p l e R s m args below meth c T locs cells slots la C hR hL X hc1 hs1 => by
    obtain ⟨cellB, g1, g2, g3⟩ := hR.recv C hc hk
    have hK := xx_back hM ok.1 hlen ok.2.1 ok.2.2.1 C (e := e) (sargs := args) (below := below) (m₀ := m) hd2 ok.2.2.2.1 (len := 3)
    exact vx_callVU X C.1 C.own (C.word hl) (C.word hsame) (hDc p l R s m meth c C) howner (C.word hsel) (C.word hinst) (C.word (code_word he ok.2.1)) hK g1 (by rw [g2]; rfl) g3 (g := F0 m pc la st0) rfl (hL.1.trans C.2.2.1.symm) (argsL := as) (rest := rest) (fun sig e => by
      rw [e] at hpx
      exact hn.trans (Option.some.inj hpx).symm) hst (by show 2 * 0 + (rest.map fun v => v.category).sum ≤ 8; omega) (by rw [C.2.1]; exact hd) (fun vm₁ _ => ⟨rfl, hR, hc1, hs1⟩)) kk
/-- the class object of Object[] -/
theorem va_MiG (hG : StG G) : ∃ mi : Nat, va_Mi "[Ljava/lang/Object;" mi G.1 := va_Mi.of (flat_of_before _ hG (Cond.isRef (.mirror "[Ljava/lang/Object;")) (by decide +kernel))
theorem wa_getCA {a l mi : Nat} {fs : List Value} (hM : va_Mi "[Ljava/lang/Object;" mi G.1) (hd : decode y.2.1 pc = .ok (.invokevirtual idx, 3)) (hc : h.2.2 a = some (35, fs)) (hl : Cond.methodLink y.1.cls idx ⟨"java/lang/Object", "getClass", "()Ljava/lang/Class;"⟩ ∈ lw_all) (hcat : (st.map fun v => v.category).sum ≤ 8) (hd2 : 0 < d)
    (kk : WA G d y (pc + 3) ls (.ref mi :: st) h Q) : WA G d y pc ls (.ref a :: st) h Q :=
  WA.read (fun p l e R s m args below meth c H locs cells slots Z la C hR hS hL h1 h2 K => by
    obtain ⟨g1, g2⟩ := hR.arr hc (by decide) (by decide)
    obtain ⟨kA, comp, r1, r2, r3, r4⟩ := (C.K.2 3 _ rfl).2
    have := C.room
    exact va_getC C.1 C.2.1 (hL.1.trans C.2.2.1.symm).symm C.own (C.word hl) (va_Nw.use rfl (va_Nw.warmD C.warm (va_Nw.of rfl (C.tbl _ q3155)))) (C.word q3154) (C.word q302) (C.word q340) (hM.moved C.warm.alike) ⟨_, g2, rfl, r4⟩ (by omega) (by omega) hd K) kk
theorem wa_ldcMA {mi : Nat} (hM : va_Mi "[Ljava/lang/Object;" mi G.1) (hd : decode y.2.1 pc = .ok (.ldc idx, 2)) (hl : Cond.classLink y.1.cls idx "[Ljava/lang/Object;" ∈ lw_all) (kk : WA G d y (pc + 2) ls (.ref mi :: st) h Q) : WA G d y pc ls st h Q :=
  WA.pure (fun p l e R s m args below meth c H locs cells slots Z la C hL K => va_ldcM C.1 C.2.1 C.own (C.word hl) (hM.moved C.warm.alike) hd (K la hL)) kk
end R2
