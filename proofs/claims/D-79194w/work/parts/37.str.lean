/-! ===== String constants and tables of the start ===== -/
/-- objects and arrays of the start -/
abbrev stO (G : GG) (E : String) (t : Nat) : Prop := va_O E t (fun q => G.1.heap.size ≤ q) G.1 G.1.heap
abbrev stF (G : GG) (o n ds : String) (v : Value) (t : Nat) : Prop := va_OF o n ds v t (fun q => G.1.heap.size ≤ q) G.1 G.1.heap
abbrev stT (G : GG) (ty : FieldType) (t N : Nat) (f : Nat → Value) : Prop := va_T ty t N f (fun q => G.1.heap.size ≤ q) G.1 G.1.heap
section STR
variable {G : GG} {d d2 : Nat} {y y2 : MD} {pc n idx : Nat} {ls st rest as : List Value} {h : AH} {Q Q1 : RR → AH → Prop}
theorem CX.sO {p : Program} {l : Launch} {R : Room} {s : State} {m : MethodId} {meth : Method} {c : Code} (C : CX G d y p l R s m meth c) {E : String} {t : Nat} (hT : stO G E t) : va_O E t (fun q => G.1.heap.size ≤ q) s s.heap := (va_O.moved C.warm.alike hT).kept (fun a ha _ => C.2.2.2.2.2.2.2.2.2.2.2.2.2.1 a ha)
theorem CX.sF {p : Program} {l : Launch} {R : Room} {s : State} {m : MethodId} {meth : Method} {c : Code} (C : CX G d y p l R s m meth c) {o n ds : String} {v : Value} {t : Nat} (hT : stF G o n ds v t) : va_OF o n ds v t (fun q => G.1.heap.size ≤ q) s s.heap := (va_OF.moved C.warm.alike hT).kept (fun a ha _ => C.2.2.2.2.2.2.2.2.2.2.2.2.2.1 a ha)
theorem CX.sT {p : Program} {l : Launch} {R : Room} {s : State} {m : MethodId} {meth : Method} {c : Code} (C : CX G d y p l R s m meth c) {ty : FieldType} {t N : Nat} {f : Nat → Value} (hT : stT G ty t N f) : va_T ty t N f (fun q => G.1.heap.size ≤ q) s s.heap := (va_T.moved C.warm.alike hT).kept (fun a ha _ => C.2.2.2.2.2.2.2.2.2.2.2.2.2.1 a ha)
theorem wa_ldcStr {q : Nat} {tx : String} (hd : decode y.2.1 pc = .ok (.ldc idx, 2)) (hw : Cond.stringRef y.1.cls idx tx ∈ lw_tbl) (hq : (Term.string y.1.cls idx).eval G.2.1 G.1 none [] G.1 = some (.ref q)) (kk : WA G d y (pc + 2) ls (.ref q :: st) h Q) : WA G d y pc ls st h Q :=
  WA.pure (fun p l e R s m args below meth c H locs cells slots Z la C hL K => va_ldcS C.1 C.2.1 C.own ((vk_R.of (C.tbl _ hw) hq).warm C.warm) hd (K la hL)) kk
theorem wa_strget {q : Nat} {o n ds ref : String} {v : Value} (hd : decode y.2.1 pc = .ok (.getfield idx, 3)) (hT : stF G o n ds v q) (hl : Cond.fieldLink y.1.cls idx ref n ds ∈ lw_all) (hs : ref = o ∨ Cond.sameField ref o n ds ∈ lw_all) (kk : WA G d y (pc + 3) ls (v :: st) h Q) : WA G d y pc ls (.ref q :: st) h Q :=
  WA.read (fun p l e R s m args below meth c H locs cells slots Z la C hR hS hL h1 h2 K =>
    vk_getf C.1 C.2.1 (C.sF hT) hS C.own (C.word hl) (fun x hx => hs.elim (fun e => by rw [e]; exact hx) (fun w9 => u_same (C.word (a := #[]) w9) x hx)) hd K) kk
theorem wa_baloadT {t N j : Nat} {f : Nat → Value} (hd : decode y.2.1 pc = .ok (.baload, 1)) (hT : stT G .byte t N f) (hj : j < N ∧ N < 2147483648) (kk : WA G d y (pc + 1) ls (f j :: st) h Q) : WA G d y pc ls (.int (Int32.ofNat j) :: .ref t :: st) h Q :=
  WA.read (fun p l e R s m args below meth c H locs cells slots Z la C hR hS hL h1 h2 K =>
    va_tb C.1 C.2.1 (C.sT hT) hS (ix_in (iN_toInt (by omega)) hj.1) (v := f j) (by rw [ix_cl (iN_toInt (by omega))]) hd K) kk
theorem wa_alenT {t N : Nat} {ty : FieldType} {f : Nat → Value} (hd : decode y.2.1 pc = .ok (.arraylength, 1)) (hT : stT G ty t N f) (kk : WA G d y (pc + 1) ls (.int (Int32.ofNat N) :: st) h Q) : WA G d y pc ls (.ref t :: st) h Q :=
  WA.read (fun p l e R s m args below meth c H locs cells slots Z la C hR hS hL h1 h2 K => va_tlen C.1 C.2.1 (C.sT hT) hS rfl hd K) kk
theorem wa_i2b {x : Int32} (hd : decode y.2.1 pc = .ok (.i2b, 1)) (k : WA G d y (pc + 1) ls (.int x.toInt8.toInt32 :: st) h Q) : WA G d y pc ls (.int x :: st) h Q := WA.pure (fun p l e R s m args below meth c H locs cells slots Z la C hL K => lv_i2b C.1 C.2.1 hd rfl (K la hL)) k
theorem wa_callVSt {b : Nat} {E : String} {st0 : List Value} (M : MA G d2 y2 (.ref b :: as) h Q1) (hd : decode y.2.1 pc = .ok (.invokevirtual idx, 3)) (ok : callOK y2 n) (hl : Cond.methodLink y.1.cls idx y2.1 ∈ lw_all) (hinst : Cond.instanceMethod y2.1 ∈ lw_all) (hsel : Cond.selects E y2.1 y2.1 ∈ lw_all) (hO : stO G E b)
    (hst : st0 = as.reverse ++ .ref b :: rest) (hn : as.length = n) (hlen : (lg_sl (.ref b :: as)).length ≤ y2.2.2.1) (hcat : (rest.map fun v => v.category).sum ≤ 8) (hd2 : d2 < d)
    (kk : ∀ r h', h.1 ≤ h'.1 → h.2.1 ≤ h'.2.1 → Q1 r h' → AFT G d y pc 3 ls rest Q r h') : WA G d y pc ls st0 h Q :=
  WA.call M (fun r h' hM p l e R s m args below meth c T locs cells slots la C hR hL X hc1 hs1 => by
    obtain ⟨cellB, g1, g2, g3⟩ : ∃ cell : Cell, T.heap[b]? = some cell ∧ cell.vm.isStatics = false ∧ s.vm.findClass E = some cell.cls := by
      obtain ⟨cell, a1, a2, a3, a4⟩ := C.sO hO
      have hb9 : b < G.1.heap.size := Nat.not_le.mp a4
      exact ⟨cell, by rw [hR.2.2.1 b hb9, ← C.2.2.2.2.2.2.2.2.2.2.2.2.2.1 b hb9]; exact a1, a2, a3⟩
    obtain ⟨mk, methM, hnamed, hmethM, hstM, habM⟩ := Cond.instanceMethod_spec (C.word (a := args) hinst)
    obtain ⟨methM', cM, hmethM', -, -, -, -, -, -, hsigM⟩ := headW_spec hnamed (C.word (a := args) ok.2.1)
    cases hmethM.symm.trans hmethM'
    obtain ⟨c2, r2, m2, q1, q2, q3, q4, kP, hkP, hkPi⟩ := Cond.selects_spec (C.word (a := args) hsel)
    cases g3.symm.trans q1
    cases (State.methodFound?_of_named hnamed ok.2.2.2.2.2).symm.trans q2
    cases hnamed.symm.trans q3
    have hselP : selectMethod e.platform s.vm cellB.cls mk = .method mk := by rw [Launch.admits_selectMethod X.admits]; exact q4
    obtain ⟨vm₁, X₁, hstep₁⟩ := X.invokevirtual C.1 C.own (C.word hl) hnamed hmethM hstM hkP hkPi ok.2.2.2.2.2 (a := b) (cell := cellB) g1
      (fun z h => by rw [h] at g2; cases g2) hselP hmethM habM hkP hkPi (g := F0 m pc la st0) rfl (argsL := as) (rest := rest) (hn.trans (ok.len _ hsigM)) hst (by rw [C.2.1]; exact hd)
    have hK := xx_back hM ok.1 hlen ok.2.1 ok.2.2.1 C (e := e) (sargs := args) (below := below) (m₀ := m) hd2 ok.2.2.2.1 (len := 3)
    rcases hK m meth c ⟨T.setVm vm₁, locs, cells, slots⟩ (F0 m pc la rest) (.invokevirtual idx) mk (Value.ref b :: as).toArray X₁ rfl (hL.1.trans C.2.2.1.symm) (by rw [C.2.1]; exact hd) (by show 2 * 0 + (rest.map fun v => v.category).sum ≤ 8; omega) (X₁.named hnamed) ⟨rfl, hR, hc1, hs1⟩ with ⟨v, B, X', hpost, hsteps⟩ | ⟨q, B, X', hpost, hsteps⟩
    · exact Or.inl ⟨v, vm₁, B, X₁.warmed, X', hpost, fun target h => hstep₁ _ fun acts => by rw [doInvoke_state]; exact hsteps.trans h⟩
    · exact Or.inr ⟨q, vm₁, B, X₁.warmed, X', hpost, hstep₁ _ fun acts => by rw [doInvoke_state]; exact hsteps⟩) kk
theorem wa_caloadN {a j n : Nat} {f : Nat → Int32} (hd : decode y.2.1 pc = .ok (.caload, 1)) (hc : h.2.2 a = some (34, arI n f)) (hj : j < n ∧ n < 2147483648) (kk : WA G d y (pc + 1) ls (.int (f j) :: st) h Q) : WA G d y pc ls (.int (Int32.ofNat j) :: .ref a :: st) h Q :=
  wa_caload j hd hc (iN_toInt (by omega)) (arI_get f hj.1) kk
theorem wa_castoreN {a j n : Nat} {f : Nat → Int32} {z : Int32} (hd : decode y.2.1 pc = .ok (.castore, 1)) (hc : h.2.2 a = some (34, arI n f)) (hj : j < n ∧ n < 2147483648) (hz : narrow .char (.int z) = .int z) (kk : WA G d y (pc + 1) ls st (ah_upd h a (34, arI n (upd f j z))) Q) : WA G d y pc ls (.int z :: .int (Int32.ofNat j) :: .ref a :: st) h Q :=
  wa_castore j hd hc (iN_toInt (by omega)) (by rw [arI_len]; exact hj.1) (by rw [hz, arI_set]; exact kk)
end STR
theorem nar_char {n : Nat} (h : n < 65536) : narrow .char (.int (Int32.ofNat n)) = .int (Int32.ofNat n) := by
  show Value.int _ = _
  congr 1
  apply Int32.toBitVec_inj.mp
  have e : (Int32.ofNat n).toUInt32.toUInt16.toUInt32.toInt32.toBitVec = ((BitVec.ofNat 32 n).setWidth 16).setWidth 32 := rfl
  rw [e]
  apply BitVec.eq_of_toNat_eq
  show _ = (BitVec.ofNat 32 n).toNat
  rw [BitVec.toNat_setWidth, BitVec.toNat_setWidth, BitVec.toNat_ofNat]
  omega
/-- what the start says of the claim's premises -/
def StG (G : GG) : Prop := (Cond.and given_1 narrow_1).before G.2.1 G.1 = true
def sgnL : List Int32 := [99, 120, 115, 114, 103, 106, 116]
theorem str_cs {G : GG} (hG : StG G) : (Term.static "java/lang/String" "COMPACT_STRINGS" "Z").eval G.2.1 G.1 none [] G.1 = some (.int 1) :=
  va_eqt (flat_of_before _ hG (Cond.eq (.static "java/lang/String" "COMPACT_STRINGS" "Z") (.int 1)) (by decide +kernel))
theorem str_facts {G : GG} (hG : StG G) : ∃ q t, (Term.string "CueStackModel" 231).eval G.2.1 G.1 none [] G.1 = some (.ref q) ∧ stO G "java/lang/String" q ∧ stF G "java/lang/String" "coder" "B" (.int 0) q ∧ stF G "java/lang/String" "value" "[B" (.ref t) q ∧ stT G .byte t 7 (fun j => .int (sgnL.getD j 0)) := by
  have hm : ∀ w ∈ flatC (Cond.and given_1 narrow_1), w.before G.2.1 G.1 = true := flat_of_before _ hG
  obtain ⟨adK, adV, h1, h2⟩ := vk_Sof (args := G.2.1) (s := G.1) (N := 1) (tm := fun _ => Term.string "CueStackModel" 231) (len := [7]) (byt := [sgnL]) (A := fun q => G.1.heap.size ≤ q)
    (fun i hi => by obtain rfl : i = 0 := by omega
                    decide)
    (fun i hi => hm _ (by decide +kernel)) (fun i hi => hm _ (by decide +kernel)) (fun i hi => hm _ (by decide +kernel)) (fun i hi => by obtain rfl : i = 0 := by omega
                                                                                                                                         exact hm _ (by decide +kernel))
    (fun i hi j hj => by
      obtain rfl : i = 0 := by omega
      match j, hj with
      | 0, _ => exact hm _ (by decide +kernel)
      | 1, _ => exact hm _ (by decide +kernel)
      | 2, _ => exact hm _ (by decide +kernel)
      | 3, _ => exact hm _ (by decide +kernel)
      | 4, _ => exact hm _ (by decide +kernel)
      | 5, _ => exact hm _ (by decide +kernel)
      | 6, _ => exact hm _ (by decide +kernel)
      | j + 7, h => exact absurd h (by show ¬ j + 7 < 7; omega))
    (fun i j hi hj hne => absurd (by omega) hne) (fun a ha => Nat.not_le.mpr ha)
  obtain ⟨a1, a2, a3, a4⟩ := h1.1 0 (by omega)
  exact ⟨adK 0, adV 0, h2 0 (by omega), a1, a2, a3, a4⟩
