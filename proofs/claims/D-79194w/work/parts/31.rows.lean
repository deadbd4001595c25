/-! ===== rows over WA: locals, stack, numbers, branches ===== -/
def asc : Nat → List Value → List (Nat × Value)
  | _, [] => []
  | n, v :: vs => if v = .retAddr 0 then asc (n + 1) vs else (n, v) :: asc (n + 1) vs
theorem asc_mem : ∀ (ls : List Value) (n j : Nat) (w : Value), (j, w) ∈ asc n ls ↔ n ≤ j ∧ ls[j - n]? = some w ∧ w ≠ .retAddr 0
  | [], n, j, w => by simp [asc]
  | v :: vs, n, j, w => by
    unfold asc
    have ih := asc_mem vs (n + 1) j w
    by_cases hv : v = .retAddr 0
    · rw [if_pos hv, ih]
      constructor
      · rintro ⟨h1, h2, h3⟩
        refine ⟨by omega, ?_, h3⟩
        rw [show j - n = (j - (n + 1)) + 1 by omega, List.getElem?_cons_succ]
        exact h2
      · rintro ⟨h1, h2, h3⟩
        by_cases e : j = n
        · subst e
          rw [Nat.sub_self, List.getElem?_cons_zero] at h2
          exact absurd (Option.some.inj h2 ▸ hv) h3
        · refine ⟨by omega, ?_, h3⟩
          rw [show j - n = (j - (n + 1)) + 1 by omega, List.getElem?_cons_succ] at h2
          exact h2
    · rw [if_neg hv, List.mem_cons, ih]
      constructor
      · rintro (h | ⟨h1, h2, h3⟩)
        · cases h
          exact ⟨Nat.le_refl _, by rw [Nat.sub_self]; rfl, hv⟩
        · refine ⟨by omega, ?_, h3⟩
          rw [show j - n = (j - (n + 1)) + 1 by omega, List.getElem?_cons_succ]
          exact h2
      · rintro ⟨h1, h2, h3⟩
        by_cases e : j = n
        · subst e
          rw [Nat.sub_self, List.getElem?_cons_zero] at h2
          exact Or.inl (by rw [Option.some.inj h2])
        · refine Or.inr ⟨by omega, ?_, h3⟩
          rw [show j - n = (j - (n + 1)) + 1 by omega, List.getElem?_cons_succ] at h2
          exact h2
theorem LH.asc {la : Array Slot} {nL : Nat} {ls : List Value} (h : LH la nL ls) : lv_has la nL (asc 0 ls) := ⟨h.1, h.2.1, fun q hq => by
  obtain ⟨j, w⟩ := q
  obtain ⟨-, h2, h3⟩ := (asc_mem ls 0 j w).mp hq
  exact h.2.2 j w h2 h3⟩
/-- the place before the one that is stored to holds no long -/
def okst (ls : List Value) (i : Nat) : Bool := match i with
  | 0 => true
  | j + 1 => match ls[j]? with
    | some v => v.category == 1
    | none => true
theorem LH.stored {la : Array Slot} {nL : Nat} {ls : List Value} {i : Nat} {v : Value} (ho : okst ls i = true) (h : lv_has la nL ((i, v) :: (_root_.Jvm.Pilot.CCueStackLaw_law_r4170_6a4440.asc 0 ls).filter (fun q => !(q.1 == i) && !(q.1 + 1 == i && q.2.category == 2)))) : LH la nL (ls.set i v) := by
  refine ⟨h.1, h.2.1, fun j w hj hw => ?_⟩
  by_cases e : j = i
  · subst e
    rw [List.getElem?_set_self' ] at hj
    cases hl : ls[j]? with
    | none => rw [hl] at hj; simp at hj
    | some z =>
      rw [hl] at hj
      simp at hj
      exact h.2.2 (j, w) (by rw [hj]; exact List.mem_cons_self)
  · rw [List.getElem?_set_ne (Ne.symm e)] at hj
    refine h.2.2 (j, w) (List.mem_cons_of_mem _ (List.mem_filter.mpr ⟨(asc_mem ls 0 j w).mpr ⟨Nat.zero_le _, hj, hw⟩, ?_⟩))
    simp only [Bool.and_eq_true, Bool.not_eq_true', beq_eq_false_iff_ne, ne_eq, Bool.and_eq_false_iff]
    refine ⟨e, ?_⟩
    by_cases e2 : j + 1 = i
    · subst e2
      simp only [okst, hj] at ho
      have : w.category = 1 := by simpa using ho
      exact Or.inr (by omega)
    · exact Or.inl e2
theorem LH.storedW {la : Array Slot} {nL : Nat} {ls : List Value} {i : Nat} {v : Value} (ho : okst ls i = true) (h : lv_has la nL ((i, v) :: (_root_.Jvm.Pilot.CCueStackLaw_law_r4170_6a4440.asc 0 ls).filter (fun q => !(q.1 == i) && (!(q.1 == i + 1) && !(q.1 + 1 == i && q.2.category == 2))))) : LH la nL ((ls.set (i + 1) (.retAddr 0)).set i v) := by
  refine ⟨h.1, h.2.1, fun j w hj hw => ?_⟩
  by_cases e : j = i
  · subst e
    rw [List.getElem?_set_self'] at hj
    cases hl : (ls.set (j + 1) (.retAddr 0))[j]? with
    | none => rw [hl] at hj; simp at hj
    | some z =>
      rw [hl] at hj
      simp at hj
      exact h.2.2 (j, w) (by rw [hj]; exact List.mem_cons_self)
  · rw [List.getElem?_set_ne (Ne.symm e)] at hj
    by_cases e3 : j = i + 1
    · subst e3
      rw [List.getElem?_set_self'] at hj
      cases hl : ls[i + 1]? with
      | none => rw [hl] at hj; simp at hj
      | some z =>
        rw [hl] at hj
        simp at hj
        exact absurd hj.symm hw
    · rw [List.getElem?_set_ne (Ne.symm e3)] at hj
      refine h.2.2 (j, w) (List.mem_cons_of_mem _ (List.mem_filter.mpr ⟨(asc_mem ls 0 j w).mpr ⟨Nat.zero_le _, hj, hw⟩, ?_⟩))
      simp only [Bool.and_eq_true, Bool.not_eq_true', beq_eq_false_iff_ne, ne_eq, Bool.and_eq_false_iff]
      refine ⟨e, e3, ?_⟩
      by_cases e2 : j + 1 = i
      · subst e2
        simp only [okst, hj] at ho
        have : w.category = 1 := by simpa using ho
        exact Or.inr (by omega)
      · exact Or.inl e2
section ROWS
variable {G : GG} {d : Nat} {y : MD} {pc : Nat} {ls st : List Value} {h : AH} {Q : RR → AH → Prop}
theorem wa_iconst {n : Int} (v : Int32) (hd : decode y.2.1 pc = .ok (.iconst n, 1)) (hv : Int32.ofInt n = v) (k : WA G d y (pc + 1) ls (.int v :: st) h Q) : WA G d y pc ls (st) h Q := WA.pure (fun p l e R s m args below meth c H locs cells slots Z la C hL K => lv_iconst C.1 C.2.1 hd hv (K la hL)) k
theorem wa_bipush {n : Int} (v : Int32) (hd : decode y.2.1 pc = .ok (.bipush n, 2)) (hv : (Int8.ofInt n).toInt32 = v) (k : WA G d y (pc + 2) ls (.int v :: st) h Q) : WA G d y pc ls (st) h Q := WA.pure (fun p l e R s m args below meth c H locs cells slots Z la C hL K => lv_bipush C.1 C.2.1 hd hv (K la hL)) k
theorem wa_sipush {n : Int} (v : Int32) (hd : decode y.2.1 pc = .ok (.sipush n, 3)) (hv : (Int16.ofInt n).toInt32 = v) (k : WA G d y (pc + 3) ls (.int v :: st) h Q) : WA G d y pc ls (st) h Q := WA.pure (fun p l e R s m args below meth c H locs cells slots Z la C hL K => lv_sipush C.1 C.2.1 hd hv (K la hL)) k
theorem wa_lconst {n : Fin 2} (v : Int64) (hd : decode y.2.1 pc = .ok (.lconst n, 1)) (hv : Int64.ofNat (n : Nat) = v) (k : WA G d y (pc + 1) ls (.long v :: st) h Q) : WA G d y pc ls (st) h Q := WA.pure (fun p l e R s m args below meth c H locs cells slots Z la C hL K => lv_lconst C.1 C.2.1 hd hv (K la hL)) k
theorem wa_null (hd : decode y.2.1 pc = .ok (.aconst_null, 1)) (k : WA G d y (pc + 1) ls (.null :: st) h Q) : WA G d y pc ls (st) h Q := WA.pure (fun p l e R s m args below meth c H locs cells slots Z la C hL K => lv_null C.1 C.2.1 hd (K la hL)) k
theorem wa_iload_n {i : Fin 4} {x : Int32} (hd : decode y.2.1 pc = .ok (.iload_n i, 1)) (hl : ls[(i : Nat)]? = some (.int x)) (k : WA G d y (pc + 1) ls (.int x :: st) h Q) : WA G d y pc ls (st) h Q := WA.pure (fun p l e R s m args below meth c H locs cells slots Z la C hL K => lv_iload_n C.1 C.2.1 hd rfl (hL.get hl (by simp)) (K la hL)) k
theorem wa_iload {i : Nat} {x : Int32} (hd : decode y.2.1 pc = .ok (.iload i, 2)) (hl : ls[i]? = some (.int x)) (k : WA G d y (pc + 2) ls (.int x :: st) h Q) : WA G d y pc ls (st) h Q := WA.pure (fun p l e R s m args below meth c H locs cells slots Z la C hL K => lv_iload C.1 C.2.1 hd (hL.get hl (by simp)) (K la hL)) k
theorem wa_lload_n {i : Fin 4} {x : Int64} (hd : decode y.2.1 pc = .ok (.lload_n i, 1)) (hl : ls[(i : Nat)]? = some (.long x)) (k : WA G d y (pc + 1) ls (.long x :: st) h Q) : WA G d y pc ls (st) h Q := WA.pure (fun p l e R s m args below meth c H locs cells slots Z la C hL K => lv_lload_n C.1 C.2.1 hd rfl (hL.get hl (by simp)) (K la hL)) k
theorem wa_lload {i : Nat} {x : Int64} (hd : decode y.2.1 pc = .ok (.lload i, 2)) (hl : ls[i]? = some (.long x)) (k : WA G d y (pc + 2) ls (.long x :: st) h Q) : WA G d y pc ls (st) h Q := WA.pure (fun p l e R s m args below meth c H locs cells slots Z la C hL K => lv_lload C.1 C.2.1 hd (hL.get hl (by simp)) (K la hL)) k
theorem wa_aload_n {i : Fin 4} {x : Nat} (hd : decode y.2.1 pc = .ok (.aload_n i, 1)) (hl : ls[(i : Nat)]? = some (.ref x)) (k : WA G d y (pc + 1) ls (.ref x :: st) h Q) : WA G d y pc ls (st) h Q := WA.pure (fun p l e R s m args below meth c H locs cells slots Z la C hL K => lv_aload_n C.1 C.2.1 hd rfl (hL.get hl (by simp)) (K la hL)) k
theorem wa_aload {i : Nat} {x : Nat} (hd : decode y.2.1 pc = .ok (.aload i, 2)) (hl : ls[i]? = some (.ref x)) (k : WA G d y (pc + 2) ls (.ref x :: st) h Q) : WA G d y pc ls (st) h Q := WA.pure (fun p l e R s m args below meth c H locs cells slots Z la C hL K => lv_aload C.1 C.2.1 hd (hL.get hl (by simp)) (K la hL)) k
theorem wa_dload_n {i : Fin 4} {x : UInt64} (hd : decode y.2.1 pc = .ok (.dload_n i, 1)) (hl : ls[(i : Nat)]? = some (.double x)) (k : WA G d y (pc + 1) ls (.double x :: st) h Q) : WA G d y pc ls (st) h Q := WA.pure (fun p l e R s m args below meth c H locs cells slots Z la C hL K => lv_dload_n C.1 C.2.1 hd rfl (hL.get hl (by simp)) (K la hL)) k
theorem wa_dload {i : Nat} {x : UInt64} (hd : decode y.2.1 pc = .ok (.dload i, 2)) (hl : ls[i]? = some (.double x)) (k : WA G d y (pc + 2) ls (.double x :: st) h Q) : WA G d y pc ls (st) h Q := WA.pure (fun p l e R s m args below meth c H locs cells slots Z la C hL K => lv_dload C.1 C.2.1 hd (hL.get hl (by simp)) (K la hL)) k
theorem wa_fload_n {i : Fin 4} {x : UInt32} (hd : decode y.2.1 pc = .ok (.fload_n i, 1)) (hl : ls[(i : Nat)]? = some (.float x)) (k : WA G d y (pc + 1) ls (.float x :: st) h Q) : WA G d y pc ls (st) h Q := WA.pure (fun p l e R s m args below meth c H locs cells slots Z la C hL K => lv_fload_n C.1 C.2.1 hd rfl (hL.get hl (by simp)) (K la hL)) k
theorem wa_fload {i : Nat} {x : UInt32} (hd : decode y.2.1 pc = .ok (.fload i, 2)) (hl : ls[i]? = some (.float x)) (k : WA G d y (pc + 2) ls (.float x :: st) h Q) : WA G d y pc ls (st) h Q := WA.pure (fun p l e R s m args below meth c H locs cells slots Z la C hL K => lv_fload C.1 C.2.1 hd (hL.get hl (by simp)) (K la hL)) k
theorem wa_aload_nN {i : Fin 4} (hd : decode y.2.1 pc = .ok (.aload_n i, 1)) (hl : ls[(i : Nat)]? = some .null) (k : WA G d y (pc + 1) ls (.null :: st) h Q) : WA G d y pc ls (st) h Q := WA.pure (fun p l e R s m args below meth c H locs cells slots Z la C hL K => lv_aload_nN C.1 C.2.1 hd rfl (hL.get hl (by simp)) (K la hL)) k
theorem wa_aloadN {i : Nat} (hd : decode y.2.1 pc = .ok (.aload i, 2)) (hl : ls[i]? = some .null) (k : WA G d y (pc + 2) ls (.null :: st) h Q) : WA G d y pc ls (st) h Q := WA.pure (fun p l e R s m args below meth c H locs cells slots Z la C hL K => lv_aloadN C.1 C.2.1 hd (hL.get hl (by simp)) (K la hL)) k
theorem wa_aload_nq {i : Fin 4} {x : Option Nat} (hd : decode y.2.1 pc = .ok (.aload_n i, 1)) (hl : ls[(i : Nat)]? = some (va_rf x)) (k : WA G d y (pc + 1) ls (va_rf x :: st) h Q) : WA G d y pc ls st h Q := by
  cases x with
  | none => exact wa_aload_nN hd hl k
  | some x => exact wa_aload_n hd hl k
theorem wa_aloadq {i : Nat} {x : Option Nat} (hd : decode y.2.1 pc = .ok (.aload i, 2)) (hl : ls[i]? = some (va_rf x)) (k : WA G d y (pc + 2) ls (va_rf x :: st) h Q) : WA G d y pc ls st h Q := by
  cases x with
  | none => exact wa_aloadN hd hl k
  | some x => exact wa_aload hd hl k
theorem wa_istore_n {i : Fin 4} {x : Int32} (hd : decode y.2.1 pc = .ok (.istore_n i, 1)) (hn : (i : Nat) < y.2.2.1) (ho : okst ls i = true) (k : WA G d y (pc + 1) (ls.set i (.int x)) (st) h Q) : WA G d y pc ls (.int x :: st) h Q := WA.pure (fun p l e R s m args below meth c H locs cells slots Z la C hL K => lv_istore_n C.1 C.2.1 hd rfl hL.asc hn rfl (fun la2 h2 => K la2 (LH.stored ho h2))) k
theorem wa_istore {i : Nat} {x : Int32} (hd : decode y.2.1 pc = .ok (.istore i, 2)) (hn : i < y.2.2.1) (ho : okst ls i = true) (k : WA G d y (pc + 2) (ls.set i (.int x)) (st) h Q) : WA G d y pc ls (.int x :: st) h Q := WA.pure (fun p l e R s m args below meth c H locs cells slots Z la C hL K => lv_istore C.1 C.2.1 hd hL.asc hn rfl (fun la2 h2 => K la2 (LH.stored ho h2))) k
theorem wa_astore_n {i : Fin 4} {x : Nat} (hd : decode y.2.1 pc = .ok (.astore_n i, 1)) (hn : (i : Nat) < y.2.2.1) (ho : okst ls i = true) (k : WA G d y (pc + 1) (ls.set i (.ref x)) (st) h Q) : WA G d y pc ls (.ref x :: st) h Q := WA.pure (fun p l e R s m args below meth c H locs cells slots Z la C hL K => lv_astore_n C.1 C.2.1 hd rfl hL.asc hn rfl (fun la2 h2 => K la2 (LH.stored ho h2))) k
theorem wa_astore {i : Nat} {x : Nat} (hd : decode y.2.1 pc = .ok (.astore i, 2)) (hn : i < y.2.2.1) (ho : okst ls i = true) (k : WA G d y (pc + 2) (ls.set i (.ref x)) (st) h Q) : WA G d y pc ls (.ref x :: st) h Q := WA.pure (fun p l e R s m args below meth c H locs cells slots Z la C hL K => lv_astore C.1 C.2.1 hd hL.asc hn rfl (fun la2 h2 => K la2 (LH.stored ho h2))) k
theorem wa_fstore_n {i : Fin 4} {x : UInt32} (hd : decode y.2.1 pc = .ok (.fstore_n i, 1)) (hn : (i : Nat) < y.2.2.1) (ho : okst ls i = true) (k : WA G d y (pc + 1) (ls.set i (.float x)) (st) h Q) : WA G d y pc ls (.float x :: st) h Q := WA.pure (fun p l e R s m args below meth c H locs cells slots Z la C hL K => lv_fstore_n C.1 C.2.1 hd rfl hL.asc hn rfl (fun la2 h2 => K la2 (LH.stored ho h2))) k
theorem wa_fstore {i : Nat} {x : UInt32} (hd : decode y.2.1 pc = .ok (.fstore i, 2)) (hn : i < y.2.2.1) (ho : okst ls i = true) (k : WA G d y (pc + 2) (ls.set i (.float x)) (st) h Q) : WA G d y pc ls (.float x :: st) h Q := WA.pure (fun p l e R s m args below meth c H locs cells slots Z la C hL K => lv_fstore C.1 C.2.1 hd hL.asc hn rfl (fun la2 h2 => K la2 (LH.stored ho h2))) k
theorem wa_astore_nN {i : Fin 4} (hd : decode y.2.1 pc = .ok (.astore_n i, 1)) (hn : (i : Nat) < y.2.2.1) (ho : okst ls i = true) (k : WA G d y (pc + 1) (ls.set i .null) (st) h Q) : WA G d y pc ls (.null :: st) h Q := WA.pure (fun p l e R s m args below meth c H locs cells slots Z la C hL K => lv_astore_nN C.1 C.2.1 hd rfl hL.asc hn rfl (fun la2 h2 => K la2 (LH.stored ho h2))) k
theorem wa_astoreN {i : Nat} (hd : decode y.2.1 pc = .ok (.astore i, 2)) (hn : i < y.2.2.1) (ho : okst ls i = true) (k : WA G d y (pc + 2) (ls.set i .null) (st) h Q) : WA G d y pc ls (.null :: st) h Q := WA.pure (fun p l e R s m args below meth c H locs cells slots Z la C hL K => lv_astoreN C.1 C.2.1 hd hL.asc hn rfl (fun la2 h2 => K la2 (LH.stored ho h2))) k
theorem wa_astore_nq {i : Fin 4} {x : Option Nat} (hd : decode y.2.1 pc = .ok (.astore_n i, 1)) (hn : (i : Nat) < y.2.2.1) (ho : okst ls i = true) (k : WA G d y (pc + 1) (ls.set i (va_rf x)) st h Q) : WA G d y pc ls (va_rf x :: st) h Q := by
  cases x with
  | none => exact wa_astore_nN hd hn ho k
  | some x => exact wa_astore_n hd hn ho k
theorem wa_astoreq {i : Nat} {x : Option Nat} (hd : decode y.2.1 pc = .ok (.astore i, 2)) (hn : i < y.2.2.1) (ho : okst ls i = true) (k : WA G d y (pc + 2) (ls.set i (va_rf x)) st h Q) : WA G d y pc ls (va_rf x :: st) h Q := by
  cases x with
  | none => exact wa_astoreN hd hn ho k
  | some x => exact wa_astore hd hn ho k
theorem wa_lstore_n {i : Fin 4} {x : Int64} (hd : decode y.2.1 pc = .ok (.lstore_n i, 1)) (hn : (i : Nat) + 1 < y.2.2.1) (ho : okst ls i = true) (k : WA G d y (pc + 1) ((ls.set (i + 1) (.retAddr 0)).set i (.long x)) (st) h Q) : WA G d y pc ls (.long x :: st) h Q := WA.pure (fun p l e R s m args below meth c H locs cells slots Z la C hL K => lv_lstore_n C.1 C.2.1 hd rfl hL.asc hn rfl (fun la2 h2 => K la2 (LH.storedW ho h2))) k
theorem wa_lstore {i : Nat} {x : Int64} (hd : decode y.2.1 pc = .ok (.lstore i, 2)) (hn : i + 1 < y.2.2.1) (ho : okst ls i = true) (k : WA G d y (pc + 2) ((ls.set (i + 1) (.retAddr 0)).set i (.long x)) (st) h Q) : WA G d y pc ls (.long x :: st) h Q := WA.pure (fun p l e R s m args below meth c H locs cells slots Z la C hL K => lv_lstore C.1 C.2.1 hd hL.asc hn rfl (fun la2 h2 => K la2 (LH.storedW ho h2))) k
theorem wa_dstore_n {i : Fin 4} {x : UInt64} (hd : decode y.2.1 pc = .ok (.dstore_n i, 1)) (hn : (i : Nat) + 1 < y.2.2.1) (ho : okst ls i = true) (k : WA G d y (pc + 1) ((ls.set (i + 1) (.retAddr 0)).set i (.double x)) (st) h Q) : WA G d y pc ls (.double x :: st) h Q := WA.pure (fun p l e R s m args below meth c H locs cells slots Z la C hL K => lv_dstore_n C.1 C.2.1 hd rfl hL.asc hn rfl (fun la2 h2 => K la2 (LH.storedW ho h2))) k
theorem wa_dstore {i : Nat} {x : UInt64} (hd : decode y.2.1 pc = .ok (.dstore i, 2)) (hn : i + 1 < y.2.2.1) (ho : okst ls i = true) (k : WA G d y (pc + 2) ((ls.set (i + 1) (.retAddr 0)).set i (.double x)) (st) h Q) : WA G d y pc ls (.double x :: st) h Q := WA.pure (fun p l e R s m args below meth c H locs cells slots Z la C hL K => lv_dstore C.1 C.2.1 hd hL.asc hn rfl (fun la2 h2 => K la2 (LH.storedW ho h2))) k
theorem asc_at {ls : List Value} {i : Nat} {v : Value} (hl : ls[i]? = some v) (hv : v ≠ .retAddr 0) : ∃ k : Nat, (asc 0 ls)[k]? = some (i, v) := List.getElem?_of_mem ((asc_mem ls 0 i v).mpr ⟨Nat.zero_le _, hl, hv⟩)
theorem wa_iinc {i : Nat} {n : Int} {x : Int32} (v : Int32) (hd : decode y.2.1 pc = .ok (.iinc i n, 3)) (hv : Int32.ofInt n = v) (hl : ls[i]? = some (.int x)) (hn : i < y.2.2.1) (ho : okst ls i = true) (k : WA G d y (pc + 3) (ls.set i (.int (x + v))) st h Q) : WA G d y pc ls st h Q := WA.pure (fun p l e R s m args below meth c H locs cells slots Z la C hL K => by
  obtain ⟨k9, hk9⟩ := asc_at hl (by simp)
  exact lv_iinc C.1 C.2.1 hd hL.asc hk9 (by rw [hv]) hn rfl (fun la2 h2 => K la2 (LH.stored ho h2))) k
theorem wa_iadd {x z : Int32} (hd : decode y.2.1 pc = .ok (.iadd, 1)) (k : WA G d y (pc + 1) ls (.int (x + z) :: st) h Q) : WA G d y pc ls (.int z :: .int x :: st) h Q := WA.pure (fun p l e R s m args below meth c H locs cells slots Z la C hL K => lv_iadd C.1 C.2.1 hd (K la hL)) k
theorem wa_isub {x z : Int32} (hd : decode y.2.1 pc = .ok (.isub, 1)) (k : WA G d y (pc + 1) ls (.int (x - z) :: st) h Q) : WA G d y pc ls (.int z :: .int x :: st) h Q := WA.pure (fun p l e R s m args below meth c H locs cells slots Z la C hL K => lv_isub C.1 C.2.1 hd (K la hL)) k
theorem wa_imul {x z : Int32} (hd : decode y.2.1 pc = .ok (.imul, 1)) (k : WA G d y (pc + 1) ls (.int (x * z) :: st) h Q) : WA G d y pc ls (.int z :: .int x :: st) h Q := WA.pure (fun p l e R s m args below meth c H locs cells slots Z la C hL K => lv_imul C.1 C.2.1 hd (K la hL)) k
theorem wa_iand {x z : Int32} (hd : decode y.2.1 pc = .ok (.iand, 1)) (k : WA G d y (pc + 1) ls (.int (x &&& z) :: st) h Q) : WA G d y pc ls (.int z :: .int x :: st) h Q := WA.pure (fun p l e R s m args below meth c H locs cells slots Z la C hL K => lv_iand C.1 C.2.1 hd (K la hL)) k
theorem wa_ior {x z : Int32} (hd : decode y.2.1 pc = .ok (.ior, 1)) (k : WA G d y (pc + 1) ls (.int (x ||| z) :: st) h Q) : WA G d y pc ls (.int z :: .int x :: st) h Q := WA.pure (fun p l e R s m args below meth c H locs cells slots Z la C hL K => lv_ior C.1 C.2.1 hd (K la hL)) k
theorem wa_ixor {x z : Int32} (hd : decode y.2.1 pc = .ok (.ixor, 1)) (k : WA G d y (pc + 1) ls (.int (x ^^^ z) :: st) h Q) : WA G d y pc ls (.int z :: .int x :: st) h Q := WA.pure (fun p l e R s m args below meth c H locs cells slots Z la C hL K => lv_ixor C.1 C.2.1 hd (K la hL)) k
theorem wa_ishl {x z : Int32} (hd : decode y.2.1 pc = .ok (.ishl, 1)) (k : WA G d y (pc + 1) ls (.int (x <<< (z &&& 31)) :: st) h Q) : WA G d y pc ls (.int z :: .int x :: st) h Q := WA.pure (fun p l e R s m args below meth c H locs cells slots Z la C hL K => lv_ishl C.1 C.2.1 hd (K la hL)) k
theorem wa_ishr {x z : Int32} (hd : decode y.2.1 pc = .ok (.ishr, 1)) (k : WA G d y (pc + 1) ls (.int (x >>> (z &&& 31)) :: st) h Q) : WA G d y pc ls (.int z :: .int x :: st) h Q := WA.pure (fun p l e R s m args below meth c H locs cells slots Z la C hL K => lv_ishr C.1 C.2.1 hd (K la hL)) k
theorem wa_idiv {x z : Int32} (hd : decode y.2.1 pc = .ok (.idiv, 1)) (hne : ¬ z = 0) (k : WA G d y (pc + 1) ls (.int (x / z) :: st) h Q) : WA G d y pc ls (.int z :: .int x :: st) h Q := WA.pure (fun p l e R s m args below meth c H locs cells slots Z la C hL K => lv_idiv C.1 C.2.1 hd hne (K la hL)) k
theorem wa_ineg {x : Int32} (hd : decode y.2.1 pc = .ok (.ineg, 1)) (k : WA G d y (pc + 1) ls (.int (-x) :: st) h Q) : WA G d y pc ls (.int x :: st) h Q := WA.pure (fun p l e R s m args below meth c H locs cells slots Z la C hL K => lv_ineg C.1 C.2.1 hd (K la hL)) k
theorem wa_ladd {x z : Int64} (hd : decode y.2.1 pc = .ok (.ladd, 1)) (k : WA G d y (pc + 1) ls (.long (x + z) :: st) h Q) : WA G d y pc ls (.long z :: .long x :: st) h Q := WA.pure (fun p l e R s m args below meth c H locs cells slots Z la C hL K => lv_ladd C.1 C.2.1 hd (K la hL)) k
theorem wa_lsub {x z : Int64} (hd : decode y.2.1 pc = .ok (.lsub, 1)) (k : WA G d y (pc + 1) ls (.long (x - z) :: st) h Q) : WA G d y pc ls (.long z :: .long x :: st) h Q := WA.pure (fun p l e R s m args below meth c H locs cells slots Z la C hL K => lv_lsub C.1 C.2.1 hd (K la hL)) k
theorem wa_land {x z : Int64} (hd : decode y.2.1 pc = .ok (.land, 1)) (k : WA G d y (pc + 1) ls (.long (x &&& z) :: st) h Q) : WA G d y pc ls (.long z :: .long x :: st) h Q := WA.pure (fun p l e R s m args below meth c H locs cells slots Z la C hL K => lv_land C.1 C.2.1 hd (K la hL)) k
theorem wa_lxor {x z : Int64} (hd : decode y.2.1 pc = .ok (.lxor, 1)) (k : WA G d y (pc + 1) ls (.long (x ^^^ z) :: st) h Q) : WA G d y pc ls (.long z :: .long x :: st) h Q := WA.pure (fun p l e R s m args below meth c H locs cells slots Z la C hL K => lv_lxor C.1 C.2.1 hd (K la hL)) k
theorem wa_i2l {x : Int32} (hd : decode y.2.1 pc = .ok (.i2l, 1)) (k : WA G d y (pc + 1) ls (.long x.toInt64 :: st) h Q) : WA G d y pc ls (.int x :: st) h Q := WA.pure (fun p l e R s m args below meth c H locs cells slots Z la C hL K => lv_i2l C.1 C.2.1 hd rfl (K la hL)) k
theorem wa_l2i {x : Int64} (hd : decode y.2.1 pc = .ok (.l2i, 1)) (k : WA G d y (pc + 1) ls (.int x.toInt32 :: st) h Q) : WA G d y pc ls (.long x :: st) h Q := WA.pure (fun p l e R s m args below meth c H locs cells slots Z la C hL K => lv_l2i C.1 C.2.1 hd rfl (K la hL)) k
theorem wa_i2c {x : Int32} (hd : decode y.2.1 pc = .ok (.i2c, 1)) (k : WA G d y (pc + 1) ls (.int (x.toUInt32 % 65536).toInt32 :: st) h Q) : WA G d y pc ls (.int x :: st) h Q := WA.pure (fun p l e R s m args below meth c H locs cells slots Z la C hL K => lv_i2c C.1 C.2.1 hd rfl (K la hL)) k
theorem wa_iushr {x z : Int32} (hd : decode y.2.1 pc = .ok (.iushr, 1)) (k : WA G d y (pc + 1) ls (.int (x.toUInt32 >>> (z.toUInt32 &&& Int32.toUInt32 31)).toInt32 :: st) h Q) : WA G d y pc ls (.int z :: .int x :: st) h Q := WA.pure (fun p l e R s m args below meth c H locs cells slots Z la C hL K => lv_iushr C.1 C.2.1 hd rfl (K la hL)) k
theorem wa_lshl {x : Int64} {z : Int32} (hd : decode y.2.1 pc = .ok (.lshl, 1)) (k : WA G d y (pc + 1) ls (.long (x <<< (z.toInt64 &&& 63)) :: st) h Q) : WA G d y pc ls (.int z :: .long x :: st) h Q := WA.pure (fun p l e R s m args below meth c H locs cells slots Z la C hL K => lv_lshl C.1 C.2.1 hd rfl (K la hL)) k
theorem wa_lshr {x : Int64} {z : Int32} (hd : decode y.2.1 pc = .ok (.lshr, 1)) (k : WA G d y (pc + 1) ls (.long (x >>> (z.toInt64 &&& 63)) :: st) h Q) : WA G d y pc ls (.int z :: .long x :: st) h Q := WA.pure (fun p l e R s m args below meth c H locs cells slots Z la C hL K => lv_lshr C.1 C.2.1 hd rfl (K la hL)) k
theorem wa_dup {a : Value} (hd : decode y.2.1 pc = .ok (.dup, 1)) (ha : a.category = 1) (k : WA G d y (pc + 1) ls (a :: a :: st) h Q) : WA G d y pc ls (a :: st) h Q := WA.pure (fun p l e R s m args below meth c H locs cells slots Z la C hL K => lv_dup C.1 C.2.1 hd ha (K la hL)) k
theorem wa_pop {a : Value} (hd : decode y.2.1 pc = .ok (.pop, 1)) (ha : a.category = 1) (k : WA G d y (pc + 1) ls (st) h Q) : WA G d y pc ls (a :: st) h Q := WA.pure (fun p l e R s m args below meth c H locs cells slots Z la C hL K => lv_pop C.1 C.2.1 hd ha (K la hL)) k
theorem wa_dup_x1 {a b : Value} (hd : decode y.2.1 pc = .ok (.dup_x1, 1)) (ha : a.category = 1) (hb : b.category = 1) (k : WA G d y (pc + 1) ls (a :: b :: a :: st) h Q) : WA G d y pc ls (a :: b :: st) h Q := WA.pure (fun p l e R s m args below meth c H locs cells slots Z la C hL K => lv_dup_x1 C.1 C.2.1 hd ha hb (K la hL)) k
theorem wa_dup_x2 {a b b2 : Value} (hd : decode y.2.1 pc = .ok (.dup_x2, 1)) (ha : a.category = 1) (hb : b.category = 1) (hb2 : b2.category = 1) (k : WA G d y (pc + 1) ls (a :: b :: b2 :: a :: st) h Q) : WA G d y pc ls (a :: b :: b2 :: st) h Q := WA.pure (fun p l e R s m args below meth c H locs cells slots Z la C hL K => lv_dup_x2 C.1 C.2.1 hd ha hb hb2 (K la hL)) k
theorem wa_dup2 {a b : Value} (hd : decode y.2.1 pc = .ok (.dup2, 1)) (ha : a.category = 1) (hb : b.category = 1) (k : WA G d y (pc + 1) ls (a :: b :: a :: b :: st) h Q) : WA G d y pc ls (a :: b :: st) h Q := WA.pure (fun p l e R s m args below meth c H locs cells slots Z la C hL K => lv_dup2_11 C.1 C.2.1 hd ha hb (K la hL)) k
theorem wa_goto {off : Int} (tgt : Nat) (hd : decode y.2.1 pc = .ok (.goto off, 3)) (ht : (pc : Int) + off = (tgt : Int)) (k : WA G d y tgt ls st h Q) : WA G d y pc ls st h Q := WA.pure (fun p l e R s m args below meth c H locs cells slots Z la C hL K => lv_goto C.1 C.2.1 hd ht (K la hL)) k
theorem WA.fork {c : Prop} {pc2 pc3 : Nat} {st2 : List Value} (f : ∀ (p : Program) (l : Launch) (e : Env) (R : Room) (s : State) (m : MethodId) (args : Array Value) (below : List Frame) (meth : Method) (c0 : Code) (H : Heap) (locs : List Loc) (cells slots : Nat) (Z : State → Prop) (la : Array Slot),
      CX G d y p l R s m meth c0 → (c → W p l e R s m args below meth c0 H locs cells slots Z (F0 m pc2 la st2)) → (¬ c → W p l e R s m args below meth c0 H locs cells slots Z (F0 m pc3 la st2)) → W p l e R s m args below meth c0 H locs cells slots Z (F0 m pc la st))
    (kt : c → WA G d y pc2 ls st2 h Q) (kf : ¬ c → WA G d y pc3 ls st2 h Q) : WA G d y pc ls st h Q := by
  by_cases hc : c
  · exact WA.pure (fun p l e R s m args below meth c0 H locs cells slots Z la C hL K => f p l e R s m args below meth c0 H locs cells slots Z la C (fun _ => K la hL) (fun n => absurd hc n)) (kt hc)
  · exact WA.pure (fun p l e R s m args below meth c0 H locs cells slots Z la C hL K => f p l e R s m args below meth c0 H locs cells slots Z la C (fun q => absurd q hc) (fun _ => K la hL)) (kf hc)
theorem wa_if_eq {x : Int32} {off : Int} (tgt : Nat) (hd : decode y.2.1 pc = .ok (.ifCond .eq off, 3)) (ht : (pc : Int) + off = (tgt : Int)) (kt : x = 0 → WA G d y tgt ls st h Q) (kf : ¬ (x = 0) → WA G d y (pc + 3) ls st h Q) : WA G d y pc ls (.int x :: st) h Q := WA.fork (fun p l e R s m args below meth c H locs cells slots Z la C K1 K2 => lv_if_eq C.1 C.2.1 hd ht K1 K2) kt kf
theorem wa_icmp_eq {x y9 : Int32} {off : Int} (tgt : Nat) (hd : decode y.2.1 pc = .ok (.if_icmp .eq off, 3)) (ht : (pc : Int) + off = (tgt : Int)) (kt : x = y9 → WA G d y tgt ls st h Q) (kf : ¬ (x = y9) → WA G d y (pc + 3) ls st h Q) : WA G d y pc ls (.int y9 :: .int x :: st) h Q := WA.fork (fun p l e R s m args below meth c H locs cells slots Z la C K1 K2 => lv_icmp_eq C.1 C.2.1 hd ht K1 K2) kt kf
theorem wa_if_ne {x : Int32} {off : Int} (tgt : Nat) (hd : decode y.2.1 pc = .ok (.ifCond .ne off, 3)) (ht : (pc : Int) + off = (tgt : Int)) (kt : ¬ x = 0 → WA G d y tgt ls st h Q) (kf : x = 0 → WA G d y (pc + 3) ls st h Q) : WA G d y pc ls (.int x :: st) h Q := WA.fork (fun p l e R s m args below meth c H locs cells slots Z la C K1 K2 => lv_if_ne C.1 C.2.1 hd ht K2 K1) kf kt
theorem wa_icmp_ne {x y9 : Int32} {off : Int} (tgt : Nat) (hd : decode y.2.1 pc = .ok (.if_icmp .ne off, 3)) (ht : (pc : Int) + off = (tgt : Int)) (kt : ¬ x = y9 → WA G d y tgt ls st h Q) (kf : x = y9 → WA G d y (pc + 3) ls st h Q) : WA G d y pc ls (.int y9 :: .int x :: st) h Q := WA.fork (fun p l e R s m args below meth c H locs cells slots Z la C K1 K2 => lv_icmp_ne C.1 C.2.1 hd ht K2 K1) kf kt
theorem wa_if_lt {x : Int32} {off : Int} (tgt : Nat) (hd : decode y.2.1 pc = .ok (.ifCond .lt off, 3)) (ht : (pc : Int) + off = (tgt : Int)) (kt : x < 0 → WA G d y tgt ls st h Q) (kf : ¬ (x < 0) → WA G d y (pc + 3) ls st h Q) : WA G d y pc ls (.int x :: st) h Q := WA.fork (fun p l e R s m args below meth c H locs cells slots Z la C K1 K2 => lv_if_lt C.1 C.2.1 hd ht K1 K2) kt kf
theorem wa_icmp_lt {x y9 : Int32} {off : Int} (tgt : Nat) (hd : decode y.2.1 pc = .ok (.if_icmp .lt off, 3)) (ht : (pc : Int) + off = (tgt : Int)) (kt : x < y9 → WA G d y tgt ls st h Q) (kf : ¬ (x < y9) → WA G d y (pc + 3) ls st h Q) : WA G d y pc ls (.int y9 :: .int x :: st) h Q := WA.fork (fun p l e R s m args below meth c H locs cells slots Z la C K1 K2 => lv_icmp_lt C.1 C.2.1 hd ht K1 K2) kt kf
theorem wa_if_ge {x : Int32} {off : Int} (tgt : Nat) (hd : decode y.2.1 pc = .ok (.ifCond .ge off, 3)) (ht : (pc : Int) + off = (tgt : Int)) (kt : 0 ≤ x → WA G d y tgt ls st h Q) (kf : ¬ (0 ≤ x) → WA G d y (pc + 3) ls st h Q) : WA G d y pc ls (.int x :: st) h Q := WA.fork (fun p l e R s m args below meth c H locs cells slots Z la C K1 K2 => lv_if_ge C.1 C.2.1 hd ht K1 K2) kt kf
theorem wa_icmp_ge {x y9 : Int32} {off : Int} (tgt : Nat) (hd : decode y.2.1 pc = .ok (.if_icmp .ge off, 3)) (ht : (pc : Int) + off = (tgt : Int)) (kt : y9 ≤ x → WA G d y tgt ls st h Q) (kf : ¬ (y9 ≤ x) → WA G d y (pc + 3) ls st h Q) : WA G d y pc ls (.int y9 :: .int x :: st) h Q := WA.fork (fun p l e R s m args below meth c H locs cells slots Z la C K1 K2 => lv_icmp_ge C.1 C.2.1 hd ht K1 K2) kt kf
theorem wa_if_gt {x : Int32} {off : Int} (tgt : Nat) (hd : decode y.2.1 pc = .ok (.ifCond .gt off, 3)) (ht : (pc : Int) + off = (tgt : Int)) (kt : 0 < x → WA G d y tgt ls st h Q) (kf : ¬ (0 < x) → WA G d y (pc + 3) ls st h Q) : WA G d y pc ls (.int x :: st) h Q := WA.fork (fun p l e R s m args below meth c H locs cells slots Z la C K1 K2 => lv_if_gt C.1 C.2.1 hd ht K1 K2) kt kf
theorem wa_icmp_gt {x y9 : Int32} {off : Int} (tgt : Nat) (hd : decode y.2.1 pc = .ok (.if_icmp .gt off, 3)) (ht : (pc : Int) + off = (tgt : Int)) (kt : y9 < x → WA G d y tgt ls st h Q) (kf : ¬ (y9 < x) → WA G d y (pc + 3) ls st h Q) : WA G d y pc ls (.int y9 :: .int x :: st) h Q := WA.fork (fun p l e R s m args below meth c H locs cells slots Z la C K1 K2 => lv_icmp_gt C.1 C.2.1 hd ht K1 K2) kt kf
theorem wa_if_le {x : Int32} {off : Int} (tgt : Nat) (hd : decode y.2.1 pc = .ok (.ifCond .le off, 3)) (ht : (pc : Int) + off = (tgt : Int)) (kt : x ≤ 0 → WA G d y tgt ls st h Q) (kf : ¬ (x ≤ 0) → WA G d y (pc + 3) ls st h Q) : WA G d y pc ls (.int x :: st) h Q := WA.fork (fun p l e R s m args below meth c H locs cells slots Z la C K1 K2 => lv_if_le C.1 C.2.1 hd ht K1 K2) kt kf
theorem wa_icmp_le {x y9 : Int32} {off : Int} (tgt : Nat) (hd : decode y.2.1 pc = .ok (.if_icmp .le off, 3)) (ht : (pc : Int) + off = (tgt : Int)) (kt : x ≤ y9 → WA G d y tgt ls st h Q) (kf : ¬ (x ≤ y9) → WA G d y (pc + 3) ls st h Q) : WA G d y pc ls (.int y9 :: .int x :: st) h Q := WA.fork (fun p l e R s m args below meth c H locs cells slots Z la C K1 K2 => lv_icmp_le C.1 C.2.1 hd ht K1 K2) kt kf
theorem wa_acmp_eq {rx ry : Option Nat} {off : Int} (tgt : Nat) (hd : decode y.2.1 pc = .ok (.if_acmp .eq off, 3)) (ht : (pc : Int) + off = (tgt : Int)) (kt : rx = ry → WA G d y tgt ls st h Q) (kf : ¬ rx = ry → WA G d y (pc + 3) ls st h Q) : WA G d y pc ls (va_rf ry :: va_rf rx :: st) h Q := WA.fork (fun p l e R s m args below meth c H locs cells slots Z la C K1 K2 => lv_acmp_eq C.1 C.2.1 hd ht K1 K2) kt kf
theorem wa_acmp_ne {rx ry : Option Nat} {off : Int} (tgt : Nat) (hd : decode y.2.1 pc = .ok (.if_acmp .ne off, 3)) (ht : (pc : Int) + off = (tgt : Int)) (kt : ¬ rx = ry → WA G d y tgt ls st h Q) (kf : rx = ry → WA G d y (pc + 3) ls st h Q) : WA G d y pc ls (va_rf ry :: va_rf rx :: st) h Q := WA.fork (fun p l e R s m args below meth c H locs cells slots Z la C K1 K2 => lv_acmp_ne C.1 C.2.1 hd ht K2 K1) kf kt
theorem wa_ifnull {x : Nat} {off : Int} (hd : decode y.2.1 pc = .ok (.ifnull off, 3)) (k : WA G d y (pc + 3) ls st h Q) : WA G d y pc ls (.ref x :: st) h Q := WA.pure (fun p l e R s m args below meth c H locs cells slots Z la C hL K => lv_ifnull C.1 C.2.1 hd (K la hL)) k
theorem wa_ifnonnull {x : Nat} {off : Int} (tgt : Nat) (hd : decode y.2.1 pc = .ok (.ifnonnull off, 3)) (ht : (pc : Int) + off = (tgt : Int)) (k : WA G d y tgt ls st h Q) : WA G d y pc ls (.ref x :: st) h Q := WA.pure (fun p l e R s m args below meth c H locs cells slots Z la C hL K => lv_ifnonnull C.1 C.2.1 hd ht (K la hL)) k
theorem wa_ifnullN {off : Int} (tgt : Nat) (hd : decode y.2.1 pc = .ok (.ifnull off, 3)) (ht : (pc : Int) + off = (tgt : Int)) (k : WA G d y tgt ls st h Q) : WA G d y pc ls (.null :: st) h Q := WA.pure (fun p l e R s m args below meth c H locs cells slots Z la C hL K => lv_ifnullN C.1 C.2.1 hd ht (K la hL)) k
theorem wa_ifnonnullN {off : Int} (hd : decode y.2.1 pc = .ok (.ifnonnull off, 3)) (k : WA G d y (pc + 3) ls st h Q) : WA G d y pc ls (.null :: st) h Q := WA.pure (fun p l e R s m args below meth c H locs cells slots Z la C hL K => lv_ifnonnullN C.1 C.2.1 hd (K la hL)) k
theorem wa_ifnullq {x : Option Nat} {off : Int} (tgt : Nat) (hd : decode y.2.1 pc = .ok (.ifnull off, 3)) (ht : (pc : Int) + off = (tgt : Int)) (kt : x = none → WA G d y tgt ls st h Q) (kf : ∀ a, x = some a → WA G d y (pc + 3) ls st h Q) : WA G d y pc ls (va_rf x :: st) h Q := by
  cases x with
  | none => exact wa_ifnullN tgt hd ht (kt rfl)
  | some a => exact wa_ifnull hd (kf a rfl)
theorem wa_ifnonnullq {x : Option Nat} {off : Int} (tgt : Nat) (hd : decode y.2.1 pc = .ok (.ifnonnull off, 3)) (ht : (pc : Int) + off = (tgt : Int)) (kt : ∀ a, x = some a → WA G d y tgt ls st h Q) (kf : x = none → WA G d y (pc + 3) ls st h Q) : WA G d y pc ls (va_rf x :: st) h Q := by
  cases x with
  | none => exact wa_ifnonnullN hd (kf rfl)
  | some a => exact wa_ifnonnull tgt hd ht (kt a rfl)
theorem wa_lookup {dflt : Int} {ps : Array (Int × Int)} {len : Nat} {x : Int32} {off : Int} (tgt : Nat) (hd : decode y.2.1 pc = .ok (.lookupswitch dflt ps, len)) (hp : (ps.toList.zip (ps.toList.drop 1)).all (fun (a, next) => a.1 < next.1) = true) (ho : Op.lookupswitch.offset ps.toList dflt x.toInt = off) (ht : (pc : Int) + off = (tgt : Int)) (k : WA G d y tgt ls st h Q) : WA G d y pc ls (.int x :: st) h Q := WA.pure (fun p l e R s m args below meth c H locs cells slots Z la C hL K => lv_lookup C.1 C.2.1 hd hp ho ht (K la hL)) k
theorem wa_tableOut {dflt lo hi : Int} {offs : Array Int} {len : Nat} {x : Int32} (tgt : Nat) (hd : decode y.2.1 pc = .ok (.tableswitch dflt lo hi offs, len)) (hx : x.toInt < lo ∨ hi < x.toInt) (ht : (pc : Int) + dflt = (tgt : Int)) (k : WA G d y tgt ls st h Q) : WA G d y pc ls (.int x :: st) h Q := WA.pure (fun p l e R s m args below meth c H locs cells slots Z la C hL K => lv_tableOut C.1 C.2.1 hd hx ht (K la hL)) k
theorem wa_tableIn {dflt lo hi : Int} {offs : Array Int} {len : Nat} {x : Int32} {off : Int} (tgt : Nat) (hd : decode y.2.1 pc = .ok (.tableswitch dflt lo hi offs, len)) (h1 : ¬ x.toInt < lo) (h2 : ¬ hi < x.toInt) (ho : offs[(x.toInt - lo).toNat]? = some off) (ht : (pc : Int) + off = (tgt : Int)) (k : WA G d y tgt ls st h Q) : WA G d y pc ls (.int x :: st) h Q := WA.pure (fun p l e R s m args below meth c H locs cells slots Z la C hL K => lv_tableIn C.1 C.2.1 hd h1 h2 ho ht (K la hL)) k
theorem wa_lcmp {a b : Int64} (hd : decode y.2.1 pc = .ok (.lcmp, 1)) (k : WA G d y (pc + 1) ls (.int (lg_cmp a b) :: st) h Q) : WA G d y pc ls (.long b :: .long a :: st) h Q := WA.pure (fun p l e R s m args below meth c H locs cells slots Z la C hL K => W.lcmp C.1 C.2.1 hd (K la hL)) k
theorem wa_dmul {x z : UInt64} (hd : decode y.2.1 pc = .ok (.dmul, 1)) (hne : vf_n64 (FP.dmul x z)) (k : WA G d y (pc + 1) ls (.double (FP.dmul x z) :: st) h Q) : WA G d y pc ls (.double z :: .double x :: st) h Q := WA.pure (fun p l e R s m args below meth c H locs cells slots Z la C hL K => lv_dmul C.1 C.2.1 hd hne (K la hL)) k
theorem wa_ddiv {x z : UInt64} (hd : decode y.2.1 pc = .ok (.ddiv, 1)) (hne : vf_n64 (FP.ddiv x z)) (k : WA G d y (pc + 1) ls (.double (FP.ddiv x z) :: st) h Q) : WA G d y pc ls (.double z :: .double x :: st) h Q := WA.pure (fun p l e R s m args below meth c H locs cells slots Z la C hL K => lv_ddiv C.1 C.2.1 hd hne (K la hL)) k
theorem wa_dadd {x z : UInt64} (hd : decode y.2.1 pc = .ok (.dadd, 1)) (hne : vf_n64 (FP.dadd x z)) (k : WA G d y (pc + 1) ls (.double (FP.dadd x z) :: st) h Q) : WA G d y pc ls (.double z :: .double x :: st) h Q := WA.pure (fun p l e R s m args below meth c H locs cells slots Z la C hL K => lv_dadd C.1 C.2.1 hd hne (K la hL)) k
theorem wa_fmul {x z : UInt32} (hd : decode y.2.1 pc = .ok (.fmul, 1)) (hne : vf_n32 (FP.fmul x z)) (k : WA G d y (pc + 1) ls (.float (FP.fmul x z) :: st) h Q) : WA G d y pc ls (.float z :: .float x :: st) h Q := WA.pure (fun p l e R s m args below meth c H locs cells slots Z la C hL K => lv_fmul C.1 C.2.1 hd hne (K la hL)) k
theorem wa_f2d {x : UInt32} (hd : decode y.2.1 pc = .ok (.f2d, 1)) (hne : vf_n64 (FP.f2d x)) (k : WA G d y (pc + 1) ls (.double (FP.f2d x) :: st) h Q) : WA G d y pc ls (.float x :: st) h Q := WA.pure (fun p l e R s m args below meth c H locs cells slots Z la C hL K => lv_f2d C.1 C.2.1 hd hne (K la hL)) k
theorem wa_i2d {x : Int32} (hd : decode y.2.1 pc = .ok (.i2d, 1)) (k : WA G d y (pc + 1) ls (.double (FP.i2d x) :: st) h Q) : WA G d y pc ls (.int x :: st) h Q := WA.pure (fun p l e R s m args below meth c H locs cells slots Z la C hL K => lv_i2d C.1 C.2.1 hd (K la hL)) k
theorem wa_i2f {x : Int32} (hd : decode y.2.1 pc = .ok (.i2f, 1)) (k : WA G d y (pc + 1) ls (.float (FP.i2f x) :: st) h Q) : WA G d y pc ls (.int x :: st) h Q := WA.pure (fun p l e R s m args below meth c H locs cells slots Z la C hL K => lv_i2f C.1 C.2.1 hd (K la hL)) k
theorem wa_d2i {x : UInt64} (hd : decode y.2.1 pc = .ok (.d2i, 1)) (k : WA G d y (pc + 1) ls (.int (FP.d2i x) :: st) h Q) : WA G d y pc ls (.double x :: st) h Q := WA.pure (fun p l e R s m args below meth c H locs cells slots Z la C hL K => lv_d2i C.1 C.2.1 hd (K la hL)) k
theorem wa_f2i {x : UInt32} (hd : decode y.2.1 pc = .ok (.f2i, 1)) (k : WA G d y (pc + 1) ls (.int (FP.f2i x) :: st) h Q) : WA G d y pc ls (.float x :: st) h Q := WA.pure (fun p l e R s m args below meth c H locs cells slots Z la C hL K => lv_f2i C.1 C.2.1 hd (K la hL)) k
theorem wa_dcmp {x z : UInt64} {op : CmpOp} (hd : decode y.2.1 pc = .ok (.dcmp op, 1)) (k : WA G d y (pc + 1) ls (.int (Op.cmpValue (FP.dcmp x z) op) :: st) h Q) : WA G d y pc ls (.double z :: .double x :: st) h Q := WA.pure (fun p l e R s m args below meth c H locs cells slots Z la C hL K => lv_dcmp C.1 C.2.1 hd (K la hL)) k
theorem wa_fcmp {x z : UInt32} {op : CmpOp} (hd : decode y.2.1 pc = .ok (.fcmp op, 1)) (k : WA G d y (pc + 1) ls (.int (Op.cmpValue (FP.fcmp x z) op) :: st) h Q) : WA G d y pc ls (.float z :: .float x :: st) h Q := WA.pure (fun p l e R s m args below meth c H locs cells slots Z la C hL K => lv_fcmp C.1 C.2.1 hd (K la hL)) k
end ROWS
