/-! ===== exceptions over the heap of shape and contents (written by tools/exq.py) ===== -/
def hExc (h : AH) (k l nn : Nat) : AH := (h.1 + 1, h.2.1 + nn, fun b => if b = h.1 then some (k, List.replicate l .null) else h.2.2 b)
section EXCF
variable {G : GG} {d : Nat} {y : MD} {pc idx : Nat} {ls st : List Value} {h h2 : AH} {F F2 : Nat → Nat → Value} {Q : RR → AH → Prop} {a k l k2 l2 nn : Nat} {P : Nat → Prop} {g : Nat → Value}
theorem sF_exc {kk : Nat} : ah_upd (ah_new (sF h F) kk [] nn) h.1 (k, (List.range l).map g) = sF (hExc h k l nn) (newF F h.1 g) := by
  unfold ah_upd ah_new hExc sF
  congr 2
  funext b
  by_cases eb : b = h.1
  · subst eb
    simp [newF_eq]
  · simp only [if_neg eb]
    cases h.2.2 b with
    | none => rfl
    | some c =>
      simp only
      congr 2
      apply List.map_congr_left
      intro j _
      simp [newF_eq, eb]
theorem Is.exc : Is (hExc h k l nn) h.1 k l := ⟨Nat.lt_succ_self _, List.replicate l .null, if_pos rfl, by simp⟩
theorem Is.excO (hi : Is h a k l) : Is (hExc h k2 l2 nn) a k l := by
  obtain ⟨h1, fs, h2, h3⟩ := hi
  exact ⟨Nat.lt_succ_of_lt h1, fs, by show (if a = h.1 then _ else h.2.2 a) = _; rw [if_neg (by omega)]; exact h2, h3⟩
theorem Ext.exc : Ext h (hExc h k l nn) := ⟨Nat.le_succ _, Nat.le_add_right _ _, fun _ _ _ x => x.excO⟩
theorem Fr.excT (f : Fr P h F h2 F2) : Fr P h F (hExc h2 k l nn) (newF F2 h2.1 g) := ⟨f.1.trans Ext.exc, fun b hb hn => by
  funext j
  rw [newF_a (by have := f.1.1; omega) rfl, f.2 b hb hn]⟩
theorem Cst.exc (hn : nn ≤ 8) : Cst 2 h (hExc h k l nn) := ⟨by show h.1 + 1 ≤ h.1 + 2; omega, by show h.2.1 + nn ≤ h.2.1 + 4 * 2; omega⟩
theorem exc_at : (ah_new (sF h F) (58 + k) [] nn).2.2 h.1 = some (58 + k, []) := if_pos rfl
theorem ex_pI : parseFieldDescriptor "I" = some .int := by decide +kernel
theorem hn1_ : Cond.isRef (.static Bundle.tN "UNASSIGNED_STACK" Bundle.steD) ∈ flatC (Cond.and given_1 narrow_1) := by decide +kernel
theorem hn2_ : Cond.isRef (.static Bundle.tN "SUPPRESSED_SENTINEL" Bundle.listD) ∈ flatC (Cond.and given_1 narrow_1) := by decide +kernel
theorem okE : excOK "java/lang/Exception" [] := by
  refine ⟨by decide, by simp; try decide, fun w hw => ?_⟩
  simp only [Bundle.chain0Atoms, Bundle.passAtoms, List.cons_append, List.nil_append, List.mem_cons, List.not_mem_nil, or_false] at hw
  rcases hw with rfl | rfl | rfl | rfl | rfl
  · exact Or.inl q1509
  · exact Or.inl q1510
  · exact Or.inl q1511
  · exact Or.inl q565
  · exact Or.inr ⟨_, rfl, q549⟩
theorem okE_J17 : excOK "java/lang/IllegalArgumentException" ["java/lang/RuntimeException", "java/lang/Exception"] := by
  refine ⟨by decide, by simp; try decide, fun w hw => ?_⟩
  simp only [Bundle.chain0Atoms, Bundle.passAtoms, List.cons_append, List.nil_append, List.mem_cons, List.not_mem_nil, or_false] at hw
  rcases hw with rfl | rfl | rfl | rfl | rfl | rfl | rfl | rfl | rfl | rfl | rfl | rfl | rfl | rfl | rfl
  · exact Or.inl q1703
  · exact Or.inl q1704
  · exact Or.inl q1705
  · exact Or.inl q1506
  · exact Or.inr ⟨_, rfl, q545⟩
  · exact Or.inl q1506
  · exact Or.inl q1507
  · exact Or.inl q1508
  · exact Or.inl q1509
  · exact Or.inr ⟨_, rfl, q547⟩
  · exact Or.inl q1509
  · exact Or.inl q1510
  · exact Or.inl q1511
  · exact Or.inl q565
  · exact Or.inr ⟨_, rfl, q549⟩
theorem okE_J33 : excOK "java/lang/IllegalStateException" ["java/lang/RuntimeException", "java/lang/Exception"] := by
  refine ⟨by decide, by simp; try decide, fun w hw => ?_⟩
  simp only [Bundle.chain0Atoms, Bundle.passAtoms, List.cons_append, List.nil_append, List.mem_cons, List.not_mem_nil, or_false] at hw
  rcases hw with rfl | rfl | rfl | rfl | rfl | rfl | rfl | rfl | rfl | rfl | rfl | rfl | rfl | rfl | rfl
  · exact Or.inl q1719
  · exact Or.inl q1720
  · exact Or.inl q1721
  · exact Or.inl q1506
  · exact Or.inr ⟨_, rfl, q545⟩
  · exact Or.inl q1506
  · exact Or.inl q1507
  · exact Or.inl q1508
  · exact Or.inl q1509
  · exact Or.inr ⟨_, rfl, q547⟩
  · exact Or.inl q1509
  · exact Or.inl q1510
  · exact Or.inl q1511
  · exact Or.inl q565
  · exact Or.inr ⟨_, rfl, q549⟩
theorem okE_J34 : excOK "java/lang/IndexOutOfBoundsException" ["java/lang/RuntimeException", "java/lang/Exception"] := by
  refine ⟨by decide, by simp; try decide, fun w hw => ?_⟩
  simp only [Bundle.chain0Atoms, Bundle.passAtoms, List.cons_append, List.nil_append, List.mem_cons, List.not_mem_nil, or_false] at hw
  rcases hw with rfl | rfl | rfl | rfl | rfl | rfl | rfl | rfl | rfl | rfl | rfl | rfl | rfl | rfl | rfl
  · exact Or.inl q1838
  · exact Or.inl q1839
  · exact Or.inl q1840
  · exact Or.inl q1506
  · exact Or.inr ⟨_, rfl, q545⟩
  · exact Or.inl q1506
  · exact Or.inl q1507
  · exact Or.inl q1508
  · exact Or.inl q1509
  · exact Or.inr ⟨_, rfl, q547⟩
  · exact Or.inl q1509
  · exact Or.inl q1510
  · exact Or.inl q1511
  · exact Or.inl q565
  · exact Or.inr ⟨_, rfl, q549⟩
theorem okE_J32 : excOK "java/util/NoSuchElementException" ["java/lang/RuntimeException", "java/lang/Exception"] := by
  refine ⟨by decide, by simp; try decide, fun w hw => ?_⟩
  simp only [Bundle.chain0Atoms, Bundle.passAtoms, List.cons_append, List.nil_append, List.mem_cons, List.not_mem_nil, or_false] at hw
  rcases hw with rfl | rfl | rfl | rfl | rfl | rfl | rfl | rfl | rfl | rfl | rfl | rfl | rfl | rfl | rfl
  · exact Or.inl q1503
  · exact Or.inl q1504
  · exact Or.inl q1505
  · exact Or.inl q1506
  · exact Or.inr ⟨_, rfl, q545⟩
  · exact Or.inl q1506
  · exact Or.inl q1507
  · exact Or.inl q1508
  · exact Or.inl q1509
  · exact Or.inr ⟨_, rfl, q547⟩
  · exact Or.inl q1509
  · exact Or.inl q1510
  · exact Or.inl q1511
  · exact Or.inl q565
  · exact Or.inr ⟨_, rfl, q549⟩
theorem okE_J37 : excOK "java/lang/UnsupportedOperationException" ["java/lang/RuntimeException", "java/lang/Exception"] := by
  refine ⟨by decide, by simp; try decide, fun w hw => ?_⟩
  simp only [Bundle.chain0Atoms, Bundle.passAtoms, List.cons_append, List.nil_append, List.mem_cons, List.not_mem_nil, or_false] at hw
  rcases hw with rfl | rfl | rfl | rfl | rfl | rfl | rfl | rfl | rfl | rfl | rfl | rfl | rfl | rfl | rfl
  · exact Or.inl q2007
  · exact Or.inl q2008
  · exact Or.inl q2009
  · exact Or.inl q1506
  · exact Or.inr ⟨_, rfl, q545⟩
  · exact Or.inl q1506
  · exact Or.inl q1507
  · exact Or.inl q1508
  · exact Or.inl q1509
  · exact Or.inr ⟨_, rfl, q547⟩
  · exact Or.inl q1509
  · exact Or.inl q1510
  · exact Or.inl q1511
  · exact Or.inl q565
  · exact Or.inr ⟨_, rfl, q549⟩
theorem wf_exc_X10 (hd : decode y.2.1 pc = .ok (.invokespecial idx, 3)) (hl : Cond.methodLink y.1.cls idx (Bundle.init0 "java/lang/Exception") ∈ lw_all) (hcat : (st.map fun v => v.category).sum ≤ 8) (hdd : 4 ≤ d)
    (kk : WA G d y (pc + 3) ls st (sF (hExc h 21 1 7) (newF F h.1 (fun _ => .int 0))) Q) : WA G d y pc ls (.ref h.1 :: st) (ah_new (sF h F) 58 [] 7) Q :=
  wa_excInit (j := 0) (kq := 21) [.int 0] hd (exc_at (k := 0)) rfl rfl rfl okE hl q1973 q576 q1974 q1975 q1976 q1978 hn1_ hn2_ ⟨fun _ => .int, fun i hi => ⟨ex_pI, (show "reason" ≠ "cause" by decide), (show "reason" ≠ "stackTrace" by decide), (show "reason" ≠ "suppressedExceptions" by decide)⟩, rfl⟩ hcat hdd (by rw [← sF_exc (kk := 58)] at kk; exact kk)
theorem wf_exc_X14 (hd : decode y.2.1 pc = .ok (.invokespecial idx, 3)) (hl : Cond.methodLink y.1.cls idx (Bundle.init0 "java/lang/Exception") ∈ lw_all) (hcat : (st.map fun v => v.category).sum ≤ 8) (hdd : 4 ≤ d)
    (kk : WA G d y (pc + 3) ls st (sF (hExc h 22 1 7) (newF F h.1 (fun _ => .int 0))) Q) : WA G d y pc ls (.ref h.1 :: st) (ah_new (sF h F) 59 [] 7) Q :=
  wa_excInit (j := 1) (kq := 22) [.int 0] hd (exc_at (k := 1)) rfl rfl rfl okE hl q2560 q575 q2561 q2562 q2563 q2565 hn1_ hn2_ ⟨fun _ => .int, fun i hi => ⟨ex_pI, (show "position" ≠ "cause" by decide), (show "position" ≠ "stackTrace" by decide), (show "position" ≠ "suppressedExceptions" by decide)⟩, rfl⟩ hcat hdd (by rw [← sF_exc (kk := 59)] at kk; exact kk)
theorem wf_exc_J17 (hd : decode y.2.1 pc = .ok (.invokespecial idx, 3)) (hl : Cond.methodLink y.1.cls idx (Bundle.init0 "java/lang/IllegalArgumentException") ∈ lw_all) (hcat : (st.map fun v => v.category).sum ≤ 8) (hdd : 6 ≤ d)
    (kk : WA G d y (pc + 3) ls st (sF (hExc h 23 0 6) (newF F h.1 (fun _ => .null))) Q) : WA G d y pc ls (.ref h.1 :: st) (ah_new (sF h F) 60 [] 6) Q :=
  wa_excInit (j := 2) (kq := 23) [] hd (exc_at (k := 2)) rfl rfl rfl okE_J17 hl q551 q552 q553 q555 q557 q561 hn1_ hn2_ ⟨fun _ => .int, fun i hi => absurd hi (Nat.not_lt_zero _), rfl⟩ hcat hdd (by rw [← sF_exc (kk := 60)] at kk; exact kk)
theorem wf_exc_J33 (hd : decode y.2.1 pc = .ok (.invokespecial idx, 3)) (hl : Cond.methodLink y.1.cls idx (Bundle.init0 "java/lang/IllegalStateException") ∈ lw_all) (hcat : (st.map fun v => v.category).sum ≤ 8) (hdd : 6 ≤ d)
    (kk : WA G d y (pc + 3) ls st (sF (hExc h 24 0 6) (newF F h.1 (fun _ => .null))) Q) : WA G d y pc ls (.ref h.1 :: st) (ah_new (sF h F) 61 [] 6) Q :=
  wa_excInit (j := 3) (kq := 24) [] hd (exc_at (k := 3)) rfl rfl rfl okE_J33 hl q1712 q578 q1713 q1714 q1715 q1717 hn1_ hn2_ ⟨fun _ => .int, fun i hi => absurd hi (Nat.not_lt_zero _), rfl⟩ hcat hdd (by rw [← sF_exc (kk := 61)] at kk; exact kk)
theorem wf_exc_J34 (hd : decode y.2.1 pc = .ok (.invokespecial idx, 3)) (hl : Cond.methodLink y.1.cls idx (Bundle.init0 "java/lang/IndexOutOfBoundsException") ∈ lw_all) (hcat : (st.map fun v => v.category).sum ≤ 8) (hdd : 6 ≤ d)
    (kk : WA G d y (pc + 3) ls st (sF (hExc h 25 0 6) (newF F h.1 (fun _ => .null))) Q) : WA G d y pc ls (.ref h.1 :: st) (ah_new (sF h F) 62 [] 6) Q :=
  wa_excInit (j := 4) (kq := 25) [] hd (exc_at (k := 4)) rfl rfl rfl okE_J34 hl q1736 q579 q1737 q1738 q1739 q1741 hn1_ hn2_ ⟨fun _ => .int, fun i hi => absurd hi (Nat.not_lt_zero _), rfl⟩ hcat hdd (by rw [← sF_exc (kk := 62)] at kk; exact kk)
theorem wf_exc_J32 (hd : decode y.2.1 pc = .ok (.invokespecial idx, 3)) (hl : Cond.methodLink y.1.cls idx (Bundle.init0 "java/util/NoSuchElementException") ∈ lw_all) (hcat : (st.map fun v => v.category).sum ≤ 8) (hdd : 6 ≤ d)
    (kk : WA G d y (pc + 3) ls st (sF (hExc h 26 0 6) (newF F h.1 (fun _ => .null))) Q) : WA G d y pc ls (.ref h.1 :: st) (ah_new (sF h F) 63 [] 6) Q :=
  wa_excInit (j := 5) (kq := 26) [] hd (exc_at (k := 5)) rfl rfl rfl okE_J32 hl q1496 q582 q1497 q1498 q1499 q1501 hn1_ hn2_ ⟨fun _ => .int, fun i hi => absurd hi (Nat.not_lt_zero _), rfl⟩ hcat hdd (by rw [← sF_exc (kk := 63)] at kk; exact kk)
theorem wf_exc_J37 (hd : decode y.2.1 pc = .ok (.invokespecial idx, 3)) (hl : Cond.methodLink y.1.cls idx (Bundle.init0 "java/lang/UnsupportedOperationException") ∈ lw_all) (hcat : (st.map fun v => v.category).sum ≤ 8) (hdd : 6 ≤ d)
    (kk : WA G d y (pc + 3) ls st (sF (hExc h 27 0 6) (newF F h.1 (fun _ => .null))) Q) : WA G d y pc ls (.ref h.1 :: st) (ah_new (sF h F) 64 [] 6) Q :=
  wa_excInit (j := 6) (kq := 27) [] hd (exc_at (k := 6)) rfl rfl rfl okE_J37 hl q2000 q580 q2001 q2002 q2003 q2005 hn1_ hn2_ ⟨fun _ => .int, fun i hi => absurd hi (Nat.not_lt_zero _), rfl⟩ hcat hdd (by rw [← sF_exc (kk := 64)] at kk; exact kk)
end EXCF
