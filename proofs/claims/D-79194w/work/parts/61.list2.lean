/-! ===== ArrayList: adding and removing ===== -/
section LISTS2
variable {G : GG} {d n : Nat} {h h2 : AH} {F F2 : Nat → Nat → Value} {a arr cap x : Nat} {xs : List Nat} {P : Nat → Prop}
theorem s_J2_grow (hd : 4 ≤ d) (hG : StG G) (L : LstR G h F a arr cap xs) (hc : xs.length = cap) (hx : xs.length ≤ 100) :
    MA G d mJ2_grow [.ref a] (sF h F) (fun r h' => ∃ (h2 : AH) (F2 : Nat → Nat → Value) (arr2 cap2 : Nat), r = .inl (some (.ref arr2)) ∧ h' = sF h2 F2 ∧ LstR G h2 F2 a arr2 cap2 xs ∧ Is h2 arr2 35 cap2 ∧ xs.length < cap2 ∧ Fr (LF h a arr) h F h2 F2 ∧ h.1 = arr2 ∧ h2.1 ≤ h.1 + 1 ∧ h2.2.1 ≤ h.2.1 + 200) := by
  have LL := L
  obtain ⟨L1, L2, L3, -⟩ := L
  change WA G d mJ2_grow 0 [.ref a] [] _ _
  refine wa_aloadV_n (pc := 0) (y := mJ2_grow) dJ2_grow_0 rfl (by first | exact rf_s _ | exact rf_n | exact rf_q _) ?_
  refine wa_aloadV_n (pc := 1) (y := mJ2_grow) dJ2_grow_1 rfl (by first | exact rf_s _ | exact rf_n | exact rf_q _) ?_
  refine wf_get (k := 11) (l := 3) 2 dJ2_grow_2 (by assumption) rfl q176 (Or.inl rfl) (Nat.le_of_ble_eq_true rfl) (Nat.le_of_ble_eq_true rfl) (by (repeat (first | exact updF_self _ _ _ _ | (apply updF_i; · decide) | (apply updF_a; · first | assumption | (apply Ne.symm; assumption) | omega) | (apply newF_a; · first | assumption | (apply Ne.symm; assumption) | omega) | exact newL_self (by rfl) | exact newF_self (by rfl) | (apply cpyF_a; · first | assumption | (apply Ne.symm; assumption) | omega))) <;> first | assumption | rfl) ?_
  refine wa_iconst (pc := 5) (y := mJ2_grow) (Int32.ofNat 1) dJ2_grow_5 rfl ?_
  first | with_reducible refine wa_iaddN (pc := 6) (y := mJ2_grow) dJ2_grow_6 ?_ | refine wa_iadd (pc := 6) (y := mJ2_grow) dJ2_grow_6 ?_
  refine wa_callV (pc := 7) (s_J2_grow_2 (d := d - 1) (by omega) hG LL hc hx rfl) dJ2_grow_7 okJ2_grow_2 q284 q286 qs2 (sF_at (by assumption)) rfl rfl rfl (Nat.le_of_ble_eq_true rfl) (Nat.le_of_ble_eq_true rfl) (by omega) ?_
  rintro _ _ - - ⟨h2, F2, arr2, cap2, rfl, rfl, q⟩
  refine aft_v (pc2 := 10) ?_ rfl
  refine wa_areturnV (pc := 10) (y := mJ2_grow) (.array (.object "java/lang/Object")) dJ2_grow_10 rfl (Or.inr ⟨_, rfl⟩) (by first | exact rf_s _ | exact rf_n | exact rf_q _) ⟨h2, F2, arr2, cap2, rfl, rfl, q⟩
theorem s_J2_add_2 (hd : 5 ≤ d) (hG : StG G) (L : LstR G h F a arr cap xs) (hx : xs.length < 100) (hE : El h x) :
    MA G d mJ2_add_2 [.ref a, .ref x, .ref arr, .int (Int32.ofNat xs.length)] (sF h F) (fun r h' => r = .inl none ∧ LsG G h F a arr (xs ++ [x]) 200 h') := by
  have LL := L
  have hlt := L.lt
  have hne := L.ne
  change WA G d mJ2_add_2 0 [.ref a, .ref x, .ref arr, .int (Int32.ofNat xs.length)] [] _ _
  have key : ∀ (h2 : AH) (F2 : Nat → Nat → Value) (arr2 cap2 : Nat), LstR G h2 F2 a arr2 cap2 xs → Is h2 arr2 35 cap2 → xs.length < cap2 → Fr (LF h a arr) h F h2 F2 → (arr2 = arr ∨ h.1 ≤ arr2) → (arr2 = arr → ∃ c, Is h arr 35 c) → h2.1 ≤ h.1 + 1 → h2.2.1 ≤ h.2.1 + 200 →
      WA G d mJ2_add_2 11 [.ref a, .ref x, .ref arr2, .int (Int32.ofNat xs.length)] [] (sF h2 F2) (fun r h' => r = .inl none ∧ LsG G h F a arr (xs ++ [x]) 200 h') := by
    intro h2 F2 arr2 cap2 M hI hlt2 fr har har2 hz1 hz2
    have hE2 := hE.ext fr.1
    have hne2 := M.ne
    obtain ⟨M1, M2, M3, ⟨z, M4⟩, M5, M6, M7, M8⟩ := M
    have hP : LF h a arr arr2 ∨ h.1 ≤ arr2 := har.imp (fun e => Or.inr ⟨e, har2 e⟩) (fun e => e)
    refine wa_aloadV_n (pc := 11) (y := mJ2_add_2) dJ2_add_2_11 rfl (by first | exact rf_s _ | exact rf_n | exact rf_q _) ?_
    refine wa_iload_n (pc := 12) (y := mJ2_add_2) dJ2_add_2_12 rfl ?_
    refine wa_aloadV_n (pc := 13) (y := mJ2_add_2) dJ2_add_2_13 rfl (by first | exact rf_s _ | exact rf_n | exact rf_q _) ?_
    refine wf_aastoreV (pc := 14) (y := mJ2_add_2) "java/lang/Object" dJ2_add_2_14 hI (Or.inl ⟨rfl, rfl⟩) (by omega) (rf_s x) (fun b e => by cases e; exact hE2.stor) ?_
    refine wa_aloadV_n (pc := 15) (y := mJ2_add_2) dJ2_add_2_15 rfl (by first | exact rf_s _ | exact rf_n | exact rf_q _) ?_
    refine wa_iload_n (pc := 16) (y := mJ2_add_2) dJ2_add_2_16 rfl ?_
    refine wa_iconst (pc := 17) (y := mJ2_add_2) (Int32.ofNat 1) dJ2_add_2_17 rfl ?_
    first | with_reducible refine wa_iaddN (pc := 18) (y := mJ2_add_2) dJ2_add_2_18 ?_ | refine wa_iadd (pc := 18) (y := mJ2_add_2) dJ2_add_2_18 ?_
    refine wf_put (k := 11) (l := 3) 2 .int dJ2_add_2_19 (by assumption) rfl q176 (Or.inl rfl) (Nat.le_of_ble_eq_true rfl) rfl (by decide +kernel) rfl rfl ?_
    refine wa_return (pc := 22) (y := mJ2_add_2) dJ2_add_2_22 rfl ⟨rfl, _, _, arr2, cap2, rfl, ⟨M1, updF_i (by decide) (updF_a hne2 M2), by rw [List.length_append]; exact updF_self _ _ _ _, ⟨z, updF_i (by decide) (updF_a hne2 M4)⟩, by simp; omega, M6, Or.inl ⟨by omega, hI⟩, fun i w hw => ?_⟩, (fr.updT hP).updT (Or.inl (Or.inl rfl)), har, hz1, hz2⟩
    by_cases hi : i < xs.length
    · rw [List.getElem?_append_left hi] at hw
      refine ⟨updF_a (Ne.symm hne2) (updF_i (by omega) (M8 i w hw).1), (M8 i w hw).2⟩
    · have hi2 : i = xs.length := by have := (List.getElem?_eq_some_iff.mp hw).1; simp at this; omega
      subst hi2
      simp at hw
      subst hw
      exact ⟨updF_a (Ne.symm hne2) (updF_self _ _ _ _), hE.ext fr.1⟩
  obtain ⟨L1, L2, L3, L4, L5, L6, L7, L8⟩ := L
  have hA : ∃ k l, Is h arr k l ∧ l = cap ∧ (k = 35 ∨ k = 43) := L7.elim (fun q => ⟨35, cap, q.2, rfl, Or.inl rfl⟩) (fun q => ⟨43, cap, q.1, rfl, Or.inr rfl⟩)
  obtain ⟨kA, lA, hA1, rfl, hA2⟩ := hA
  have hn : ¬ Int32.ofNat xs.length = Int32.ofNat lA → xs.length < lA := fun h => by
    have : xs.length ≠ lA := fun e => h (by rw [e])
    omega
  have h35 : ¬ Int32.ofNat xs.length = Int32.ofNat lA → Is h arr 35 lA := fun h9 => L7.elim (fun q => q.2) (fun q => by have := hn h9; omega)
  refine wa_iload_n (pc := 0) (y := mJ2_add_2) dJ2_add_2_0 rfl ?_
  refine wa_aloadV_n (pc := 1) (y := mJ2_add_2) dJ2_add_2_1 rfl (by first | exact rf_s _ | exact rf_n | exact rf_q _) ?_
  refine wf_alen (k := kA) (pc := 2) (y := mJ2_add_2) dJ2_add_2_2 hA1 (by omega) ?_
  refine wa_icmp_ne (pc := 3) 11 dJ2_add_2_3 rfl (fun hb3 => ?_) (fun hb3 => ?_)
  · first | exact key h2 F2 arr2 cap2 q1 q2 q3 q4 (Or.inr (by omega)) (fun e => by omega) q6 q7 | exact key h F arr lA LL (h35 hb3) (hn hb3) Fr.refl (Or.inl rfl) (fun _ => ⟨lA, h35 hb3⟩) (Nat.le_succ _) (Nat.le_add_right _ _)
  · have hb4 := (iN_eq (by omega) (by omega)).mp hb3
    refine wa_aloadV_n (pc := 6) (y := mJ2_add_2) dJ2_add_2_6 rfl (by first | exact rf_s _ | exact rf_n | exact rf_q _) ?_
    refine wa_callV (pc := 7) (s_J2_grow (d := d - 1) (by omega) hG LL (by omega) (by omega)) dJ2_add_2_7 okJ2_grow q280 q282 qs1 (sF_at (by assumption)) rfl rfl rfl (Nat.le_of_ble_eq_true rfl) (Nat.le_of_ble_eq_true rfl) (by omega) ?_
    rintro _ _ - - ⟨h2, F2, arr2, cap2, rfl, rfl, q1, q2, q3, q4, q5, q6, q7⟩
    refine aft_v (pc2 := 10) ?_ rfl
    refine wa_astoreV_n (pc := 10) (y := mJ2_add_2) dJ2_add_2_10 (Nat.le_of_ble_eq_true rfl) (by first | rfl | (simp [okst, rf_cat] <;> assumption)) (by first | exact rf_s _ | exact rf_n | exact rf_q _) ?_
    change WA _ _ _ _ (List.set _ 2 _) _ _ _
    simp only [List.set_cons_zero, List.set_cons_succ]
    first | exact key h2 F2 arr2 cap2 q1 q2 q3 q4 (Or.inr (by omega)) (fun e => by omega) q6 q7 | exact key h F arr lA LL (h35 hb3) (hn hb3) Fr.refl (Or.inl rfl) (fun _ => ⟨lA, h35 hb3⟩) (Nat.le_succ _) (Nat.le_add_right _ _)
theorem s_J2_add (hd : 6 ≤ d) (hG : StG G) (L : LstR G h F a arr cap xs) (hx : xs.length < 100) (hE : El h x) :
    MA G d mJ2_add [.ref a, .ref x] (sF h F) (fun r h' => r = .inl (some (.int 1)) ∧ LsG G h F a arr (xs ++ [x]) 200 h') := by
  have LL := L
  have hlt := L.lt
  obtain ⟨L1, L2, L3, ⟨z, L4⟩, L5, L6, L7, L8⟩ := L
  have hfr : Fr (LF h a arr) h F h (updF F a 0 (.int (z + 1))) := Fr.upd (Or.inl rfl)
  have L9 : LstR G h (updF F a 0 (.int (z + 1))) a arr cap xs := ⟨L1, updF_i (by decide) L2, updF_i (by decide) L3, ⟨_, updF_self _ _ _ _⟩, L5, L6, L7, fun i w hw => ⟨updF_a (Ne.symm LL.ne) (L8 i w hw).1, (L8 i w hw).2⟩⟩
  change WA G d mJ2_add 0 [.ref a, .ref x] [] _ _
  refine wa_aloadV_n (pc := 0) (y := mJ2_add) dJ2_add_0 rfl (by first | exact rf_s _ | exact rf_n | exact rf_q _) ?_
  refine wa_dup (pc := 1) (y := mJ2_add) dJ2_add_1 (by first | rfl | exact rf_cat _) ?_
  refine wf_get (k := 11) (l := 3) 0 dJ2_add_2 (by assumption) rfl q180 (Or.inr q179) (Nat.le_of_ble_eq_true rfl) (Nat.le_of_ble_eq_true rfl) (by (repeat (first | exact updF_self _ _ _ _ | (apply updF_i; · decide) | (apply updF_a; · first | assumption | (apply Ne.symm; assumption) | omega) | (apply newF_a; · first | assumption | (apply Ne.symm; assumption) | omega) | exact newL_self (by rfl) | exact newF_self (by rfl) | (apply cpyF_a; · first | assumption | (apply Ne.symm; assumption) | omega))) <;> first | assumption | rfl) ?_
  refine wa_iconst (pc := 5) (y := mJ2_add) (Int32.ofNat 1) dJ2_add_5 rfl ?_
  first | with_reducible refine wa_iaddN (pc := 6) (y := mJ2_add) dJ2_add_6 ?_ | refine wa_iadd (pc := 6) (y := mJ2_add) dJ2_add_6 ?_
  refine wf_put (k := 11) (l := 3) 0 .int dJ2_add_7 (by assumption) rfl q180 (Or.inr q179) (Nat.le_of_ble_eq_true rfl) rfl (by decide +kernel) rfl rfl ?_
  refine wa_aloadV_n (pc := 10) (y := mJ2_add) dJ2_add_10 rfl (by first | exact rf_s _ | exact rf_n | exact rf_q _) ?_
  refine wa_aloadV_n (pc := 11) (y := mJ2_add) dJ2_add_11 rfl (by first | exact rf_s _ | exact rf_n | exact rf_q _) ?_
  refine wa_aloadV_n (pc := 12) (y := mJ2_add) dJ2_add_12 rfl (by first | exact rf_s _ | exact rf_n | exact rf_q _) ?_
  refine wf_get (k := 11) (l := 3) 1 dJ2_add_13 (by assumption) rfl q173 (Or.inl rfl) (Nat.le_of_ble_eq_true rfl) (Nat.le_of_ble_eq_true rfl) (by (repeat (first | exact updF_self _ _ _ _ | (apply updF_i; · decide) | (apply updF_a; · first | assumption | (apply Ne.symm; assumption) | omega) | (apply newF_a; · first | assumption | (apply Ne.symm; assumption) | omega) | exact newL_self (by rfl) | exact newF_self (by rfl) | (apply cpyF_a; · first | assumption | (apply Ne.symm; assumption) | omega))) <;> first | assumption | rfl) ?_
  refine wa_aloadV_n (pc := 16) (y := mJ2_add) dJ2_add_16 rfl (by first | exact rf_s _ | exact rf_n | exact rf_q _) ?_
  refine wf_get (k := 11) (l := 3) 2 dJ2_add_17 (by assumption) rfl q176 (Or.inl rfl) (Nat.le_of_ble_eq_true rfl) (Nat.le_of_ble_eq_true rfl) (by (repeat (first | exact updF_self _ _ _ _ | (apply updF_i; · decide) | (apply updF_a; · first | assumption | (apply Ne.symm; assumption) | omega) | (apply newF_a; · first | assumption | (apply Ne.symm; assumption) | omega) | exact newL_self (by rfl) | exact newF_self (by rfl) | (apply cpyF_a; · first | assumption | (apply Ne.symm; assumption) | omega))) <;> first | assumption | rfl) ?_
  refine wa_callV (pc := 20) (s_J2_add_2 (d := d - 1) (by omega) hG L9 hx hE) dJ2_add_20 okJ2_add_2 q276 q278 qs0 (sF_at (by assumption)) rfl rfl rfl (Nat.le_of_ble_eq_true rfl) (Nat.le_of_ble_eq_true rfl) (by omega) ?_
  rintro _ _ - - ⟨rfl, h2, F2, arr2, cap2, rfl, q1, q2, q3, q4, q5⟩
  refine aft_0 (pc2 := 23) ?_ rfl
  refine wa_iconst (pc := 23) (y := mJ2_add) (Int32.ofNat 1) dJ2_add_23 rfl ?_
  refine wa_ireturn (pc := 24) (y := mJ2_add) .boolean dJ2_add_24 rfl (by first | rfl | exact bI_nar _) ⟨rfl, h2, F2, arr2, cap2, rfl, q1, (hfr.trans q2 (fun b _ hb => hb)), q3, q4, q5⟩
theorem s_J2_set {i w : Nat} (hd : 3 ≤ d) (L : LstR G h F a arr cap xs) (hw : xs[i]? = some w) (hE : El h x) :
    MA G d mJ2_set [.ref a, .int (Int32.ofNat i), .ref x] (sF h F) (fun r h' => r = .inl (some (.ref w)) ∧ h' = sF h (updF F arr i (.ref x)) ∧ LstR G h (updF F arr i (.ref x)) a arr cap (xs.set i x)) := by
  have LL := L
  have hl := L.len
  have hne := L.ne
  have hi := (List.getElem?_eq_some_iff.mp hw).1
  obtain ⟨L1, L2, L3, ⟨z, L4⟩, L5, L6, L7, L8⟩ := L
  have hI : Is h arr 35 cap := L7.elim (fun q => q.2) (fun q => by omega)
  change WA G d mJ2_set 0 [.ref a, .int (Int32.ofNat i), .ref x, .retAddr 0] [] _ _
  refine wa_iload_n (pc := 0) (y := mJ2_set) dJ2_set_0 rfl ?_
  refine wa_aloadV_n (pc := 1) (y := mJ2_set) dJ2_set_1 rfl (by first | exact rf_s _ | exact rf_n | exact rf_q _) ?_
  refine wf_get (k := 11) (l := 3) 2 dJ2_set_2 (by assumption) rfl q176 (Or.inl rfl) (Nat.le_of_ble_eq_true rfl) (Nat.le_of_ble_eq_true rfl) (by (repeat (first | exact updF_self _ _ _ _ | (apply updF_i; · decide) | (apply updF_a; · first | assumption | (apply Ne.symm; assumption) | omega) | (apply newF_a; · first | assumption | (apply Ne.symm; assumption) | omega) | exact newL_self (by rfl) | exact newF_self (by rfl) | (apply cpyF_a; · first | assumption | (apply Ne.symm; assumption) | omega))) <;> first | assumption | rfl) ?_
  refine wa_callS (pc := 5) (s_J9_checkIndex (d := d - 1) (by omega) hi (by omega)) dJ2_set_5 okJ9_checkIndex q420 q421 rfl rfl (Nat.le_of_ble_eq_true rfl) (Nat.le_of_ble_eq_true rfl) (by omega) ?_
  rintro _ _ - - ⟨rfl, rfl⟩
  refine aft_v (pc2 := 8) ?_ rfl
  refine wa_pop (pc := 8) (y := mJ2_set) dJ2_set_8 (by first | rfl | exact rf_cat _) ?_
  refine wa_aloadV_n (pc := 9) (y := mJ2_set) dJ2_set_9 rfl (by first | exact rf_s _ | exact rf_n | exact rf_q _) ?_
  refine wa_iload_n (pc := 10) (y := mJ2_set) dJ2_set_10 rfl ?_
  refine wa_callV (pc := 11) (s_J2_elementData (d := d - 1) LL hw) dJ2_set_11 okJ2_elementData q426 q427 q428 (sF_at (by assumption)) rfl rfl rfl (Nat.le_of_ble_eq_true rfl) (Nat.le_of_ble_eq_true rfl) (by omega) ?_
  rintro _ _ - - ⟨rfl, rfl⟩
  refine aft_v (pc2 := 14) ?_ rfl
  refine wa_astoreV_n (pc := 14) (y := mJ2_set) dJ2_set_14 (Nat.le_of_ble_eq_true rfl) (by first | rfl | (simp [okst, rf_cat] <;> assumption)) (by first | exact rf_s _ | exact rf_n | exact rf_q _) ?_
  change WA _ _ _ _ (List.set _ 3 _) _ _ _
  simp only [List.set_cons_zero, List.set_cons_succ]
  refine wa_aloadV_n (pc := 15) (y := mJ2_set) dJ2_set_15 rfl (by first | exact rf_s _ | exact rf_n | exact rf_q _) ?_
  refine wf_get (k := 11) (l := 3) 1 dJ2_set_16 (by assumption) rfl q173 (Or.inl rfl) (Nat.le_of_ble_eq_true rfl) (Nat.le_of_ble_eq_true rfl) (by (repeat (first | exact updF_self _ _ _ _ | (apply updF_i; · decide) | (apply updF_a; · first | assumption | (apply Ne.symm; assumption) | omega) | (apply newF_a; · first | assumption | (apply Ne.symm; assumption) | omega) | exact newL_self (by rfl) | exact newF_self (by rfl) | (apply cpyF_a; · first | assumption | (apply Ne.symm; assumption) | omega))) <;> first | assumption | rfl) ?_
  refine wa_iload_n (pc := 19) (y := mJ2_set) dJ2_set_19 rfl ?_
  refine wa_aloadV_n (pc := 20) (y := mJ2_set) dJ2_set_20 rfl (by first | exact rf_s _ | exact rf_n | exact rf_q _) ?_
  refine wf_aastoreV (pc := 21) (y := mJ2_set) "java/lang/Object" dJ2_set_21 hI (Or.inl ⟨rfl, rfl⟩) (by omega) (rf_s x) (fun b e => by cases e; exact hE.stor) ?_
  refine wa_aloadV_n (pc := 22) (y := mJ2_set) dJ2_set_22 rfl (by first | exact rf_s _ | exact rf_n | exact rf_q _) ?_
  refine wa_areturnV (pc := 23) (y := mJ2_set) (.object "java/lang/Object") dJ2_set_23 rfl (Or.inl ⟨_, rfl⟩) (by first | exact rf_s _ | exact rf_n | exact rf_q _) ⟨rfl, rfl, L1, updF_a hne L2, by rw [List.length_set]; exact updF_a hne L3, ⟨z, updF_a hne L4⟩, by rw [List.length_set]; exact L5, L6, L7, fun j v hv => ?_⟩
  by_cases e : j = i
  · subst e
    rw [List.getElem?_set_self hi] at hv
    cases hv
    exact ⟨updF_self _ _ _ _, hE⟩
  · rw [List.getElem?_set_ne (Ne.symm e)] at hv
    exact ⟨updF_i e (L8 j v hv).1, (L8 j v hv).2⟩
theorem s_J2_rangeCheckForAdd {i : Nat} (L : LstR G h F a arr cap xs) (hi : i ≤ xs.length) : MA G d mJ2_rangeCheckForAdd [.ref a, .int (Int32.ofNat i)] (sF h F) (fun r h' => r = .inl none ∧ h' = sF h F) := by
  have hl := L.len
  obtain ⟨L1, L2, L3, -⟩ := L
  change WA G d mJ2_rangeCheckForAdd 0 [.ref a, .int (Int32.ofNat i)] [] _ _
  refine wa_iload_n (pc := 0) (y := mJ2_rangeCheckForAdd) dJ2_rangeCheckForAdd_0 rfl ?_
  refine wa_aloadV_n (pc := 1) (y := mJ2_rangeCheckForAdd) dJ2_rangeCheckForAdd_1 rfl (by first | exact rf_s _ | exact rf_n | exact rf_q _) ?_
  refine wf_get (k := 11) (l := 3) 2 dJ2_rangeCheckForAdd_2 (by assumption) rfl q176 (Or.inl rfl) (Nat.le_of_ble_eq_true rfl) (Nat.le_of_ble_eq_true rfl) (by (repeat (first | exact updF_self _ _ _ _ | (apply updF_i; · decide) | (apply updF_a; · first | assumption | (apply Ne.symm; assumption) | omega) | (apply newF_a; · first | assumption | (apply Ne.symm; assumption) | omega) | exact newL_self (by rfl) | exact newF_self (by rfl) | (apply cpyF_a; · first | assumption | (apply Ne.symm; assumption) | omega))) <;> first | assumption | rfl) ?_
  refine wa_icmp_gt (pc := 5) 12 dJ2_rangeCheckForAdd_5 rfl (fun hb5 => absurd ((iN_lt (by omega) (by omega)).mp hb5) (by omega)) (fun hb5 => ?_)
  refine wa_iload_n (pc := 8) (y := mJ2_rangeCheckForAdd) dJ2_rangeCheckForAdd_8 rfl ?_
  refine wa_if_ge (pc := 9) 25 dJ2_rangeCheckForAdd_9 rfl (fun hb9 => ?_) (fun hb9 => absurd (iN_ge0 (by omega)) hb9)
  refine wa_return (pc := 25) (y := mJ2_rangeCheckForAdd) dJ2_rangeCheckForAdd_25 rfl ⟨rfl, rfl⟩
theorem s_J2_init (hd : 4 ≤ d) (hG : StG G) (hI : Is h a 11 3) (hs : F a 2 = .int 0) (hE : Is h (emA G) 43 0) :
    MA G d mJ2_init [.ref a] (sF h F) (fun r h' => r = .inl none ∧ ∃ F2, h' = sF h F2 ∧ LstR G h F2 a (emA G) 0 [] ∧ Fr (fun b => b = a) h F h F2) := by
  have he := em_eval hG
  change WA G d mJ2_init 0 [.ref a] [] _ _
  have j0 : ∀ {d : Nat} {h : AH}, 1 ≤ d → MA G d mJ0_init [.ref a] h (fun r h' => r = .inl none ∧ h' = h) := by
    intro d h hd
    change WA G d mJ0_init 0 [.ref a] [] h _
    refine wa_aloadV_n (pc := 0) (y := mJ0_init) dJ0_init_0 rfl (by first | exact rf_s _ | exact rf_n | exact rf_q _) ?_
    refine wa_objInit (pc := 1) (y := mJ0_init) dJ0_init_1 q170 q151 q152 (Nat.le_of_ble_eq_true rfl) (by omega) ?_
    refine wa_return (pc := 4) (y := mJ0_init) dJ0_init_4 rfl ⟨rfl, rfl⟩
  have j1 : ∀ {d : Nat}, 2 ≤ d → MA G d mJ1_init [.ref a] (sF h F) (fun r h' => r = .inl none ∧ h' = sF h (updF F a 0 (.int 0))) := by
    intro d hd
    change WA G d mJ1_init 0 [.ref a] [] _ _
    refine wa_aloadV_n (pc := 0) (y := mJ1_init) dJ1_init_0 rfl (by first | exact rf_s _ | exact rf_n | exact rf_q _) ?_
    refine wa_callI (pc := 1) (j0 (d := d - 1) (by omega)) dJ1_init_1 okJ0_init rfl rfl rfl q167 q168 rfl rfl (Nat.le_of_ble_eq_true rfl) (Nat.le_of_ble_eq_true rfl) (by omega) ?_
    rintro _ _ - - ⟨rfl, rfl⟩
    refine aft_0 (pc2 := 4) ?_ rfl
    refine wa_aloadV_n (pc := 4) (y := mJ1_init) dJ1_init_4 rfl (by first | exact rf_s _ | exact rf_n | exact rf_q _) ?_
    refine wa_iconst (pc := 5) (y := mJ1_init) (Int32.ofNat 0) dJ1_init_5 rfl ?_
    refine wf_put (k := 11) (l := 3) 0 .int dJ1_init_6 (by assumption) rfl q177 (Or.inl rfl) (Nat.le_of_ble_eq_true rfl) rfl (by decide +kernel) rfl rfl ?_
    refine wa_return (pc := 9) (y := mJ1_init) dJ1_init_9 rfl ⟨rfl, rfl⟩
  refine wa_aloadV_n (pc := 0) (y := mJ2_init) dJ2_init_0 rfl (by first | exact rf_s _ | exact rf_n | exact rf_q _) ?_
  refine wa_callI (pc := 1) (j1 (d := d - 1) (by omega)) dJ2_init_1 okJ1_init rfl rfl rfl q164 q165 rfl rfl (Nat.le_of_ble_eq_true rfl) (Nat.le_of_ble_eq_true rfl) (by omega) ?_
  rintro _ _ - - ⟨rfl, rfl⟩
  refine aft_0 (pc2 := 4) ?_ rfl
  refine wa_aloadV_n (pc := 4) (y := mJ2_init) dJ2_init_4 rfl (by first | exact rf_s _ | exact rf_n | exact rf_q _) ?_
  refine wa_gets (pc := 5) (y := mJ2_init) dJ2_init_5 q171 (Or.inl rfl) q172 (lw_all_tbl q88) (he) ?_
  refine wf_put (k := 11) (l := 3) 1 (.array (.object "java/lang/Object")) dJ2_init_8 (by assumption) rfl q173 (Or.inl rfl) (Nat.le_of_ble_eq_true rfl) rfl (by decide +kernel) (by first | rfl | exact rf_nar _ | exact rf_nar2 _) (by first | rfl | exact rf_fit _ | exact rf_fit2 _) ?_
  refine wa_return (pc := 11) (y := mJ2_init) dJ2_init_11 rfl ⟨rfl, _, rfl, ⟨hI, updF_self _ _ _ _, updF_i (by decide) (updF_i (by decide) hs), ⟨0, updF_i (by decide) (updF_self _ _ _ _)⟩, by decide, by decide, Or.inr ⟨hE, rfl, rfl⟩, fun i w hw => by cases hw⟩, (Fr.upd (P := fun b => b = a) rfl).updT (Or.inl rfl)⟩
theorem s_J2_add_3 {i : Nat} (hd : 6 ≤ d) (hG : StG G) (L : LstR G h F a arr cap xs) (hx : xs.length < 100) (hi : i ≤ xs.length) (hE : El h x) :
    MA G d mJ2_add_3 [.ref a, .int (Int32.ofNat i), .ref x] (sF h F) (fun r h' => r = .inl none ∧ LsG G h F a arr (xs.take i ++ x :: xs.drop i) 200 h') := by
  have LL := L
  have hlt := L.lt
  have hne := L.ne
  obtain ⟨L1, L2, L3, ⟨z, L4⟩, L5, L6, L7, L8⟩ := L
  have hfr : Fr (LF h a arr) h F h (updF F a 0 (.int (z + 1))) := Fr.upd (Or.inl rfl)
  have L9 : LstR G h (updF F a 0 (.int (z + 1))) a arr cap xs := ⟨L1, updF_i (by decide) L2, updF_i (by decide) L3, ⟨_, updF_self _ _ _ _⟩, L5, L6, L7, fun i w hw => ⟨updF_a (Ne.symm LL.ne) (L8 i w hw).1, (L8 i w hw).2⟩⟩
  change WA G d mJ2_add_3 0 [.ref a, .int (Int32.ofNat i), .ref x, .retAddr 0, .retAddr 0] [] _ _
  have key : ∀ (h2 : AH) (F2 : Nat → Nat → Value) (arr2 cap2 : Nat), LstR G h2 F2 a arr2 cap2 xs → Is h2 arr2 35 cap2 → xs.length < cap2 → Fr (LF h a arr) h F h2 F2 → (arr2 = arr ∨ h.1 ≤ arr2) → (arr2 = arr → ∃ c, Is h arr 35 c) → h2.1 ≤ h.1 + 1 → h2.2.1 ≤ h.2.1 + 200 →
      WA G d mJ2_add_3 38 [.ref a, .int (Int32.ofNat i), .ref x, .int (Int32.ofNat xs.length), .ref arr2] [] (sF h2 F2) (fun r h' => r = .inl none ∧ LsG G h F a arr (xs.take i ++ x :: xs.drop i) 200 h') := by
    intro h2 F2 arr2 cap2 M hI hlt2 fr har har2 hz1 hz2
    have hE2 := hE.ext fr.1
    have hne2 := M.ne
    obtain ⟨M1, M2, M3, ⟨z, M4⟩, M5, M6, M7, M8⟩ := M
    have hP : LF h a arr arr2 ∨ h.1 ≤ arr2 := har.imp (fun e => Or.inr ⟨e, har2 e⟩) (fun e => e)
    refine wa_aloadV (pc := 38) (y := mJ2_add_3) dJ2_add_3_38 rfl (by first | exact rf_s _ | exact rf_n | exact rf_q _) ?_
    refine wa_iload_n (pc := 40) (y := mJ2_add_3) dJ2_add_3_40 rfl ?_
    refine wa_aloadV (pc := 41) (y := mJ2_add_3) dJ2_add_3_41 rfl (by first | exact rf_s _ | exact rf_n | exact rf_q _) ?_
    refine wa_iload_n (pc := 43) (y := mJ2_add_3) dJ2_add_3_43 rfl ?_
    refine wa_iconst (pc := 44) (y := mJ2_add_3) (Int32.ofNat 1) dJ2_add_3_44 rfl ?_
    first | with_reducible refine wa_iaddN (pc := 45) (y := mJ2_add_3) dJ2_add_3_45 ?_ | refine wa_iadd (pc := 45) (y := mJ2_add_3) dJ2_add_3_45 ?_
    refine wa_iload_n (pc := 46) (y := mJ2_add_3) dJ2_add_3_46 rfl ?_
    refine wa_iload_n (pc := 47) (y := mJ2_add_3) dJ2_add_3_47 rfl ?_
    refine wa_isub (pc := 48) (y := mJ2_add_3) dJ2_add_3_48 ?_
    rw [iN_sub hi]
    refine wf_copy (k := 35) (pc := 49) (y := mJ2_add_3) dJ2_add_3_49 q1759 q352 q351 q96 (by assumption) (by assumption) (by omega) (fun j hj => by have hx : xs[i + j]? = some (xs[i + j]'(by omega)) := List.getElem?_eq_getElem (by omega); rw [(M8 _ _ hx).1]; exact (M8 _ _ hx).2.cp) (Or.inr rfl) (Nat.le_of_ble_eq_true rfl) (by omega) ?_
    refine wa_aloadV (pc := 52) (y := mJ2_add_3) dJ2_add_3_52 rfl (by first | exact rf_s _ | exact rf_n | exact rf_q _) ?_
    refine wa_iload_n (pc := 54) (y := mJ2_add_3) dJ2_add_3_54 rfl ?_
    refine wa_aloadV_n (pc := 55) (y := mJ2_add_3) dJ2_add_3_55 rfl (by first | exact rf_s _ | exact rf_n | exact rf_q _) ?_
    refine wf_aastoreV (pc := 56) (y := mJ2_add_3) "java/lang/Object" dJ2_add_3_56 hI (Or.inl ⟨rfl, rfl⟩) (by omega) (rf_s x) (fun b e => by cases e; exact hE2.stor) ?_
    refine wa_aloadV_n (pc := 57) (y := mJ2_add_3) dJ2_add_3_57 rfl (by first | exact rf_s _ | exact rf_n | exact rf_q _) ?_
    refine wa_iload_n (pc := 58) (y := mJ2_add_3) dJ2_add_3_58 rfl ?_
    refine wa_iconst (pc := 59) (y := mJ2_add_3) (Int32.ofNat 1) dJ2_add_3_59 rfl ?_
    first | with_reducible refine wa_iaddN (pc := 60) (y := mJ2_add_3) dJ2_add_3_60 ?_ | refine wa_iadd (pc := 60) (y := mJ2_add_3) dJ2_add_3_60 ?_
    refine wf_put (k := 11) (l := 3) 2 .int dJ2_add_3_61 (by assumption) rfl q176 (Or.inl rfl) (Nat.le_of_ble_eq_true rfl) rfl (by decide +kernel) rfl rfl ?_
    refine wa_return (pc := 64) (y := mJ2_add_3) dJ2_add_3_64 rfl ⟨rfl, _, _, arr2, cap2, rfl, ⟨M1, updF_i (by decide) (updF_a hne2 (cpyF_a hne2 M2)), by rw [show (xs.take i ++ x :: xs.drop i).length = xs.length + 1 from by simp; omega]; exact updF_self _ _ _ _, ⟨z, updF_i (by decide) (updF_a hne2 (cpyF_a hne2 M4))⟩, by simp; omega, M6, Or.inl ⟨by omega, hI⟩, fun j w hw => ?_⟩, ((fr.cpyT hP).updT hP).updT (Or.inl (Or.inl rfl)), har, hz1, hz2⟩
    rcases Nat.lt_trichotomy j i with hj | rfl | hj
    · rw [List.getElem?_append_left (by simp; omega), List.getElem?_take_of_lt hj] at hw
      exact ⟨updF_a (Ne.symm hne2) (updF_i (by omega) (cpyF_out (by omega) (M8 j w hw).1)), (M8 j w hw).2⟩
    · rw [List.getElem?_append_right (by simp; omega)] at hw
      simp [Nat.min_eq_left hi] at hw
      subst hw
      exact ⟨updF_a (Ne.symm hne2) (updF_self _ _ _ _), hE2⟩
    · rw [List.getElem?_append_right (by simp; omega), List.length_take, Nat.min_eq_left hi, show j - i = (j - i - 1) + 1 from by omega, List.getElem?_cons_succ, List.getElem?_drop] at hw
      have hlt9 := (List.getElem?_eq_some_iff.mp hw).1
      exact ⟨updF_a (Ne.symm hne2) (updF_i (by omega) (cpyF_in (by omega) (by rw [show i + (j - (i + 1)) = i + (j - i - 1) from by omega]; exact (M8 _ w hw).1))), (M8 _ w hw).2⟩
  have hA : ∃ k l, Is h arr k l ∧ l = cap ∧ (k = 35 ∨ k = 43) := L7.elim (fun q => ⟨35, cap, q.2, rfl, Or.inl rfl⟩) (fun q => ⟨43, cap, q.1, rfl, Or.inr rfl⟩)
  obtain ⟨kA, lA, hA1, rfl, hA2⟩ := hA
  have hn : ¬ Int32.ofNat xs.length = Int32.ofNat lA → xs.length < lA := fun h => by
    have : xs.length ≠ lA := fun e => h (by rw [e])
    omega
  have h35 : ¬ Int32.ofNat xs.length = Int32.ofNat lA → Is h arr 35 lA := fun h9 => L7.elim (fun q => q.2) (fun q => by have := hn h9; omega)
  refine wa_aloadV_n (pc := 0) (y := mJ2_add_3) dJ2_add_3_0 rfl (by first | exact rf_s _ | exact rf_n | exact rf_q _) ?_
  refine wa_iload_n (pc := 1) (y := mJ2_add_3) dJ2_add_3_1 rfl ?_
  refine wa_callV (pc := 2) (s_J2_rangeCheckForAdd (d := d - 1) LL hi) dJ2_add_3_2 okJ2_rangeCheckForAdd q1729 q1731 qs10 (sF_at (by assumption)) rfl rfl rfl (Nat.le_of_ble_eq_true rfl) (Nat.le_of_ble_eq_true rfl) (by omega) ?_
  rintro _ _ - - ⟨rfl, rfl⟩
  refine aft_0 (pc2 := 5) ?_ rfl
  refine wa_aloadV_n (pc := 5) (y := mJ2_add_3) dJ2_add_3_5 rfl (by first | exact rf_s _ | exact rf_n | exact rf_q _) ?_
  refine wa_dup (pc := 6) (y := mJ2_add_3) dJ2_add_3_6 (by first | rfl | exact rf_cat _) ?_
  refine wf_get (k := 11) (l := 3) 0 dJ2_add_3_7 (by assumption) rfl q180 (Or.inr q179) (Nat.le_of_ble_eq_true rfl) (Nat.le_of_ble_eq_true rfl) (by (repeat (first | exact updF_self _ _ _ _ | (apply updF_i; · decide) | (apply updF_a; · first | assumption | (apply Ne.symm; assumption) | omega) | (apply newF_a; · first | assumption | (apply Ne.symm; assumption) | omega) | exact newL_self (by rfl) | exact newF_self (by rfl) | (apply cpyF_a; · first | assumption | (apply Ne.symm; assumption) | omega))) <;> first | assumption | rfl) ?_
  refine wa_iconst (pc := 10) (y := mJ2_add_3) (Int32.ofNat 1) dJ2_add_3_10 rfl ?_
  first | with_reducible refine wa_iaddN (pc := 11) (y := mJ2_add_3) dJ2_add_3_11 ?_ | refine wa_iadd (pc := 11) (y := mJ2_add_3) dJ2_add_3_11 ?_
  refine wf_put (k := 11) (l := 3) 0 .int dJ2_add_3_12 (by assumption) rfl q180 (Or.inr q179) (Nat.le_of_ble_eq_true rfl) rfl (by decide +kernel) rfl rfl ?_
  refine wa_aloadV_n (pc := 15) (y := mJ2_add_3) dJ2_add_3_15 rfl (by first | exact rf_s _ | exact rf_n | exact rf_q _) ?_
  refine wf_get (k := 11) (l := 3) 2 dJ2_add_3_16 (by assumption) rfl q176 (Or.inl rfl) (Nat.le_of_ble_eq_true rfl) (Nat.le_of_ble_eq_true rfl) (by (repeat (first | exact updF_self _ _ _ _ | (apply updF_i; · decide) | (apply updF_a; · first | assumption | (apply Ne.symm; assumption) | omega) | (apply newF_a; · first | assumption | (apply Ne.symm; assumption) | omega) | exact newL_self (by rfl) | exact newF_self (by rfl) | (apply cpyF_a; · first | assumption | (apply Ne.symm; assumption) | omega))) <;> first | assumption | rfl) ?_
  refine wa_dup (pc := 19) (y := mJ2_add_3) dJ2_add_3_19 (by first | rfl | exact rf_cat _) ?_
  refine wa_istore_n (pc := 20) (y := mJ2_add_3) dJ2_add_3_20 (Nat.le_of_ble_eq_true rfl) (by first | rfl | (simp [okst, rf_cat] <;> assumption)) ?_
  change WA _ _ _ _ (List.set _ 3 _) _ _ _
  simp only [List.set_cons_zero, List.set_cons_succ]
  refine wa_aloadV_n (pc := 21) (y := mJ2_add_3) dJ2_add_3_21 rfl (by first | exact rf_s _ | exact rf_n | exact rf_q _) ?_
  refine wf_get (k := 11) (l := 3) 1 dJ2_add_3_22 (by assumption) rfl q173 (Or.inl rfl) (Nat.le_of_ble_eq_true rfl) (Nat.le_of_ble_eq_true rfl) (by (repeat (first | exact updF_self _ _ _ _ | (apply updF_i; · decide) | (apply updF_a; · first | assumption | (apply Ne.symm; assumption) | omega) | (apply newF_a; · first | assumption | (apply Ne.symm; assumption) | omega) | exact newL_self (by rfl) | exact newF_self (by rfl) | (apply cpyF_a; · first | assumption | (apply Ne.symm; assumption) | omega))) <;> first | assumption | rfl) ?_
  refine wa_dup (pc := 25) (y := mJ2_add_3) dJ2_add_3_25 (by first | rfl | exact rf_cat _) ?_
  refine wa_astoreV (pc := 26) (y := mJ2_add_3) dJ2_add_3_26 (Nat.le_of_ble_eq_true rfl) (by first | rfl | (simp [okst, rf_cat] <;> assumption)) (by first | exact rf_s _ | exact rf_n | exact rf_q _) ?_
  simp only [List.set_cons_zero, List.set_cons_succ]
  refine wf_alen (k := kA) (pc := 28) (y := mJ2_add_3) dJ2_add_3_28 hA1 (by omega) ?_
  refine wa_icmp_ne (pc := 29) 38 dJ2_add_3_29 rfl (fun hb29 => ?_) (fun hb29 => ?_)
  · first | exact key h2 F2 arr2 cap2 q1 q2 q3 (hfr.trans q4 (fun b _ hb => hb)) (Or.inr (by omega)) (fun e => by omega) q6 q7 | exact key h _ arr lA L9 (h35 hb29) (hn hb29) hfr (Or.inl rfl) (fun _ => ⟨lA, h35 hb29⟩) (Nat.le_succ _) (Nat.le_add_right _ _)
  · have hb4 := (iN_eq (by omega) (by omega)).mp hb29
    refine wa_aloadV_n (pc := 32) (y := mJ2_add_3) dJ2_add_3_32 rfl (by first | exact rf_s _ | exact rf_n | exact rf_q _) ?_
    refine wa_callV (pc := 33) (s_J2_grow (d := d - 1) (by omega) hG L9 (by omega) (by omega)) dJ2_add_3_33 okJ2_grow q280 q282 qs1 (sF_at (by assumption)) rfl rfl rfl (Nat.le_of_ble_eq_true rfl) (Nat.le_of_ble_eq_true rfl) (by omega) ?_
    rintro _ _ - - ⟨h2, F2, arr2, cap2, rfl, rfl, q1, q2, q3, q4, q5, q6, q7⟩
    refine aft_v (pc2 := 36) ?_ rfl
    refine wa_astoreV (pc := 36) (y := mJ2_add_3) dJ2_add_3_36 (Nat.le_of_ble_eq_true rfl) (by first | rfl | (simp [okst, rf_cat] <;> assumption)) (by first | exact rf_s _ | exact rf_n | exact rf_q _) ?_
    simp only [List.set_cons_zero, List.set_cons_succ]
    first | exact key h2 F2 arr2 cap2 q1 q2 q3 (hfr.trans q4 (fun b _ hb => hb)) (Or.inr (by omega)) (fun e => by omega) q6 q7 | exact key h _ arr lA L9 (h35 hb29) (hn hb29) hfr (Or.inl rfl) (fun _ => ⟨lA, h35 hb29⟩) (Nat.le_succ _) (Nat.le_add_right _ _)
theorem s_J2_fastRemove {i : Nat} (hd : 1 ≤ d) (L : LstR G h F a arr cap xs) (hi : i < xs.length) :
    MA G d mJ2_fastRemove [.ref a, .ref arr, .int (Int32.ofNat i)] (sF h F) (fun r h' => r = .inl none ∧ ∃ F2, h' = sF h F2 ∧ LstR G h F2 a arr cap (xs.eraseIdx i) ∧ Fr (LF h a arr) h F h F2) := by
  have hl := L.len
  have hne := L.ne
  obtain ⟨L1, L2, L3, ⟨z, L4⟩, L5, L6, L7, L8⟩ := L
  have hI : Is h arr 35 cap := L7.elim (fun q => q.2) (fun q => by omega)
  have hP : LF h a arr arr ∨ h.1 ≤ arr := Or.inl (Or.inr ⟨rfl, _, hI⟩)
  have key : ∀ F2 : Nat → Nat → Value, F2 a 1 = .ref arr → (∃ z : Int32, F2 a 0 = .int z) → (∀ j w, (xs.eraseIdx i)[j]? = some w → F2 arr j = .ref w) → Fr (LF h a arr) h F h F2 →
      WA G d mJ2_fastRemove 34 [.ref a, .ref arr, .int (Int32.ofNat i), .int (Int32.ofNat (xs.length - 1))] [] (sF h F2) (fun r h' => r = .inl none ∧ ∃ F2, h' = sF h F2 ∧ LstR G h F2 a arr cap (xs.eraseIdx i) ∧ Fr (LF h a arr) h F h F2) := by
    intro F2 e1 e2 e3 fr
    obtain ⟨z, e2⟩ := e2
    refine wa_aloadV_n (pc := 34) (y := mJ2_fastRemove) dJ2_fastRemove_34 rfl (by first | exact rf_s _ | exact rf_n | exact rf_q _) ?_
    refine wa_aloadV_n (pc := 35) (y := mJ2_fastRemove) dJ2_fastRemove_35 rfl (by first | exact rf_s _ | exact rf_n | exact rf_q _) ?_
    refine wa_iload_n (pc := 36) (y := mJ2_fastRemove) dJ2_fastRemove_36 rfl ?_
    refine wa_dup_x1 (pc := 37) (y := mJ2_fastRemove) dJ2_fastRemove_37 (by first | rfl | exact rf_cat _) (by first | rfl | exact rf_cat _) ?_
    refine wf_put (k := 11) (l := 3) 2 .int dJ2_fastRemove_38 (by assumption) rfl q176 (Or.inl rfl) (Nat.le_of_ble_eq_true rfl) rfl (by decide +kernel) rfl rfl ?_
    refine wa_null (pc := 41) (y := mJ2_fastRemove) dJ2_fastRemove_41 ?_
    refine wf_aastoreN (pc := 42) (y := mJ2_fastRemove) dJ2_fastRemove_42 hI (Or.inl rfl) (by omega) ?_
    refine wa_return (pc := 43) (y := mJ2_fastRemove) dJ2_fastRemove_43 rfl ⟨rfl, _, rfl, ⟨L1, updF_a hne (updF_i (by decide) e1), by rw [List.length_eraseIdx_of_lt hi]; exact updF_a hne (updF_self _ _ _ _), ⟨_, updF_a hne (updF_i (by decide) e2)⟩, by rw [List.length_eraseIdx_of_lt hi]; omega, L6, L7, fun j w hw => ?_⟩, (fr.updT (Or.inl (Or.inl rfl))).updT hP⟩
    have hj := (List.getElem?_eq_some_iff.mp hw).1
    rw [List.length_eraseIdx_of_lt hi] at hj
    refine ⟨updF_i (by omega) (updF_a (Ne.symm hne) (e3 j w hw)), ?_⟩
    by_cases hji : j < i
    · rw [List.getElem?_eraseIdx_of_lt hji] at hw
      exact (L8 _ w hw).2
    · rw [List.getElem?_eraseIdx_of_ge (by omega)] at hw
      exact (L8 _ w hw).2
  change WA G d mJ2_fastRemove 0 [.ref a, .ref arr, .int (Int32.ofNat i), .retAddr 0] [] _ _
  have kA : xs.length - 1 ≤ i → ∀ z : Int32, WA G d mJ2_fastRemove 34 [.ref a, .ref arr, .int (Int32.ofNat i), .int (Int32.ofNat (xs.length - 1))] [] (sF h (updF F a 0 (.int z))) (fun r h' => r = .inl none ∧ ∃ F2, h' = sF h F2 ∧ LstR G h F2 a arr cap (xs.eraseIdx i) ∧ Fr (LF h a arr) h F h F2) := by
    intro hb z
    refine key _ (updF_i (by decide) L2) ⟨_, updF_self _ _ _ _⟩ (fun j w hw => ?_) (Fr.upd (Or.inl rfl))
    have hj := (List.getElem?_eq_some_iff.mp hw).1
    rw [List.length_eraseIdx_of_lt hi] at hj
    rw [List.getElem?_eraseIdx_of_lt (by omega)] at hw
    exact updF_a (Ne.symm hne) (L8 j w hw).1
  have kB : ¬ xs.length - 1 ≤ i → ∀ z : Int32, WA G d mJ2_fastRemove 34 [.ref a, .ref arr, .int (Int32.ofNat i), .int (Int32.ofNat (xs.length - 1))] [] (sF h (cpyF (updF F a 0 (.int z)) arr arr (i + 1) i (xs.length - 1 - i))) (fun r h' => r = .inl none ∧ ∃ F2, h' = sF h F2 ∧ LstR G h F2 a arr cap (xs.eraseIdx i) ∧ Fr (LF h a arr) h F h F2) := by
    intro hb z
    refine key _ (cpyF_a hne (updF_i (by decide) L2)) ⟨_, cpyF_a hne (updF_self _ _ _ _)⟩ (fun j w hw => ?_) ((Fr.upd (Or.inl rfl)).cpyT hP)
    have hj := (List.getElem?_eq_some_iff.mp hw).1
    rw [List.length_eraseIdx_of_lt hi] at hj
    by_cases hji : j < i
    · rw [List.getElem?_eraseIdx_of_lt hji] at hw
      exact cpyF_out (by omega) (updF_a (Ne.symm hne) (L8 j w hw).1)
    · rw [List.getElem?_eraseIdx_of_ge (by omega)] at hw
      exact cpyF_in (by omega) (updF_a (Ne.symm hne) (by rw [show i + 1 + (j - i) = j + 1 from by omega]; exact (L8 _ w hw).1))
  refine wa_aloadV_n (pc := 0) (y := mJ2_fastRemove) dJ2_fastRemove_0 rfl (by first | exact rf_s _ | exact rf_n | exact rf_q _) ?_
  refine wa_dup (pc := 1) (y := mJ2_fastRemove) dJ2_fastRemove_1 (by first | rfl | exact rf_cat _) ?_
  refine wf_get (k := 11) (l := 3) 0 dJ2_fastRemove_2 (by assumption) rfl q180 (Or.inr q179) (Nat.le_of_ble_eq_true rfl) (Nat.le_of_ble_eq_true rfl) (by (repeat (first | exact updF_self _ _ _ _ | (apply updF_i; · decide) | (apply updF_a; · first | assumption | (apply Ne.symm; assumption) | omega) | (apply newF_a; · first | assumption | (apply Ne.symm; assumption) | omega) | exact newL_self (by rfl) | exact newF_self (by rfl) | (apply cpyF_a; · first | assumption | (apply Ne.symm; assumption) | omega))) <;> first | assumption | rfl) ?_
  refine wa_iconst (pc := 5) (y := mJ2_fastRemove) (Int32.ofNat 1) dJ2_fastRemove_5 rfl ?_
  first | with_reducible refine wa_iaddN (pc := 6) (y := mJ2_fastRemove) dJ2_fastRemove_6 ?_ | refine wa_iadd (pc := 6) (y := mJ2_fastRemove) dJ2_fastRemove_6 ?_
  refine wf_put (k := 11) (l := 3) 0 .int dJ2_fastRemove_7 (by assumption) rfl q180 (Or.inr q179) (Nat.le_of_ble_eq_true rfl) rfl (by decide +kernel) rfl rfl ?_
  refine wa_aloadV_n (pc := 10) (y := mJ2_fastRemove) dJ2_fastRemove_10 rfl (by first | exact rf_s _ | exact rf_n | exact rf_q _) ?_
  refine wf_get (k := 11) (l := 3) 2 dJ2_fastRemove_11 (by assumption) rfl q176 (Or.inl rfl) (Nat.le_of_ble_eq_true rfl) (Nat.le_of_ble_eq_true rfl) (by (repeat (first | exact updF_self _ _ _ _ | (apply updF_i; · decide) | (apply updF_a; · first | assumption | (apply Ne.symm; assumption) | omega) | (apply newF_a; · first | assumption | (apply Ne.symm; assumption) | omega) | exact newL_self (by rfl) | exact newF_self (by rfl) | (apply cpyF_a; · first | assumption | (apply Ne.symm; assumption) | omega))) <;> first | assumption | rfl) ?_
  refine wa_iconst (pc := 14) (y := mJ2_fastRemove) (Int32.ofNat 1) dJ2_fastRemove_14 rfl ?_
  refine wa_isub (pc := 15) (y := mJ2_fastRemove) dJ2_fastRemove_15 ?_
  rw [iN_sub (by omega)]
  refine wa_dup (pc := 16) (y := mJ2_fastRemove) dJ2_fastRemove_16 (by first | rfl | exact rf_cat _) ?_
  refine wa_istore_n (pc := 17) (y := mJ2_fastRemove) dJ2_fastRemove_17 (Nat.le_of_ble_eq_true rfl) (by first | rfl | (simp [okst, rf_cat] <;> assumption)) ?_
  change WA _ _ _ _ (List.set _ 3 _) _ _ _
  simp only [List.set_cons_zero, List.set_cons_succ]
  refine wa_iload_n (pc := 18) (y := mJ2_fastRemove) dJ2_fastRemove_18 rfl ?_
  refine wa_icmp_le (pc := 19) 34 dJ2_fastRemove_19 rfl (fun hb19 => ?_) (fun hb19 => ?_)
  · have hb4 := (iN_le (by omega) (by omega)).mp hb19
    first | exact kA hb4 _ | exact kB hb4 _
  · have hb4 := fun q => hb19 ((iN_le (by omega) (by omega)).mpr q)
    refine wa_aloadV_n (pc := 22) (y := mJ2_fastRemove) dJ2_fastRemove_22 rfl (by first | exact rf_s _ | exact rf_n | exact rf_q _) ?_
    refine wa_iload_n (pc := 23) (y := mJ2_fastRemove) dJ2_fastRemove_23 rfl ?_
    refine wa_iconst (pc := 24) (y := mJ2_fastRemove) (Int32.ofNat 1) dJ2_fastRemove_24 rfl ?_
    first | with_reducible refine wa_iaddN (pc := 25) (y := mJ2_fastRemove) dJ2_fastRemove_25 ?_ | refine wa_iadd (pc := 25) (y := mJ2_fastRemove) dJ2_fastRemove_25 ?_
    refine wa_aloadV_n (pc := 26) (y := mJ2_fastRemove) dJ2_fastRemove_26 rfl (by first | exact rf_s _ | exact rf_n | exact rf_q _) ?_
    refine wa_iload_n (pc := 27) (y := mJ2_fastRemove) dJ2_fastRemove_27 rfl ?_
    refine wa_iload_n (pc := 28) (y := mJ2_fastRemove) dJ2_fastRemove_28 rfl ?_
    refine wa_iload_n (pc := 29) (y := mJ2_fastRemove) dJ2_fastRemove_29 rfl ?_
    refine wa_isub (pc := 30) (y := mJ2_fastRemove) dJ2_fastRemove_30 ?_
    rw [iN_sub (by omega)]
    refine wf_copy (k := 35) (pc := 31) (y := mJ2_fastRemove) dJ2_fastRemove_31 q1759 q352 q351 q96 (by assumption) (by assumption) (by omega) (fun j hj => by have hx : xs[i + 1 + j]? = some (xs[i + 1 + j]'(by omega)) := List.getElem?_eq_getElem (by omega); rw [updF_a (Ne.symm hne) (L8 _ _ hx).1]; exact (L8 _ _ hx).2.cp) (Or.inr rfl) (Nat.le_of_ble_eq_true rfl) (by omega) ?_
    first | exact kA hb4 _ | exact kB hb4 _
theorem s_J2_remove {i w : Nat} (hd : 3 ≤ d) (L : LstR G h F a arr cap xs) (hw : xs[i]? = some w) :
    MA G d mJ2_remove [.ref a, .int (Int32.ofNat i)] (sF h F) (fun r h' => r = .inl (some (.ref w)) ∧ ∃ F2, h' = sF h F2 ∧ LstR G h F2 a arr cap (xs.eraseIdx i) ∧ Fr (LF h a arr) h F h F2) := by
  have LL := L
  have hl := L.len
  have hi := (List.getElem?_eq_some_iff.mp hw).1
  obtain ⟨L1, L2, L3, ⟨z, L4⟩, L5, L6, L7, L8⟩ := L
  have hI : Is h arr 35 cap := L7.elim (fun q => q.2) (fun q => by omega)
  have hv := (L8 i w hw).1
  change WA G d mJ2_remove 0 [.ref a, .int (Int32.ofNat i), .retAddr 0, .retAddr 0] [] _ _
  refine wa_iload_n (pc := 0) (y := mJ2_remove) dJ2_remove_0 rfl ?_
  refine wa_aloadV_n (pc := 1) (y := mJ2_remove) dJ2_remove_1 rfl (by first | exact rf_s _ | exact rf_n | exact rf_q _) ?_
  refine wf_get (k := 11) (l := 3) 2 dJ2_remove_2 (by assumption) rfl q176 (Or.inl rfl) (Nat.le_of_ble_eq_true rfl) (Nat.le_of_ble_eq_true rfl) (by (repeat (first | exact updF_self _ _ _ _ | (apply updF_i; · decide) | (apply updF_a; · first | assumption | (apply Ne.symm; assumption) | omega) | (apply newF_a; · first | assumption | (apply Ne.symm; assumption) | omega) | exact newL_self (by rfl) | exact newF_self (by rfl) | (apply cpyF_a; · first | assumption | (apply Ne.symm; assumption) | omega))) <;> first | assumption | rfl) ?_
  refine wa_callS (pc := 5) (s_J9_checkIndex (d := d - 1) (by omega) hi (by omega)) dJ2_remove_5 okJ9_checkIndex q420 q421 rfl rfl (Nat.le_of_ble_eq_true rfl) (Nat.le_of_ble_eq_true rfl) (by omega) ?_
  rintro _ _ - - ⟨rfl, rfl⟩
  refine aft_v (pc2 := 8) ?_ rfl
  refine wa_pop (pc := 8) (y := mJ2_remove) dJ2_remove_8 (by first | rfl | exact rf_cat _) ?_
  refine wa_aloadV_n (pc := 9) (y := mJ2_remove) dJ2_remove_9 rfl (by first | exact rf_s _ | exact rf_n | exact rf_q _) ?_
  refine wf_get (k := 11) (l := 3) 1 dJ2_remove_10 (by assumption) rfl q173 (Or.inl rfl) (Nat.le_of_ble_eq_true rfl) (Nat.le_of_ble_eq_true rfl) (by (repeat (first | exact updF_self _ _ _ _ | (apply updF_i; · decide) | (apply updF_a; · first | assumption | (apply Ne.symm; assumption) | omega) | (apply newF_a; · first | assumption | (apply Ne.symm; assumption) | omega) | exact newL_self (by rfl) | exact newF_self (by rfl) | (apply cpyF_a; · first | assumption | (apply Ne.symm; assumption) | omega))) <;> first | assumption | rfl) ?_
  refine wa_astoreV_n (pc := 13) (y := mJ2_remove) dJ2_remove_13 (Nat.le_of_ble_eq_true rfl) (by first | rfl | (simp [okst, rf_cat] <;> assumption)) (by first | exact rf_s _ | exact rf_n | exact rf_q _) ?_
  change WA _ _ _ _ (List.set _ 2 _) _ _ _
  simp only [List.set_cons_zero, List.set_cons_succ]
  refine wa_aloadV_n (pc := 14) (y := mJ2_remove) dJ2_remove_14 rfl (by first | exact rf_s _ | exact rf_n | exact rf_q _) ?_
  refine wa_iload_n (pc := 15) (y := mJ2_remove) dJ2_remove_15 rfl ?_
  refine wf_aaload dJ2_remove_16 (by assumption) (by first | exact Or.inl rfl | exact Or.inr rfl) (by omega) (by (repeat (first | exact updF_self _ _ _ _ | (apply updF_i; · decide) | (apply updF_a; · first | assumption | (apply Ne.symm; assumption) | omega) | (apply newF_a; · first | assumption | (apply Ne.symm; assumption) | omega) | exact newL_self (by rfl) | exact newF_self (by rfl) | (apply cpyF_a; · first | assumption | (apply Ne.symm; assumption) | omega))) <;> first | assumption | rfl) ?_
  refine wa_astoreV_n (pc := 17) (y := mJ2_remove) dJ2_remove_17 (Nat.le_of_ble_eq_true rfl) (by first | rfl | (simp [okst, rf_cat] <;> assumption)) (by first | exact rf_s _ | exact rf_n | exact rf_q _) ?_
  change WA _ _ _ _ (List.set _ 3 _) _ _ _
  simp only [List.set_cons_zero, List.set_cons_succ]
  refine wa_aloadV_n (pc := 18) (y := mJ2_remove) dJ2_remove_18 rfl (by first | exact rf_s _ | exact rf_n | exact rf_q _) ?_
  refine wa_aloadV_n (pc := 19) (y := mJ2_remove) dJ2_remove_19 rfl (by first | exact rf_s _ | exact rf_n | exact rf_q _) ?_
  refine wa_iload_n (pc := 20) (y := mJ2_remove) dJ2_remove_20 rfl ?_
  refine wa_callV (pc := 21) (s_J2_fastRemove (d := d - 1) (by omega) LL hi) dJ2_remove_21 okJ2_fastRemove q1773 q1775 qs13 (sF_at (by assumption)) rfl rfl rfl (Nat.le_of_ble_eq_true rfl) (Nat.le_of_ble_eq_true rfl) (by omega) ?_
  rintro _ _ - - ⟨rfl, F2, rfl, q⟩
  refine aft_0 (pc2 := 24) ?_ rfl
  refine wa_aloadV_n (pc := 24) (y := mJ2_remove) dJ2_remove_24 rfl (by first | exact rf_s _ | exact rf_n | exact rf_q _) ?_
  refine wa_areturnV (pc := 25) (y := mJ2_remove) (.object "java/lang/Object") dJ2_remove_25 rfl (Or.inl ⟨_, rfl⟩) (by first | exact rf_s _ | exact rf_n | exact rf_q _) ⟨rfl, F2, rfl, q⟩
theorem s_J2_clear (L : LstR G h F a arr cap xs) :
    MA G d mJ2_clear [.ref a] (sF h F) (fun r h' => r = .inl none ∧ ∃ F2, h' = sF h F2 ∧ LstR G h F2 a arr cap [] ∧ Fr (LF h a arr) h F h F2) := by
  have LL := L
  have hl := L.len
  have hne := L.ne
  obtain ⟨L1, L2, L3, ⟨z, L4⟩, L5, L6, L7, L8⟩ := L
  change WA G d mJ2_clear 0 [.ref a, .retAddr 0, .retAddr 0, .retAddr 0] [] _ _
  have loop : ∀ (t i : Nat) (F2 : Nat → Nat → Value), t + i = xs.length → LstR G h F2 a arr cap [] → Fr (LF h a arr) h F h F2 → WA G d mJ2_clear 27 [.ref a, .ref arr, .int (Int32.ofNat xs.length), .int (Int32.ofNat i)] [] (sF h F2) (fun r h' => r = .inl none ∧ ∃ F2, h' = sF h F2 ∧ LstR G h F2 a arr cap [] ∧ Fr (LF h a arr) h F h F2) := by
    intro t
    induction t with
    | zero =>
      intro i F2 hi M fr
      refine wa_iload_n (pc := 27) (y := mJ2_clear) dJ2_clear_27 rfl ?_
      refine wa_iload_n (pc := 28) (y := mJ2_clear) dJ2_clear_28 rfl ?_
      refine wa_icmp_ge (pc := 29) 42 dJ2_clear_29 rfl (fun hb29 => ?_) (fun hb29 => absurd ((iN_le (by omega) (by omega)).mpr (by omega)) hb29)
      refine wa_return (pc := 42) (y := mJ2_clear) dJ2_clear_42 rfl ⟨rfl, F2, rfl, M, fr⟩
    | succ t ih =>
      intro i F2 hi M fr
      have hI : Is h arr 35 cap := L7.elim (fun q => q.2) (fun q => by omega)
      have hP : LF h a arr arr ∨ h.1 ≤ arr := Or.inl (Or.inr ⟨rfl, _, hI⟩)
      refine wa_iload_n (pc := 27) (y := mJ2_clear) dJ2_clear_27 rfl ?_
      refine wa_iload_n (pc := 28) (y := mJ2_clear) dJ2_clear_28 rfl ?_
      refine wa_icmp_ge (pc := 29) 42 dJ2_clear_29 rfl (fun hb29 => absurd ((iN_le (by omega) (by omega)).mp hb29) (by omega)) (fun hb29 => ?_)
      refine wa_aloadV_n (pc := 32) (y := mJ2_clear) dJ2_clear_32 rfl (by first | exact rf_s _ | exact rf_n | exact rf_q _) ?_
      refine wa_iload_n (pc := 33) (y := mJ2_clear) dJ2_clear_33 rfl ?_
      refine wa_null (pc := 34) (y := mJ2_clear) dJ2_clear_34 ?_
      refine wf_aastoreN (pc := 35) (y := mJ2_clear) dJ2_clear_35 hI (Or.inl rfl) (by omega) ?_
      refine wa_iincN (pc := 36) (y := mJ2_clear) dJ2_clear_36 rfl (Nat.le_of_ble_eq_true rfl) (by first | rfl | (simp [okst, rf_cat] <;> assumption)) ?_
      simp only [List.set_cons_zero, List.set_cons_succ]
      refine wa_goto (pc := 39) (y := mJ2_clear) 27 dJ2_clear_39 rfl ?_
      refine ih (i + 1) _ (by omega) ?_ (fr.updT hP)
      obtain ⟨M1, M2, M3, ⟨z, M4⟩, M5, M6, M7, M8⟩ := M
      exact ⟨M1, updF_a hne M2, updF_a hne M3, ⟨z, updF_a hne M4⟩, M5, M6, M7, fun j w hw => by cases hw⟩
  refine wa_aloadV_n (pc := 0) (y := mJ2_clear) dJ2_clear_0 rfl (by first | exact rf_s _ | exact rf_n | exact rf_q _) ?_
  refine wa_dup (pc := 1) (y := mJ2_clear) dJ2_clear_1 (by first | rfl | exact rf_cat _) ?_
  refine wf_get (k := 11) (l := 3) 0 dJ2_clear_2 (by assumption) rfl q180 (Or.inr q179) (Nat.le_of_ble_eq_true rfl) (Nat.le_of_ble_eq_true rfl) (by (repeat (first | exact updF_self _ _ _ _ | (apply updF_i; · decide) | (apply updF_a; · first | assumption | (apply Ne.symm; assumption) | omega) | (apply newF_a; · first | assumption | (apply Ne.symm; assumption) | omega) | exact newL_self (by rfl) | exact newF_self (by rfl) | (apply cpyF_a; · first | assumption | (apply Ne.symm; assumption) | omega))) <;> first | assumption | rfl) ?_
  refine wa_iconst (pc := 5) (y := mJ2_clear) (Int32.ofNat 1) dJ2_clear_5 rfl ?_
  first | with_reducible refine wa_iaddN (pc := 6) (y := mJ2_clear) dJ2_clear_6 ?_ | refine wa_iadd (pc := 6) (y := mJ2_clear) dJ2_clear_6 ?_
  refine wf_put (k := 11) (l := 3) 0 .int dJ2_clear_7 (by assumption) rfl q180 (Or.inr q179) (Nat.le_of_ble_eq_true rfl) rfl (by decide +kernel) rfl rfl ?_
  refine wa_aloadV_n (pc := 10) (y := mJ2_clear) dJ2_clear_10 rfl (by first | exact rf_s _ | exact rf_n | exact rf_q _) ?_
  refine wf_get (k := 11) (l := 3) 1 dJ2_clear_11 (by assumption) rfl q173 (Or.inl rfl) (Nat.le_of_ble_eq_true rfl) (Nat.le_of_ble_eq_true rfl) (by (repeat (first | exact updF_self _ _ _ _ | (apply updF_i; · decide) | (apply updF_a; · first | assumption | (apply Ne.symm; assumption) | omega) | (apply newF_a; · first | assumption | (apply Ne.symm; assumption) | omega) | exact newL_self (by rfl) | exact newF_self (by rfl) | (apply cpyF_a; · first | assumption | (apply Ne.symm; assumption) | omega))) <;> first | assumption | rfl) ?_
  refine wa_astoreV_n (pc := 14) (y := mJ2_clear) dJ2_clear_14 (Nat.le_of_ble_eq_true rfl) (by first | rfl | (simp [okst, rf_cat] <;> assumption)) (by first | exact rf_s _ | exact rf_n | exact rf_q _) ?_
  change WA _ _ _ _ (List.set _ 1 _) _ _ _
  simp only [List.set_cons_zero, List.set_cons_succ]
  refine wa_aloadV_n (pc := 15) (y := mJ2_clear) dJ2_clear_15 rfl (by first | exact rf_s _ | exact rf_n | exact rf_q _) ?_
  refine wf_get (k := 11) (l := 3) 2 dJ2_clear_16 (by assumption) rfl q176 (Or.inl rfl) (Nat.le_of_ble_eq_true rfl) (Nat.le_of_ble_eq_true rfl) (by (repeat (first | exact updF_self _ _ _ _ | (apply updF_i; · decide) | (apply updF_a; · first | assumption | (apply Ne.symm; assumption) | omega) | (apply newF_a; · first | assumption | (apply Ne.symm; assumption) | omega) | exact newL_self (by rfl) | exact newF_self (by rfl) | (apply cpyF_a; · first | assumption | (apply Ne.symm; assumption) | omega))) <;> first | assumption | rfl) ?_
  refine wa_istore_n (pc := 19) (y := mJ2_clear) dJ2_clear_19 (Nat.le_of_ble_eq_true rfl) (by first | rfl | (simp [okst, rf_cat] <;> assumption)) ?_
  change WA _ _ _ _ (List.set _ 2 _) _ _ _
  simp only [List.set_cons_zero, List.set_cons_succ]
  refine wa_aloadV_n (pc := 20) (y := mJ2_clear) dJ2_clear_20 rfl (by first | exact rf_s _ | exact rf_n | exact rf_q _) ?_
  refine wa_iconst (pc := 21) (y := mJ2_clear) (Int32.ofNat 0) dJ2_clear_21 rfl ?_
  refine wa_dup_x1 (pc := 22) (y := mJ2_clear) dJ2_clear_22 (by first | rfl | exact rf_cat _) (by first | rfl | exact rf_cat _) ?_
  refine wf_put (k := 11) (l := 3) 2 .int dJ2_clear_23 (by assumption) rfl q176 (Or.inl rfl) (Nat.le_of_ble_eq_true rfl) rfl (by decide +kernel) rfl rfl ?_
  refine wa_istore_n (pc := 26) (y := mJ2_clear) dJ2_clear_26 (Nat.le_of_ble_eq_true rfl) (by first | rfl | (simp [okst, rf_cat] <;> assumption)) ?_
  change WA _ _ _ _ (List.set _ 3 _) _ _ _
  simp only [List.set_cons_zero, List.set_cons_succ]
  refine loop xs.length 0 _ (by omega) ⟨L1, ?_, ?_, ?_, Nat.zero_le _, L6, L7, fun j w hw => by cases hw⟩ ((Fr.upd (Or.inl rfl)).updT (Or.inl (Or.inl rfl)))
  · exact updF_i (by decide) (updF_i (by decide) L2)
  · exact updF_self _ _ _ _
  · exact ⟨_, updF_i (by decide) (updF_self _ _ _ _)⟩
end LISTS2
