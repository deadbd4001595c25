/-! ===== iterators ===== -/
section ITR
variable {G : GG} {d n : Nat} {h h2 : AH} {F F2 F3 : Nat → Nat → Value} {l m p q x k kk tb c s i v it : Nat} {ns a b : List Nat} {P : Nat → Prop} {o cur : Option Nat} {mc : Int32}
def ItR (h : AH) (F : Nat → Nat → Value) (it kk m : Nat) (o cur : Option Nat) (mc : Int32) : Prop := Is h it kk 5 ∧ F it 0 = va_rf o ∧ F it 1 = va_rf cur ∧ F it 2 = .int mc ∧ F it 3 = .int 0 ∧ F it 4 = .ref m
theorem ItR.fr (I : ItR h F it kk m o cur mc) (f : Fr P h F h2 F2) (hP : ¬ P it) : ItR h2 F2 it kk m o cur mc := by
  obtain ⟨i1, i2, i3, i4, i5, i6⟩ := I
  have g := f.at i1.lt hP
  exact ⟨i1.ext f.1, (g 0).trans i2, (g 1).trans i3, (g 2).trans i4, (g 3).trans i5, (g 4).trans i6⟩
/-- a new iterator over the whole -/
def ItN (kk m : Nat) (h : AH) (F : Nat → Nat → Value) (ns : List Nat) (mc : Int32) (r : RR) (h' : AH) : Prop := ∃ F2, r = .inl (some (.ref h.1)) ∧ h' = sF (hNew h kk 5) F2 ∧ ItR (hNew h kk 5) F2 h.1 kk m ns.head? none mc ∧ ∀ b, b < h.1 → F2 b = F b
theorem app_uniq {a b a2 b2 : List Nat} (hn : (a ++ p :: b).Nodup) (e : a ++ p :: b = a2 ++ p :: b2) : a = a2 ∧ b = b2 := by
  induction a generalizing a2 with
  | nil =>
    cases a2 with
    | nil => simp at e; exact ⟨rfl, e⟩
    | cons y a2 =>
      simp at e
      obtain ⟨rfl, e⟩ := e
      rw [e] at hn
      simp at hn
  | cons y a ih =>
    cases a2 with
    | nil =>
      simp at e
      obtain ⟨rfl, e⟩ := e
      simp at hn
    | cons z a2 =>
      simp at e
      obtain ⟨rfl, e⟩ := e
      have := ih (by simp at hn ⊢; exact hn.2) e
      exact ⟨by rw [this.1], this.2⟩
theorem s_J29_init_16 (hd : 1 ≤ d) (hit : Is h it 16 5) (hm : Is h m 12 12) (h8 : F m 8 = va_rf o) (h3 : F m 3 = .int mc) : MA G d mJ29_init [.ref it, .ref m, .int 0] (sF h F) (fun r h' => r = .inl none ∧ h' = sF h (updF (updF (updF (updF (updF F it 4 (.ref m)) it 3 (.int 0)) it 0 (va_rf o)) it 2 (.int mc)) it 1 .null)) := by
  have hne : it ≠ m := hit.ne hm (by decide)
  change WA G d mJ29_init 0 [.ref it, .ref m, .int 0] [] _ _
  refine wa_aloadV_n (pc := 0) (y := mJ29_init) dJ29_init_0 rfl (by first | exact rf_s _ | exact rf_n | exact rf_q _) ?_
  refine wa_aloadV_n (pc := 1) (y := mJ29_init) dJ29_init_1 rfl (by first | exact rf_s _ | exact rf_n | exact rf_q _) ?_
  refine wf_putF (k := 16) (l := 5) 4 (.object "java/util/LinkedHashMap") dJ29_init_2 (by assumption) rfl q1428 (Or.inl rfl) (Nat.le_of_ble_eq_true rfl) rfl rfl rfl (by decide +kernel) (by first | rfl | exact rf_nar _ | exact rf_nar2 _) (by first | rfl | exact rf_fit _ | exact rf_fit2 _) ?_
  refine wa_aloadV_n (pc := 5) (y := mJ29_init) dJ29_init_5 rfl (by first | exact rf_s _ | exact rf_n | exact rf_q _) ?_
  refine wa_objInit (pc := 6) (y := mJ29_init) dJ29_init_6 q1423 q151 q152 (Nat.le_of_ble_eq_true rfl) (by omega) ?_
  refine wa_aloadV_n (pc := 9) (y := mJ29_init) dJ29_init_9 rfl (by first | exact rf_s _ | exact rf_n | exact rf_q _) ?_
  refine wa_iload_n (pc := 10) (y := mJ29_init) dJ29_init_10 rfl ?_
  refine wf_put (k := 16) (l := 5) 3 .boolean dJ29_init_11 (by assumption) rfl q1427 (Or.inl rfl) (Nat.le_of_ble_eq_true rfl) rfl (by decide +kernel) (by first | rfl | exact bI_nar _) (by first | rfl | exact bI_fit _) ?_
  refine wa_aloadV_n (pc := 14) (y := mJ29_init) dJ29_init_14 rfl (by first | exact rf_s _ | exact rf_n | exact rf_q _) ?_
  refine wa_iload_n (pc := 15) (y := mJ29_init) dJ29_init_15 rfl ?_
  refine wa_if_eq (pc := 16) 26 dJ29_init_16 rfl (fun hb16 => ?_) (fun hb16 => absurd rfl hb16)
  refine wa_aloadV_n (pc := 26) (y := mJ29_init) dJ29_init_26 rfl (by first | exact rf_s _ | exact rf_n | exact rf_q _) ?_
  refine wf_get (k := 12) (l := 12) 8 dJ29_init_27 (by assumption) rfl q202 (Or.inl rfl) (Nat.le_of_ble_eq_true rfl) (Nat.le_of_ble_eq_true rfl) (by (repeat (first | exact updF_self _ _ _ _ | (apply updF_i; · decide) | (apply updF_a; · first | assumption | (apply Ne.symm; assumption) | omega) | (apply newF_a; · first | assumption | (apply Ne.symm; assumption) | omega) | exact newL_self (by rfl) | exact newF_self (by rfl) | (apply cpyF_a; · first | assumption | (apply Ne.symm; assumption) | omega))) <;> first | assumption | rfl) ?_
  refine wf_put (k := 16) (l := 5) 0 (.object "java/util/LinkedHashMap$Entry") dJ29_init_30 (by assumption) rfl q1424 (Or.inl rfl) (Nat.le_of_ble_eq_true rfl) rfl (by decide +kernel) (by first | rfl | exact rf_nar _ | exact rf_nar2 _) (by first | rfl | exact rf_fit _ | exact rf_fit2 _) ?_
  refine wa_aloadV_n (pc := 33) (y := mJ29_init) dJ29_init_33 rfl (by first | exact rf_s _ | exact rf_n | exact rf_q _) ?_
  refine wa_aloadV_n (pc := 34) (y := mJ29_init) dJ29_init_34 rfl (by first | exact rf_s _ | exact rf_n | exact rf_q _) ?_
  refine wf_get (k := 12) (l := 12) 3 dJ29_init_35 (by assumption) rfl q211 (Or.inr q212) (Nat.le_of_ble_eq_true rfl) (Nat.le_of_ble_eq_true rfl) (by (repeat (first | exact updF_self _ _ _ _ | (apply updF_i; · decide) | (apply updF_a; · first | assumption | (apply Ne.symm; assumption) | omega) | (apply newF_a; · first | assumption | (apply Ne.symm; assumption) | omega) | exact newL_self (by rfl) | exact newF_self (by rfl) | (apply cpyF_a; · first | assumption | (apply Ne.symm; assumption) | omega))) <;> first | assumption | rfl) ?_
  refine wf_put (k := 16) (l := 5) 2 .int dJ29_init_38 (by assumption) rfl q1426 (Or.inl rfl) (Nat.le_of_ble_eq_true rfl) rfl (by decide +kernel) rfl rfl ?_
  refine wa_aloadV_n (pc := 41) (y := mJ29_init) dJ29_init_41 rfl (by first | exact rf_s _ | exact rf_n | exact rf_q _) ?_
  refine wa_null (pc := 42) (y := mJ29_init) dJ29_init_42 ?_
  refine wf_put (k := 16) (l := 5) 1 (.object "java/util/LinkedHashMap$Entry") dJ29_init_43 (by assumption) rfl q1425 (Or.inl rfl) (Nat.le_of_ble_eq_true rfl) rfl (by decide +kernel) (by first | rfl | exact rf_nar _ | exact rf_nar2 _) (by first | rfl | exact rf_fit _ | exact rf_fit2 _) ?_
  refine wa_return (pc := 46) (y := mJ29_init) dJ29_init_46 rfl ⟨rfl, rfl⟩
theorem s_J31_init (hd : 2 ≤ d) (hit : Is h it 16 5) (hm : Is h m 12 12) (h8 : F m 8 = va_rf o) (h3 : F m 3 = .int mc) : MA G d mJ31_init [.ref it, .ref m, .int 0] (sF h F) (fun r h' => r = .inl none ∧ h' = sF h (updF (updF (updF (updF (updF F it 4 (.ref m)) it 3 (.int 0)) it 0 (va_rf o)) it 2 (.int mc)) it 1 .null)) := by
  change WA G d mJ31_init 0 [.ref it, .ref m, .int 0] [] _ _
  refine wa_aloadV_n (pc := 0) (y := mJ31_init) dJ31_init_0 rfl (by first | exact rf_s _ | exact rf_n | exact rf_q _) ?_
  refine wa_aloadV_n (pc := 1) (y := mJ31_init) dJ31_init_1 rfl (by first | exact rf_s _ | exact rf_n | exact rf_q _) ?_
  refine wa_iload_n (pc := 2) (y := mJ31_init) dJ31_init_2 rfl ?_
  refine wa_callI (pc := 3) (s_J29_init_16 (d := d - 1) (by omega) hit hm h8 h3) dJ31_init_3 okJ29_init rfl rfl rfl q1451 q1421 rfl rfl (Nat.le_of_ble_eq_true rfl) (Nat.le_of_ble_eq_true rfl) (by omega) ?_
  rintro _ _ - - ⟨rfl, rfl⟩
  refine aft_0 (pc2 := 6) ?_ rfl
  refine wa_return (pc := 6) (y := mJ31_init) dJ31_init_6 rfl ⟨rfl, rfl⟩
theorem s_J36_iterator (hd : 3 ≤ d) (hv : Is h v 15 2) (v0 : F v 0 = .int 0) (v1 : F v 1 = .ref m) (M : MapR h F m ns) (h3 : F m 3 = .int mc) : MA G d mJ36_iterator [.ref v] (sF h F) (ItN 16 m h F ns mc) := by
  have m1 := M.1
  have h8 := M.2.2.2.2.2.2.1.1
  have hvl := hv.lt
  have hml := m1.lt
  have hv9 : v ≠ h.1 := by omega
  have hm9 : m ≠ h.1 := by omega
  change WA G d mJ36_iterator 0 [.ref v] [] _ _
  refine wf_new (k := 16) (l := 5) [.null, .null, .int 0, .int 0, .null] tyJ31 dJ36_iterator_0 rfl q1446 q1447 q126 tyJ31_ok rfl rfl ?_
  have hself : Is (hNew h 16 5) h.1 16 5 := Is.self
  have hv2 : Is (hNew h 16 5) v 15 2 := hv.new
  have hm2 : Is (hNew h 16 5) m 12 12 := m1.new
  refine wa_dup (pc := 3) (y := mJ36_iterator) dJ36_iterator_3 (by first | rfl | exact rf_cat _) ?_
  refine wa_aloadV_n (pc := 4) (y := mJ36_iterator) dJ36_iterator_4 rfl (by first | exact rf_s _ | exact rf_n | exact rf_q _) ?_
  refine wf_get (k := 15) (l := 2) 1 dJ36_iterator_5 (by assumption) rfl q1860 (Or.inl rfl) (Nat.le_of_ble_eq_true rfl) (Nat.le_of_ble_eq_true rfl) (by (repeat (first | exact updF_self _ _ _ _ | (apply updF_i; · decide) | (apply updF_a; · first | assumption | (apply Ne.symm; assumption) | omega) | (apply newF_a; · first | assumption | (apply Ne.symm; assumption) | omega) | exact newL_self (by rfl) | exact newF_self (by rfl) | (apply cpyF_a; · first | assumption | (apply Ne.symm; assumption) | omega))) <;> first | assumption | rfl) ?_
  refine wa_aloadV_n (pc := 8) (y := mJ36_iterator) dJ36_iterator_8 rfl (by first | exact rf_s _ | exact rf_n | exact rf_q _) ?_
  refine wf_get (k := 15) (l := 2) 0 dJ36_iterator_9 (by assumption) rfl q1859 (Or.inl rfl) (Nat.le_of_ble_eq_true rfl) (Nat.le_of_ble_eq_true rfl) (by (repeat (first | exact updF_self _ _ _ _ | (apply updF_i; · decide) | (apply updF_a; · first | assumption | (apply Ne.symm; assumption) | omega) | (apply newF_a; · first | assumption | (apply Ne.symm; assumption) | omega) | exact newL_self (by rfl) | exact newF_self (by rfl) | (apply cpyF_a; · first | assumption | (apply Ne.symm; assumption) | omega))) <;> first | assumption | rfl) ?_
  refine wa_callI (pc := 12) (s_J31_init (d := d - 1) (by omega) hself hm2 (newF_a hm9 h8) (newF_a hm9 h3)) dJ36_iterator_12 okJ31_init rfl rfl rfl q1448 q1449 rfl rfl (Nat.le_of_ble_eq_true rfl) (Nat.le_of_ble_eq_true rfl) (by omega) ?_
  rintro _ _ - - ⟨rfl, rfl⟩
  refine aft_0 (pc2 := 15) ?_ rfl
  refine wa_areturnV (pc := 15) (y := mJ36_iterator) (.object "java/util/Iterator") dJ36_iterator_15 rfl (Or.inl ⟨_, rfl⟩) (by first | exact rf_s _ | exact rf_n | exact rf_q _) ⟨_, rfl, rfl, ⟨hself, (updF_i (by decide) (updF_i (by decide) (updF_self _ _ _ _))), updF_self _ _ _ _, (updF_i (by decide) (updF_self _ _ _ _)), (updF_i (by decide) (updF_i (by decide) (updF_i (by decide) (updF_self _ _ _ _)))), (updF_i (by decide) (updF_i (by decide) (updF_i (by decide) (updF_i (by decide) (updF_self _ _ _ _)))))⟩, fun b hb => by funext j; exact updF_a (by omega) (updF_a (by omega) (updF_a (by omega) (updF_a (by omega) (updF_a (by omega) (newF_a (by omega) rfl)))))⟩
theorem s_J29_hasNext_16 (I : ItR h F it 16 m o cur mc) : MA G d mJ29_hasNext [.ref it] (sF h F) (fun r h' => r = .inl (some (.int (bI o.isSome))) ∧ h' = sF h F) := by
  obtain ⟨i1, i2, i3, i4, i5, i6⟩ := I
  change WA G d mJ29_hasNext 0 [.ref it] [] _ _
  refine wa_aloadV_n (pc := 0) (y := mJ29_hasNext) dJ29_hasNext_0 rfl (by first | exact rf_s _ | exact rf_n | exact rf_q _) ?_
  refine wf_get (k := 16) (l := 5) 0 dJ29_hasNext_1 (by assumption) rfl q1424 (Or.inl rfl) (Nat.le_of_ble_eq_true rfl) (Nat.le_of_ble_eq_true rfl) (by (repeat (first | exact updF_self _ _ _ _ | (apply updF_i; · decide) | (apply updF_a; · first | assumption | (apply Ne.symm; assumption) | omega) | (apply newF_a; · first | assumption | (apply Ne.symm; assumption) | omega) | exact newL_self (by rfl) | exact newF_self (by rfl) | (apply cpyF_a; · first | assumption | (apply Ne.symm; assumption) | omega))) <;> first | assumption | rfl) ?_
  refine wa_ifnullV (pc := 4) 11 dJ29_hasNext_4 rfl (by first | exact rf_s _ | exact rf_n | exact rf_q _) (fun hb4 => ?_) (fun a4 hb4 => ?_)
  · refine wa_iconst (pc := 11) (y := mJ29_hasNext) (Int32.ofNat 0) dJ29_hasNext_11 rfl ?_
    refine wa_ireturn (pc := 12) (y := mJ29_hasNext) .boolean dJ29_hasNext_12 rfl (by first | rfl | exact bI_nar _) (by first | (rw [hb4]; exact ⟨rfl, rfl⟩) | (refine ⟨?_, rfl⟩; rw [hb4]; rfl))
  · refine wa_iconst (pc := 7) (y := mJ29_hasNext) (Int32.ofNat 1) dJ29_hasNext_7 rfl ?_
    refine wa_goto (pc := 8) (y := mJ29_hasNext) 12 dJ29_hasNext_8 rfl ?_
    refine wa_ireturn (pc := 12) (y := mJ29_hasNext) .boolean dJ29_hasNext_12 rfl (by first | rfl | exact bI_nar _) (by first | (rw [hb4]; exact ⟨rfl, rfl⟩) | (refine ⟨?_, rfl⟩; rw [hb4]; rfl))
theorem s_J29_nextNode_16 (I : ItR h F it 16 m (some p) cur mc) (M : MapR h F m (a ++ p :: b)) (h3 : F m 3 = .int mc) : MA G d mJ29_nextNode [.ref it] (sF h F) (fun r h' => r = .inl (some (.ref p)) ∧ h' = sF h (updF (updF F it 1 (.ref p)) it 0 (va_rf b.head?))) := by
  obtain ⟨i1, i2, i3, i4, i5, i6⟩ := I
  have m1 := M.1
  have pN := (M.2.2.2.2.2.2.2.2.1 p (by simp)).1
  have p5 := M.2.2.2.2.2.2.1.2.2.fwd
  have hpi : p ≠ it := pN.ne i1 (by decide) (by decide)
  have hmi : m ≠ it := m1.ne i1 (by decide)
  change WA G d mJ29_nextNode 0 [.ref it, .retAddr 0] [] _ _
  refine wa_aloadV_n (pc := 0) (y := mJ29_nextNode) dJ29_nextNode_0 rfl (by first | exact rf_s _ | exact rf_n | exact rf_q _) ?_
  refine wf_get (k := 16) (l := 5) 0 dJ29_nextNode_1 (by assumption) rfl q1424 (Or.inl rfl) (Nat.le_of_ble_eq_true rfl) (Nat.le_of_ble_eq_true rfl) (by (repeat (first | exact updF_self _ _ _ _ | (apply updF_i; · decide) | (apply updF_a; · first | assumption | (apply Ne.symm; assumption) | omega) | (apply newF_a; · first | assumption | (apply Ne.symm; assumption) | omega) | exact newL_self (by rfl) | exact newF_self (by rfl) | (apply cpyF_a; · first | assumption | (apply Ne.symm; assumption) | omega))) <;> first | assumption | rfl) ?_
  refine wa_astoreV_n (pc := 4) (y := mJ29_nextNode) dJ29_nextNode_4 (Nat.le_of_ble_eq_true rfl) (by first | rfl | (simp [okst, rf_cat] <;> assumption)) (by first | exact rf_s _ | exact rf_n | exact rf_q _) ?_
  change WA _ _ _ _ (List.set _ 1 _) _ _ _
  simp only [List.set_cons_zero, List.set_cons_succ]
  refine wa_aloadV_n (pc := 5) (y := mJ29_nextNode) dJ29_nextNode_5 rfl (by first | exact rf_s _ | exact rf_n | exact rf_q _) ?_
  refine wf_get (k := 16) (l := 5) 4 dJ29_nextNode_6 (by assumption) rfl q1428 (Or.inl rfl) (Nat.le_of_ble_eq_true rfl) (Nat.le_of_ble_eq_true rfl) (by (repeat (first | exact updF_self _ _ _ _ | (apply updF_i; · decide) | (apply updF_a; · first | assumption | (apply Ne.symm; assumption) | omega) | (apply newF_a; · first | assumption | (apply Ne.symm; assumption) | omega) | exact newL_self (by rfl) | exact newF_self (by rfl) | (apply cpyF_a; · first | assumption | (apply Ne.symm; assumption) | omega))) <;> first | assumption | rfl) ?_
  refine wf_get (k := 12) (l := 12) 3 dJ29_nextNode_9 (by assumption) rfl q211 (Or.inr q212) (Nat.le_of_ble_eq_true rfl) (Nat.le_of_ble_eq_true rfl) (by (repeat (first | exact updF_self _ _ _ _ | (apply updF_i; · decide) | (apply updF_a; · first | assumption | (apply Ne.symm; assumption) | omega) | (apply newF_a; · first | assumption | (apply Ne.symm; assumption) | omega) | exact newL_self (by rfl) | exact newF_self (by rfl) | (apply cpyF_a; · first | assumption | (apply Ne.symm; assumption) | omega))) <;> first | assumption | rfl) ?_
  refine wa_aloadV_n (pc := 12) (y := mJ29_nextNode) dJ29_nextNode_12 rfl (by first | exact rf_s _ | exact rf_n | exact rf_q _) ?_
  refine wf_get (k := 16) (l := 5) 2 dJ29_nextNode_13 (by assumption) rfl q1426 (Or.inl rfl) (Nat.le_of_ble_eq_true rfl) (Nat.le_of_ble_eq_true rfl) (by (repeat (first | exact updF_self _ _ _ _ | (apply updF_i; · decide) | (apply updF_a; · first | assumption | (apply Ne.symm; assumption) | omega) | (apply newF_a; · first | assumption | (apply Ne.symm; assumption) | omega) | exact newL_self (by rfl) | exact newF_self (by rfl) | (apply cpyF_a; · first | assumption | (apply Ne.symm; assumption) | omega))) <;> first | assumption | rfl) ?_
  refine wa_icmp_eq (pc := 16) 27 dJ29_nextNode_16 rfl (fun hb16 => ?_) (fun hb16 => absurd rfl hb16)
  refine wa_aloadV_n (pc := 27) (y := mJ29_nextNode) dJ29_nextNode_27 rfl (by first | exact rf_s _ | exact rf_n | exact rf_q _) ?_
  refine wa_ifnonnull (pc := 28) (y := mJ29_nextNode) 39 dJ29_nextNode_28 rfl ?_
  refine wa_aloadV_n (pc := 39) (y := mJ29_nextNode) dJ29_nextNode_39 rfl (by first | exact rf_s _ | exact rf_n | exact rf_q _) ?_
  refine wa_aloadV_n (pc := 40) (y := mJ29_nextNode) dJ29_nextNode_40 rfl (by first | exact rf_s _ | exact rf_n | exact rf_q _) ?_
  refine wf_put (k := 16) (l := 5) 1 (.object "java/util/LinkedHashMap$Entry") dJ29_nextNode_41 (by assumption) rfl q1425 (Or.inl rfl) (Nat.le_of_ble_eq_true rfl) rfl (by decide +kernel) (by first | rfl | exact rf_nar _ | exact rf_nar2 _) (by first | rfl | exact rf_fit _ | exact rf_fit2 _) ?_
  refine wa_aloadV_n (pc := 44) (y := mJ29_nextNode) dJ29_nextNode_44 rfl (by first | exact rf_s _ | exact rf_n | exact rf_q _) ?_
  refine wa_aloadV_n (pc := 45) (y := mJ29_nextNode) dJ29_nextNode_45 rfl (by first | exact rf_s _ | exact rf_n | exact rf_q _) ?_
  refine wf_get (k := 16) (l := 5) 3 dJ29_nextNode_46 (by assumption) rfl q1427 (Or.inl rfl) (Nat.le_of_ble_eq_true rfl) (Nat.le_of_ble_eq_true rfl) (by (repeat (first | exact updF_self _ _ _ _ | (apply updF_i; · decide) | (apply updF_a; · first | assumption | (apply Ne.symm; assumption) | omega) | (apply newF_a; · first | assumption | (apply Ne.symm; assumption) | omega) | exact newL_self (by rfl) | exact newF_self (by rfl) | (apply cpyF_a; · first | assumption | (apply Ne.symm; assumption) | omega))) <;> first | assumption | rfl) ?_
  refine wa_if_eq (pc := 49) 59 dJ29_nextNode_49 rfl (fun hb49 => ?_) (fun hb49 => absurd rfl hb49)
  refine wa_aloadV_n (pc := 59) (y := mJ29_nextNode) dJ29_nextNode_59 rfl (by first | exact rf_s _ | exact rf_n | exact rf_q _) ?_
  refine wn_get 5 dJ29_nextNode_60 (by assumption) q1312 (Or.inl rfl) (Nat.le_of_ble_eq_true rfl) (by (repeat (first | exact updF_self _ _ _ _ | (apply updF_i; · decide) | (apply updF_a; · first | assumption | (apply Ne.symm; assumption) | omega) | (apply newF_a; · first | assumption | (apply Ne.symm; assumption) | omega) | exact newL_self (by rfl) | exact newF_self (by rfl) | (apply cpyF_a; · first | assumption | (apply Ne.symm; assumption) | omega))) <;> first | assumption | rfl) ?_
  refine wf_put (k := 16) (l := 5) 0 (.object "java/util/LinkedHashMap$Entry") dJ29_nextNode_63 (by assumption) rfl q1424 (Or.inl rfl) (Nat.le_of_ble_eq_true rfl) rfl (by decide +kernel) (by first | rfl | exact rf_nar _ | exact rf_nar2 _) (by first | rfl | exact rf_fit _ | exact rf_fit2 _) ?_
  refine wa_aloadV_n (pc := 66) (y := mJ29_nextNode) dJ29_nextNode_66 rfl (by first | exact rf_s _ | exact rf_n | exact rf_q _) ?_
  refine wa_areturnV (pc := 67) (y := mJ29_nextNode) (.object "java/util/LinkedHashMap$Entry") dJ29_nextNode_67 rfl (Or.inl ⟨_, rfl⟩) (by first | exact rf_s _ | exact rf_n | exact rf_q _) ⟨rfl, rfl⟩
theorem s_J29_init_18 (hd : 1 ≤ d) (hit : Is h it 18 5) (hm : Is h m 12 12) (h8 : F m 8 = va_rf o) (h3 : F m 3 = .int mc) : MA G d mJ29_init [.ref it, .ref m, .int 0] (sF h F) (fun r h' => r = .inl none ∧ h' = sF h (updF (updF (updF (updF (updF F it 4 (.ref m)) it 3 (.int 0)) it 0 (va_rf o)) it 2 (.int mc)) it 1 .null)) := by
  have hne : it ≠ m := hit.ne hm (by decide)
  change WA G d mJ29_init 0 [.ref it, .ref m, .int 0] [] _ _
  refine wa_aloadV_n (pc := 0) (y := mJ29_init) dJ29_init_0 rfl (by first | exact rf_s _ | exact rf_n | exact rf_q _) ?_
  refine wa_aloadV_n (pc := 1) (y := mJ29_init) dJ29_init_1 rfl (by first | exact rf_s _ | exact rf_n | exact rf_q _) ?_
  refine wf_putF (k := 18) (l := 5) 4 (.object "java/util/LinkedHashMap") dJ29_init_2 (by assumption) rfl q1428 (Or.inl rfl) (Nat.le_of_ble_eq_true rfl) rfl rfl rfl (by decide +kernel) (by first | rfl | exact rf_nar _ | exact rf_nar2 _) (by first | rfl | exact rf_fit _ | exact rf_fit2 _) ?_
  refine wa_aloadV_n (pc := 5) (y := mJ29_init) dJ29_init_5 rfl (by first | exact rf_s _ | exact rf_n | exact rf_q _) ?_
  refine wa_objInit (pc := 6) (y := mJ29_init) dJ29_init_6 q1423 q151 q152 (Nat.le_of_ble_eq_true rfl) (by omega) ?_
  refine wa_aloadV_n (pc := 9) (y := mJ29_init) dJ29_init_9 rfl (by first | exact rf_s _ | exact rf_n | exact rf_q _) ?_
  refine wa_iload_n (pc := 10) (y := mJ29_init) dJ29_init_10 rfl ?_
  refine wf_put (k := 18) (l := 5) 3 .boolean dJ29_init_11 (by assumption) rfl q1427 (Or.inl rfl) (Nat.le_of_ble_eq_true rfl) rfl (by decide +kernel) (by first | rfl | exact bI_nar _) (by first | rfl | exact bI_fit _) ?_
  refine wa_aloadV_n (pc := 14) (y := mJ29_init) dJ29_init_14 rfl (by first | exact rf_s _ | exact rf_n | exact rf_q _) ?_
  refine wa_iload_n (pc := 15) (y := mJ29_init) dJ29_init_15 rfl ?_
  refine wa_if_eq (pc := 16) 26 dJ29_init_16 rfl (fun hb16 => ?_) (fun hb16 => absurd rfl hb16)
  refine wa_aloadV_n (pc := 26) (y := mJ29_init) dJ29_init_26 rfl (by first | exact rf_s _ | exact rf_n | exact rf_q _) ?_
  refine wf_get (k := 12) (l := 12) 8 dJ29_init_27 (by assumption) rfl q202 (Or.inl rfl) (Nat.le_of_ble_eq_true rfl) (Nat.le_of_ble_eq_true rfl) (by (repeat (first | exact updF_self _ _ _ _ | (apply updF_i; · decide) | (apply updF_a; · first | assumption | (apply Ne.symm; assumption) | omega) | (apply newF_a; · first | assumption | (apply Ne.symm; assumption) | omega) | exact newL_self (by rfl) | exact newF_self (by rfl) | (apply cpyF_a; · first | assumption | (apply Ne.symm; assumption) | omega))) <;> first | assumption | rfl) ?_
  refine wf_put (k := 18) (l := 5) 0 (.object "java/util/LinkedHashMap$Entry") dJ29_init_30 (by assumption) rfl q1424 (Or.inl rfl) (Nat.le_of_ble_eq_true rfl) rfl (by decide +kernel) (by first | rfl | exact rf_nar _ | exact rf_nar2 _) (by first | rfl | exact rf_fit _ | exact rf_fit2 _) ?_
  refine wa_aloadV_n (pc := 33) (y := mJ29_init) dJ29_init_33 rfl (by first | exact rf_s _ | exact rf_n | exact rf_q _) ?_
  refine wa_aloadV_n (pc := 34) (y := mJ29_init) dJ29_init_34 rfl (by first | exact rf_s _ | exact rf_n | exact rf_q _) ?_
  refine wf_get (k := 12) (l := 12) 3 dJ29_init_35 (by assumption) rfl q211 (Or.inr q212) (Nat.le_of_ble_eq_true rfl) (Nat.le_of_ble_eq_true rfl) (by (repeat (first | exact updF_self _ _ _ _ | (apply updF_i; · decide) | (apply updF_a; · first | assumption | (apply Ne.symm; assumption) | omega) | (apply newF_a; · first | assumption | (apply Ne.symm; assumption) | omega) | exact newL_self (by rfl) | exact newF_self (by rfl) | (apply cpyF_a; · first | assumption | (apply Ne.symm; assumption) | omega))) <;> first | assumption | rfl) ?_
  refine wf_put (k := 18) (l := 5) 2 .int dJ29_init_38 (by assumption) rfl q1426 (Or.inl rfl) (Nat.le_of_ble_eq_true rfl) rfl (by decide +kernel) rfl rfl ?_
  refine wa_aloadV_n (pc := 41) (y := mJ29_init) dJ29_init_41 rfl (by first | exact rf_s _ | exact rf_n | exact rf_q _) ?_
  refine wa_null (pc := 42) (y := mJ29_init) dJ29_init_42 ?_
  refine wf_put (k := 18) (l := 5) 1 (.object "java/util/LinkedHashMap$Entry") dJ29_init_43 (by assumption) rfl q1425 (Or.inl rfl) (Nat.le_of_ble_eq_true rfl) rfl (by decide +kernel) (by first | rfl | exact rf_nar _ | exact rf_nar2 _) (by first | rfl | exact rf_fit _ | exact rf_fit2 _) ?_
  refine wa_return (pc := 46) (y := mJ29_init) dJ29_init_46 rfl ⟨rfl, rfl⟩
theorem s_J41_init (hd : 2 ≤ d) (hit : Is h it 18 5) (hm : Is h m 12 12) (h8 : F m 8 = va_rf o) (h3 : F m 3 = .int mc) : MA G d mJ41_init [.ref it, .ref m, .int 0] (sF h F) (fun r h' => r = .inl none ∧ h' = sF h (updF (updF (updF (updF (updF F it 4 (.ref m)) it 3 (.int 0)) it 0 (va_rf o)) it 2 (.int mc)) it 1 .null)) := by
  change WA G d mJ41_init 0 [.ref it, .ref m, .int 0] [] _ _
  refine wa_aloadV_n (pc := 0) (y := mJ41_init) dJ41_init_0 rfl (by first | exact rf_s _ | exact rf_n | exact rf_q _) ?_
  refine wa_aloadV_n (pc := 1) (y := mJ41_init) dJ41_init_1 rfl (by first | exact rf_s _ | exact rf_n | exact rf_q _) ?_
  refine wa_iload_n (pc := 2) (y := mJ41_init) dJ41_init_2 rfl ?_
  refine wa_callI (pc := 3) (s_J29_init_18 (d := d - 1) (by omega) hit hm h8 h3) dJ41_init_3 okJ29_init rfl rfl rfl q2463 q1421 rfl rfl (Nat.le_of_ble_eq_true rfl) (Nat.le_of_ble_eq_true rfl) (by omega) ?_
  rintro _ _ - - ⟨rfl, rfl⟩
  refine aft_0 (pc2 := 6) ?_ rfl
  refine wa_return (pc := 6) (y := mJ41_init) dJ41_init_6 rfl ⟨rfl, rfl⟩
theorem s_J39_iterator (hd : 3 ≤ d) (hv : Is h v 17 2) (v0 : F v 0 = .int 0) (v1 : F v 1 = .ref m) (M : MapR h F m ns) (h3 : F m 3 = .int mc) : MA G d mJ39_iterator [.ref v] (sF h F) (ItN 18 m h F ns mc) := by
  have m1 := M.1
  have h8 := M.2.2.2.2.2.2.1.1
  have hvl := hv.lt
  have hml := m1.lt
  have hv9 : v ≠ h.1 := by omega
  have hm9 : m ≠ h.1 := by omega
  change WA G d mJ39_iterator 0 [.ref v] [] _ _
  refine wf_new (k := 18) (l := 5) [.null, .null, .int 0, .int 0, .null] tyJ41 dJ39_iterator_0 rfl q2458 q2459 q140 tyJ41_ok rfl rfl ?_
  have hself : Is (hNew h 18 5) h.1 18 5 := Is.self
  have hv2 : Is (hNew h 18 5) v 17 2 := hv.new
  have hm2 : Is (hNew h 18 5) m 12 12 := m1.new
  refine wa_dup (pc := 3) (y := mJ39_iterator) dJ39_iterator_3 (by first | rfl | exact rf_cat _) ?_
  refine wa_aloadV_n (pc := 4) (y := mJ39_iterator) dJ39_iterator_4 rfl (by first | exact rf_s _ | exact rf_n | exact rf_q _) ?_
  refine wf_get (k := 17) (l := 2) 1 dJ39_iterator_5 (by assumption) rfl q2412 (Or.inl rfl) (Nat.le_of_ble_eq_true rfl) (Nat.le_of_ble_eq_true rfl) (by (repeat (first | exact updF_self _ _ _ _ | (apply updF_i; · decide) | (apply updF_a; · first | assumption | (apply Ne.symm; assumption) | omega) | (apply newF_a; · first | assumption | (apply Ne.symm; assumption) | omega) | exact newL_self (by rfl) | exact newF_self (by rfl) | (apply cpyF_a; · first | assumption | (apply Ne.symm; assumption) | omega))) <;> first | assumption | rfl) ?_
  refine wa_aloadV_n (pc := 8) (y := mJ39_iterator) dJ39_iterator_8 rfl (by first | exact rf_s _ | exact rf_n | exact rf_q _) ?_
  refine wf_get (k := 17) (l := 2) 0 dJ39_iterator_9 (by assumption) rfl q2411 (Or.inl rfl) (Nat.le_of_ble_eq_true rfl) (Nat.le_of_ble_eq_true rfl) (by (repeat (first | exact updF_self _ _ _ _ | (apply updF_i; · decide) | (apply updF_a; · first | assumption | (apply Ne.symm; assumption) | omega) | (apply newF_a; · first | assumption | (apply Ne.symm; assumption) | omega) | exact newL_self (by rfl) | exact newF_self (by rfl) | (apply cpyF_a; · first | assumption | (apply Ne.symm; assumption) | omega))) <;> first | assumption | rfl) ?_
  refine wa_callI (pc := 12) (s_J41_init (d := d - 1) (by omega) hself hm2 (newF_a hm9 h8) (newF_a hm9 h3)) dJ39_iterator_12 okJ41_init rfl rfl rfl q2460 q2461 rfl rfl (Nat.le_of_ble_eq_true rfl) (Nat.le_of_ble_eq_true rfl) (by omega) ?_
  rintro _ _ - - ⟨rfl, rfl⟩
  refine aft_0 (pc2 := 15) ?_ rfl
  refine wa_areturnV (pc := 15) (y := mJ39_iterator) (.object "java/util/Iterator") dJ39_iterator_15 rfl (Or.inl ⟨_, rfl⟩) (by first | exact rf_s _ | exact rf_n | exact rf_q _) ⟨_, rfl, rfl, ⟨hself, (updF_i (by decide) (updF_i (by decide) (updF_self _ _ _ _))), updF_self _ _ _ _, (updF_i (by decide) (updF_self _ _ _ _)), (updF_i (by decide) (updF_i (by decide) (updF_i (by decide) (updF_self _ _ _ _)))), (updF_i (by decide) (updF_i (by decide) (updF_i (by decide) (updF_i (by decide) (updF_self _ _ _ _)))))⟩, fun b hb => by funext j; exact updF_a (by omega) (updF_a (by omega) (updF_a (by omega) (updF_a (by omega) (updF_a (by omega) (newF_a (by omega) rfl)))))⟩
theorem s_J29_hasNext_18 (I : ItR h F it 18 m o cur mc) : MA G d mJ29_hasNext [.ref it] (sF h F) (fun r h' => r = .inl (some (.int (bI o.isSome))) ∧ h' = sF h F) := by
  obtain ⟨i1, i2, i3, i4, i5, i6⟩ := I
  change WA G d mJ29_hasNext 0 [.ref it] [] _ _
  refine wa_aloadV_n (pc := 0) (y := mJ29_hasNext) dJ29_hasNext_0 rfl (by first | exact rf_s _ | exact rf_n | exact rf_q _) ?_
  refine wf_get (k := 18) (l := 5) 0 dJ29_hasNext_1 (by assumption) rfl q1424 (Or.inl rfl) (Nat.le_of_ble_eq_true rfl) (Nat.le_of_ble_eq_true rfl) (by (repeat (first | exact updF_self _ _ _ _ | (apply updF_i; · decide) | (apply updF_a; · first | assumption | (apply Ne.symm; assumption) | omega) | (apply newF_a; · first | assumption | (apply Ne.symm; assumption) | omega) | exact newL_self (by rfl) | exact newF_self (by rfl) | (apply cpyF_a; · first | assumption | (apply Ne.symm; assumption) | omega))) <;> first | assumption | rfl) ?_
  refine wa_ifnullV (pc := 4) 11 dJ29_hasNext_4 rfl (by first | exact rf_s _ | exact rf_n | exact rf_q _) (fun hb4 => ?_) (fun a4 hb4 => ?_)
  · refine wa_iconst (pc := 11) (y := mJ29_hasNext) (Int32.ofNat 0) dJ29_hasNext_11 rfl ?_
    refine wa_ireturn (pc := 12) (y := mJ29_hasNext) .boolean dJ29_hasNext_12 rfl (by first | rfl | exact bI_nar _) (by first | (rw [hb4]; exact ⟨rfl, rfl⟩) | (refine ⟨?_, rfl⟩; rw [hb4]; rfl))
  · refine wa_iconst (pc := 7) (y := mJ29_hasNext) (Int32.ofNat 1) dJ29_hasNext_7 rfl ?_
    refine wa_goto (pc := 8) (y := mJ29_hasNext) 12 dJ29_hasNext_8 rfl ?_
    refine wa_ireturn (pc := 12) (y := mJ29_hasNext) .boolean dJ29_hasNext_12 rfl (by first | rfl | exact bI_nar _) (by first | (rw [hb4]; exact ⟨rfl, rfl⟩) | (refine ⟨?_, rfl⟩; rw [hb4]; rfl))
theorem s_J29_nextNode_18 (I : ItR h F it 18 m (some p) cur mc) (M : MapR h F m (a ++ p :: b)) (h3 : F m 3 = .int mc) : MA G d mJ29_nextNode [.ref it] (sF h F) (fun r h' => r = .inl (some (.ref p)) ∧ h' = sF h (updF (updF F it 1 (.ref p)) it 0 (va_rf b.head?))) := by
  obtain ⟨i1, i2, i3, i4, i5, i6⟩ := I
  have m1 := M.1
  have pN := (M.2.2.2.2.2.2.2.2.1 p (by simp)).1
  have p5 := M.2.2.2.2.2.2.1.2.2.fwd
  have hpi : p ≠ it := pN.ne i1 (by decide) (by decide)
  have hmi : m ≠ it := m1.ne i1 (by decide)
  change WA G d mJ29_nextNode 0 [.ref it, .retAddr 0] [] _ _
  refine wa_aloadV_n (pc := 0) (y := mJ29_nextNode) dJ29_nextNode_0 rfl (by first | exact rf_s _ | exact rf_n | exact rf_q _) ?_
  refine wf_get (k := 18) (l := 5) 0 dJ29_nextNode_1 (by assumption) rfl q1424 (Or.inl rfl) (Nat.le_of_ble_eq_true rfl) (Nat.le_of_ble_eq_true rfl) (by (repeat (first | exact updF_self _ _ _ _ | (apply updF_i; · decide) | (apply updF_a; · first | assumption | (apply Ne.symm; assumption) | omega) | (apply newF_a; · first | assumption | (apply Ne.symm; assumption) | omega) | exact newL_self (by rfl) | exact newF_self (by rfl) | (apply cpyF_a; · first | assumption | (apply Ne.symm; assumption) | omega))) <;> first | assumption | rfl) ?_
  refine wa_astoreV_n (pc := 4) (y := mJ29_nextNode) dJ29_nextNode_4 (Nat.le_of_ble_eq_true rfl) (by first | rfl | (simp [okst, rf_cat] <;> assumption)) (by first | exact rf_s _ | exact rf_n | exact rf_q _) ?_
  change WA _ _ _ _ (List.set _ 1 _) _ _ _
  simp only [List.set_cons_zero, List.set_cons_succ]
  refine wa_aloadV_n (pc := 5) (y := mJ29_nextNode) dJ29_nextNode_5 rfl (by first | exact rf_s _ | exact rf_n | exact rf_q _) ?_
  refine wf_get (k := 18) (l := 5) 4 dJ29_nextNode_6 (by assumption) rfl q1428 (Or.inl rfl) (Nat.le_of_ble_eq_true rfl) (Nat.le_of_ble_eq_true rfl) (by (repeat (first | exact updF_self _ _ _ _ | (apply updF_i; · decide) | (apply updF_a; · first | assumption | (apply Ne.symm; assumption) | omega) | (apply newF_a; · first | assumption | (apply Ne.symm; assumption) | omega) | exact newL_self (by rfl) | exact newF_self (by rfl) | (apply cpyF_a; · first | assumption | (apply Ne.symm; assumption) | omega))) <;> first | assumption | rfl) ?_
  refine wf_get (k := 12) (l := 12) 3 dJ29_nextNode_9 (by assumption) rfl q211 (Or.inr q212) (Nat.le_of_ble_eq_true rfl) (Nat.le_of_ble_eq_true rfl) (by (repeat (first | exact updF_self _ _ _ _ | (apply updF_i; · decide) | (apply updF_a; · first | assumption | (apply Ne.symm; assumption) | omega) | (apply newF_a; · first | assumption | (apply Ne.symm; assumption) | omega) | exact newL_self (by rfl) | exact newF_self (by rfl) | (apply cpyF_a; · first | assumption | (apply Ne.symm; assumption) | omega))) <;> first | assumption | rfl) ?_
  refine wa_aloadV_n (pc := 12) (y := mJ29_nextNode) dJ29_nextNode_12 rfl (by first | exact rf_s _ | exact rf_n | exact rf_q _) ?_
  refine wf_get (k := 18) (l := 5) 2 dJ29_nextNode_13 (by assumption) rfl q1426 (Or.inl rfl) (Nat.le_of_ble_eq_true rfl) (Nat.le_of_ble_eq_true rfl) (by (repeat (first | exact updF_self _ _ _ _ | (apply updF_i; · decide) | (apply updF_a; · first | assumption | (apply Ne.symm; assumption) | omega) | (apply newF_a; · first | assumption | (apply Ne.symm; assumption) | omega) | exact newL_self (by rfl) | exact newF_self (by rfl) | (apply cpyF_a; · first | assumption | (apply Ne.symm; assumption) | omega))) <;> first | assumption | rfl) ?_
  refine wa_icmp_eq (pc := 16) 27 dJ29_nextNode_16 rfl (fun hb16 => ?_) (fun hb16 => absurd rfl hb16)
  refine wa_aloadV_n (pc := 27) (y := mJ29_nextNode) dJ29_nextNode_27 rfl (by first | exact rf_s _ | exact rf_n | exact rf_q _) ?_
  refine wa_ifnonnull (pc := 28) (y := mJ29_nextNode) 39 dJ29_nextNode_28 rfl ?_
  refine wa_aloadV_n (pc := 39) (y := mJ29_nextNode) dJ29_nextNode_39 rfl (by first | exact rf_s _ | exact rf_n | exact rf_q _) ?_
  refine wa_aloadV_n (pc := 40) (y := mJ29_nextNode) dJ29_nextNode_40 rfl (by first | exact rf_s _ | exact rf_n | exact rf_q _) ?_
  refine wf_put (k := 18) (l := 5) 1 (.object "java/util/LinkedHashMap$Entry") dJ29_nextNode_41 (by assumption) rfl q1425 (Or.inl rfl) (Nat.le_of_ble_eq_true rfl) rfl (by decide +kernel) (by first | rfl | exact rf_nar _ | exact rf_nar2 _) (by first | rfl | exact rf_fit _ | exact rf_fit2 _) ?_
  refine wa_aloadV_n (pc := 44) (y := mJ29_nextNode) dJ29_nextNode_44 rfl (by first | exact rf_s _ | exact rf_n | exact rf_q _) ?_
  refine wa_aloadV_n (pc := 45) (y := mJ29_nextNode) dJ29_nextNode_45 rfl (by first | exact rf_s _ | exact rf_n | exact rf_q _) ?_
  refine wf_get (k := 18) (l := 5) 3 dJ29_nextNode_46 (by assumption) rfl q1427 (Or.inl rfl) (Nat.le_of_ble_eq_true rfl) (Nat.le_of_ble_eq_true rfl) (by (repeat (first | exact updF_self _ _ _ _ | (apply updF_i; · decide) | (apply updF_a; · first | assumption | (apply Ne.symm; assumption) | omega) | (apply newF_a; · first | assumption | (apply Ne.symm; assumption) | omega) | exact newL_self (by rfl) | exact newF_self (by rfl) | (apply cpyF_a; · first | assumption | (apply Ne.symm; assumption) | omega))) <;> first | assumption | rfl) ?_
  refine wa_if_eq (pc := 49) 59 dJ29_nextNode_49 rfl (fun hb49 => ?_) (fun hb49 => absurd rfl hb49)
  refine wa_aloadV_n (pc := 59) (y := mJ29_nextNode) dJ29_nextNode_59 rfl (by first | exact rf_s _ | exact rf_n | exact rf_q _) ?_
  refine wn_get 5 dJ29_nextNode_60 (by assumption) q1312 (Or.inl rfl) (Nat.le_of_ble_eq_true rfl) (by (repeat (first | exact updF_self _ _ _ _ | (apply updF_i; · decide) | (apply updF_a; · first | assumption | (apply Ne.symm; assumption) | omega) | (apply newF_a; · first | assumption | (apply Ne.symm; assumption) | omega) | exact newL_self (by rfl) | exact newF_self (by rfl) | (apply cpyF_a; · first | assumption | (apply Ne.symm; assumption) | omega))) <;> first | assumption | rfl) ?_
  refine wf_put (k := 18) (l := 5) 0 (.object "java/util/LinkedHashMap$Entry") dJ29_nextNode_63 (by assumption) rfl q1424 (Or.inl rfl) (Nat.le_of_ble_eq_true rfl) rfl (by decide +kernel) (by first | rfl | exact rf_nar _ | exact rf_nar2 _) (by first | rfl | exact rf_fit _ | exact rf_fit2 _) ?_
  refine wa_aloadV_n (pc := 66) (y := mJ29_nextNode) dJ29_nextNode_66 rfl (by first | exact rf_s _ | exact rf_n | exact rf_q _) ?_
  refine wa_areturnV (pc := 67) (y := mJ29_nextNode) (.object "java/util/LinkedHashMap$Entry") dJ29_nextNode_67 rfl (Or.inl ⟨_, rfl⟩) (by first | exact rf_s _ | exact rf_n | exact rf_q _) ⟨rfl, rfl⟩
theorem s_J29_init_20 (hd : 1 ≤ d) (hit : Is h it 20 5) (hm : Is h m 12 12) (h8 : F m 8 = va_rf o) (h3 : F m 3 = .int mc) : MA G d mJ29_init [.ref it, .ref m, .int 0] (sF h F) (fun r h' => r = .inl none ∧ h' = sF h (updF (updF (updF (updF (updF F it 4 (.ref m)) it 3 (.int 0)) it 0 (va_rf o)) it 2 (.int mc)) it 1 .null)) := by
  have hne : it ≠ m := hit.ne hm (by decide)
  change WA G d mJ29_init 0 [.ref it, .ref m, .int 0] [] _ _
  refine wa_aloadV_n (pc := 0) (y := mJ29_init) dJ29_init_0 rfl (by first | exact rf_s _ | exact rf_n | exact rf_q _) ?_
  refine wa_aloadV_n (pc := 1) (y := mJ29_init) dJ29_init_1 rfl (by first | exact rf_s _ | exact rf_n | exact rf_q _) ?_
  refine wf_putF (k := 20) (l := 5) 4 (.object "java/util/LinkedHashMap") dJ29_init_2 (by assumption) rfl q1428 (Or.inl rfl) (Nat.le_of_ble_eq_true rfl) rfl rfl rfl (by decide +kernel) (by first | rfl | exact rf_nar _ | exact rf_nar2 _) (by first | rfl | exact rf_fit _ | exact rf_fit2 _) ?_
  refine wa_aloadV_n (pc := 5) (y := mJ29_init) dJ29_init_5 rfl (by first | exact rf_s _ | exact rf_n | exact rf_q _) ?_
  refine wa_objInit (pc := 6) (y := mJ29_init) dJ29_init_6 q1423 q151 q152 (Nat.le_of_ble_eq_true rfl) (by omega) ?_
  refine wa_aloadV_n (pc := 9) (y := mJ29_init) dJ29_init_9 rfl (by first | exact rf_s _ | exact rf_n | exact rf_q _) ?_
  refine wa_iload_n (pc := 10) (y := mJ29_init) dJ29_init_10 rfl ?_
  refine wf_put (k := 20) (l := 5) 3 .boolean dJ29_init_11 (by assumption) rfl q1427 (Or.inl rfl) (Nat.le_of_ble_eq_true rfl) rfl (by decide +kernel) (by first | rfl | exact bI_nar _) (by first | rfl | exact bI_fit _) ?_
  refine wa_aloadV_n (pc := 14) (y := mJ29_init) dJ29_init_14 rfl (by first | exact rf_s _ | exact rf_n | exact rf_q _) ?_
  refine wa_iload_n (pc := 15) (y := mJ29_init) dJ29_init_15 rfl ?_
  refine wa_if_eq (pc := 16) 26 dJ29_init_16 rfl (fun hb16 => ?_) (fun hb16 => absurd rfl hb16)
  refine wa_aloadV_n (pc := 26) (y := mJ29_init) dJ29_init_26 rfl (by first | exact rf_s _ | exact rf_n | exact rf_q _) ?_
  refine wf_get (k := 12) (l := 12) 8 dJ29_init_27 (by assumption) rfl q202 (Or.inl rfl) (Nat.le_of_ble_eq_true rfl) (Nat.le_of_ble_eq_true rfl) (by (repeat (first | exact updF_self _ _ _ _ | (apply updF_i; · decide) | (apply updF_a; · first | assumption | (apply Ne.symm; assumption) | omega) | (apply newF_a; · first | assumption | (apply Ne.symm; assumption) | omega) | exact newL_self (by rfl) | exact newF_self (by rfl) | (apply cpyF_a; · first | assumption | (apply Ne.symm; assumption) | omega))) <;> first | assumption | rfl) ?_
  refine wf_put (k := 20) (l := 5) 0 (.object "java/util/LinkedHashMap$Entry") dJ29_init_30 (by assumption) rfl q1424 (Or.inl rfl) (Nat.le_of_ble_eq_true rfl) rfl (by decide +kernel) (by first | rfl | exact rf_nar _ | exact rf_nar2 _) (by first | rfl | exact rf_fit _ | exact rf_fit2 _) ?_
  refine wa_aloadV_n (pc := 33) (y := mJ29_init) dJ29_init_33 rfl (by first | exact rf_s _ | exact rf_n | exact rf_q _) ?_
  refine wa_aloadV_n (pc := 34) (y := mJ29_init) dJ29_init_34 rfl (by first | exact rf_s _ | exact rf_n | exact rf_q _) ?_
  refine wf_get (k := 12) (l := 12) 3 dJ29_init_35 (by assumption) rfl q211 (Or.inr q212) (Nat.le_of_ble_eq_true rfl) (Nat.le_of_ble_eq_true rfl) (by (repeat (first | exact updF_self _ _ _ _ | (apply updF_i; · decide) | (apply updF_a; · first | assumption | (apply Ne.symm; assumption) | omega) | (apply newF_a; · first | assumption | (apply Ne.symm; assumption) | omega) | exact newL_self (by rfl) | exact newF_self (by rfl) | (apply cpyF_a; · first | assumption | (apply Ne.symm; assumption) | omega))) <;> first | assumption | rfl) ?_
  refine wf_put (k := 20) (l := 5) 2 .int dJ29_init_38 (by assumption) rfl q1426 (Or.inl rfl) (Nat.le_of_ble_eq_true rfl) rfl (by decide +kernel) rfl rfl ?_
  refine wa_aloadV_n (pc := 41) (y := mJ29_init) dJ29_init_41 rfl (by first | exact rf_s _ | exact rf_n | exact rf_q _) ?_
  refine wa_null (pc := 42) (y := mJ29_init) dJ29_init_42 ?_
  refine wf_put (k := 20) (l := 5) 1 (.object "java/util/LinkedHashMap$Entry") dJ29_init_43 (by assumption) rfl q1425 (Or.inl rfl) (Nat.le_of_ble_eq_true rfl) rfl (by decide +kernel) (by first | rfl | exact rf_nar _ | exact rf_nar2 _) (by first | rfl | exact rf_fit _ | exact rf_fit2 _) ?_
  refine wa_return (pc := 46) (y := mJ29_init) dJ29_init_46 rfl ⟨rfl, rfl⟩
theorem s_J30_init (hd : 2 ≤ d) (hit : Is h it 20 5) (hm : Is h m 12 12) (h8 : F m 8 = va_rf o) (h3 : F m 3 = .int mc) : MA G d mJ30_init [.ref it, .ref m, .int 0] (sF h F) (fun r h' => r = .inl none ∧ h' = sF h (updF (updF (updF (updF (updF F it 4 (.ref m)) it 3 (.int 0)) it 0 (va_rf o)) it 2 (.int mc)) it 1 .null)) := by
  change WA G d mJ30_init 0 [.ref it, .ref m, .int 0] [] _ _
  refine wa_aloadV_n (pc := 0) (y := mJ30_init) dJ30_init_0 rfl (by first | exact rf_s _ | exact rf_n | exact rf_q _) ?_
  refine wa_aloadV_n (pc := 1) (y := mJ30_init) dJ30_init_1 rfl (by first | exact rf_s _ | exact rf_n | exact rf_q _) ?_
  refine wa_iload_n (pc := 2) (y := mJ30_init) dJ30_init_2 rfl ?_
  refine wa_callI (pc := 3) (s_J29_init_20 (d := d - 1) (by omega) hit hm h8 h3) dJ30_init_3 okJ29_init rfl rfl rfl q1420 q1421 rfl rfl (Nat.le_of_ble_eq_true rfl) (Nat.le_of_ble_eq_true rfl) (by omega) ?_
  rintro _ _ - - ⟨rfl, rfl⟩
  refine aft_0 (pc2 := 6) ?_ rfl
  refine wa_return (pc := 6) (y := mJ30_init) dJ30_init_6 rfl ⟨rfl, rfl⟩
theorem s_J28_iterator (hd : 3 ≤ d) (hv : Is h v 19 2) (v0 : F v 0 = .int 0) (v1 : F v 1 = .ref m) (M : MapR h F m ns) (h3 : F m 3 = .int mc) : MA G d mJ28_iterator [.ref v] (sF h F) (ItN 20 m h F ns mc) := by
  have m1 := M.1
  have h8 := M.2.2.2.2.2.2.1.1
  have hvl := hv.lt
  have hml := m1.lt
  have hv9 : v ≠ h.1 := by omega
  have hm9 : m ≠ h.1 := by omega
  change WA G d mJ28_iterator 0 [.ref v] [] _ _
  refine wf_new (k := 20) (l := 5) [.null, .null, .int 0, .int 0, .null] tyJ30 dJ28_iterator_0 rfl q1415 q1416 q125 tyJ30_ok rfl rfl ?_
  have hself : Is (hNew h 20 5) h.1 20 5 := Is.self
  have hv2 : Is (hNew h 20 5) v 19 2 := hv.new
  have hm2 : Is (hNew h 20 5) m 12 12 := m1.new
  refine wa_dup (pc := 3) (y := mJ28_iterator) dJ28_iterator_3 (by first | rfl | exact rf_cat _) ?_
  refine wa_aloadV_n (pc := 4) (y := mJ28_iterator) dJ28_iterator_4 rfl (by first | exact rf_s _ | exact rf_n | exact rf_q _) ?_
  refine wf_get (k := 19) (l := 2) 1 dJ28_iterator_5 (by assumption) rfl q1398 (Or.inl rfl) (Nat.le_of_ble_eq_true rfl) (Nat.le_of_ble_eq_true rfl) (by (repeat (first | exact updF_self _ _ _ _ | (apply updF_i; · decide) | (apply updF_a; · first | assumption | (apply Ne.symm; assumption) | omega) | (apply newF_a; · first | assumption | (apply Ne.symm; assumption) | omega) | exact newL_self (by rfl) | exact newF_self (by rfl) | (apply cpyF_a; · first | assumption | (apply Ne.symm; assumption) | omega))) <;> first | assumption | rfl) ?_
  refine wa_aloadV_n (pc := 8) (y := mJ28_iterator) dJ28_iterator_8 rfl (by first | exact rf_s _ | exact rf_n | exact rf_q _) ?_
  refine wf_get (k := 19) (l := 2) 0 dJ28_iterator_9 (by assumption) rfl q1397 (Or.inl rfl) (Nat.le_of_ble_eq_true rfl) (Nat.le_of_ble_eq_true rfl) (by (repeat (first | exact updF_self _ _ _ _ | (apply updF_i; · decide) | (apply updF_a; · first | assumption | (apply Ne.symm; assumption) | omega) | (apply newF_a; · first | assumption | (apply Ne.symm; assumption) | omega) | exact newL_self (by rfl) | exact newF_self (by rfl) | (apply cpyF_a; · first | assumption | (apply Ne.symm; assumption) | omega))) <;> first | assumption | rfl) ?_
  refine wa_callI (pc := 12) (s_J30_init (d := d - 1) (by omega) hself hm2 (newF_a hm9 h8) (newF_a hm9 h3)) dJ28_iterator_12 okJ30_init rfl rfl rfl q1417 q1418 rfl rfl (Nat.le_of_ble_eq_true rfl) (Nat.le_of_ble_eq_true rfl) (by omega) ?_
  rintro _ _ - - ⟨rfl, rfl⟩
  refine aft_0 (pc2 := 15) ?_ rfl
  refine wa_areturnV (pc := 15) (y := mJ28_iterator) (.object "java/util/Iterator") dJ28_iterator_15 rfl (Or.inl ⟨_, rfl⟩) (by first | exact rf_s _ | exact rf_n | exact rf_q _) ⟨_, rfl, rfl, ⟨hself, (updF_i (by decide) (updF_i (by decide) (updF_self _ _ _ _))), updF_self _ _ _ _, (updF_i (by decide) (updF_self _ _ _ _)), (updF_i (by decide) (updF_i (by decide) (updF_i (by decide) (updF_self _ _ _ _)))), (updF_i (by decide) (updF_i (by decide) (updF_i (by decide) (updF_i (by decide) (updF_self _ _ _ _)))))⟩, fun b hb => by funext j; exact updF_a (by omega) (updF_a (by omega) (updF_a (by omega) (updF_a (by omega) (updF_a (by omega) (newF_a (by omega) rfl)))))⟩
theorem s_J29_hasNext_20 (I : ItR h F it 20 m o cur mc) : MA G d mJ29_hasNext [.ref it] (sF h F) (fun r h' => r = .inl (some (.int (bI o.isSome))) ∧ h' = sF h F) := by
  obtain ⟨i1, i2, i3, i4, i5, i6⟩ := I
  change WA G d mJ29_hasNext 0 [.ref it] [] _ _
  refine wa_aloadV_n (pc := 0) (y := mJ29_hasNext) dJ29_hasNext_0 rfl (by first | exact rf_s _ | exact rf_n | exact rf_q _) ?_
  refine wf_get (k := 20) (l := 5) 0 dJ29_hasNext_1 (by assumption) rfl q1424 (Or.inl rfl) (Nat.le_of_ble_eq_true rfl) (Nat.le_of_ble_eq_true rfl) (by (repeat (first | exact updF_self _ _ _ _ | (apply updF_i; · decide) | (apply updF_a; · first | assumption | (apply Ne.symm; assumption) | omega) | (apply newF_a; · first | assumption | (apply Ne.symm; assumption) | omega) | exact newL_self (by rfl) | exact newF_self (by rfl) | (apply cpyF_a; · first | assumption | (apply Ne.symm; assumption) | omega))) <;> first | assumption | rfl) ?_
  refine wa_ifnullV (pc := 4) 11 dJ29_hasNext_4 rfl (by first | exact rf_s _ | exact rf_n | exact rf_q _) (fun hb4 => ?_) (fun a4 hb4 => ?_)
  · refine wa_iconst (pc := 11) (y := mJ29_hasNext) (Int32.ofNat 0) dJ29_hasNext_11 rfl ?_
    refine wa_ireturn (pc := 12) (y := mJ29_hasNext) .boolean dJ29_hasNext_12 rfl (by first | rfl | exact bI_nar _) (by first | (rw [hb4]; exact ⟨rfl, rfl⟩) | (refine ⟨?_, rfl⟩; rw [hb4]; rfl))
  · refine wa_iconst (pc := 7) (y := mJ29_hasNext) (Int32.ofNat 1) dJ29_hasNext_7 rfl ?_
    refine wa_goto (pc := 8) (y := mJ29_hasNext) 12 dJ29_hasNext_8 rfl ?_
    refine wa_ireturn (pc := 12) (y := mJ29_hasNext) .boolean dJ29_hasNext_12 rfl (by first | rfl | exact bI_nar _) (by first | (rw [hb4]; exact ⟨rfl, rfl⟩) | (refine ⟨?_, rfl⟩; rw [hb4]; rfl))
theorem s_J29_nextNode_20 (I : ItR h F it 20 m (some p) cur mc) (M : MapR h F m (a ++ p :: b)) (h3 : F m 3 = .int mc) : MA G d mJ29_nextNode [.ref it] (sF h F) (fun r h' => r = .inl (some (.ref p)) ∧ h' = sF h (updF (updF F it 1 (.ref p)) it 0 (va_rf b.head?))) := by
  obtain ⟨i1, i2, i3, i4, i5, i6⟩ := I
  have m1 := M.1
  have pN := (M.2.2.2.2.2.2.2.2.1 p (by simp)).1
  have p5 := M.2.2.2.2.2.2.1.2.2.fwd
  have hpi : p ≠ it := pN.ne i1 (by decide) (by decide)
  have hmi : m ≠ it := m1.ne i1 (by decide)
  change WA G d mJ29_nextNode 0 [.ref it, .retAddr 0] [] _ _
  refine wa_aloadV_n (pc := 0) (y := mJ29_nextNode) dJ29_nextNode_0 rfl (by first | exact rf_s _ | exact rf_n | exact rf_q _) ?_
  refine wf_get (k := 20) (l := 5) 0 dJ29_nextNode_1 (by assumption) rfl q1424 (Or.inl rfl) (Nat.le_of_ble_eq_true rfl) (Nat.le_of_ble_eq_true rfl) (by (repeat (first | exact updF_self _ _ _ _ | (apply updF_i; · decide) | (apply updF_a; · first | assumption | (apply Ne.symm; assumption) | omega) | (apply newF_a; · first | assumption | (apply Ne.symm; assumption) | omega) | exact newL_self (by rfl) | exact newF_self (by rfl) | (apply cpyF_a; · first | assumption | (apply Ne.symm; assumption) | omega))) <;> first | assumption | rfl) ?_
  refine wa_astoreV_n (pc := 4) (y := mJ29_nextNode) dJ29_nextNode_4 (Nat.le_of_ble_eq_true rfl) (by first | rfl | (simp [okst, rf_cat] <;> assumption)) (by first | exact rf_s _ | exact rf_n | exact rf_q _) ?_
  change WA _ _ _ _ (List.set _ 1 _) _ _ _
  simp only [List.set_cons_zero, List.set_cons_succ]
  refine wa_aloadV_n (pc := 5) (y := mJ29_nextNode) dJ29_nextNode_5 rfl (by first | exact rf_s _ | exact rf_n | exact rf_q _) ?_
  refine wf_get (k := 20) (l := 5) 4 dJ29_nextNode_6 (by assumption) rfl q1428 (Or.inl rfl) (Nat.le_of_ble_eq_true rfl) (Nat.le_of_ble_eq_true rfl) (by (repeat (first | exact updF_self _ _ _ _ | (apply updF_i; · decide) | (apply updF_a; · first | assumption | (apply Ne.symm; assumption) | omega) | (apply newF_a; · first | assumption | (apply Ne.symm; assumption) | omega) | exact newL_self (by rfl) | exact newF_self (by rfl) | (apply cpyF_a; · first | assumption | (apply Ne.symm; assumption) | omega))) <;> first | assumption | rfl) ?_
  refine wf_get (k := 12) (l := 12) 3 dJ29_nextNode_9 (by assumption) rfl q211 (Or.inr q212) (Nat.le_of_ble_eq_true rfl) (Nat.le_of_ble_eq_true rfl) (by (repeat (first | exact updF_self _ _ _ _ | (apply updF_i; · decide) | (apply updF_a; · first | assumption | (apply Ne.symm; assumption) | omega) | (apply newF_a; · first | assumption | (apply Ne.symm; assumption) | omega) | exact newL_self (by rfl) | exact newF_self (by rfl) | (apply cpyF_a; · first | assumption | (apply Ne.symm; assumption) | omega))) <;> first | assumption | rfl) ?_
  refine wa_aloadV_n (pc := 12) (y := mJ29_nextNode) dJ29_nextNode_12 rfl (by first | exact rf_s _ | exact rf_n | exact rf_q _) ?_
  refine wf_get (k := 20) (l := 5) 2 dJ29_nextNode_13 (by assumption) rfl q1426 (Or.inl rfl) (Nat.le_of_ble_eq_true rfl) (Nat.le_of_ble_eq_true rfl) (by (repeat (first | exact updF_self _ _ _ _ | (apply updF_i; · decide) | (apply updF_a; · first | assumption | (apply Ne.symm; assumption) | omega) | (apply newF_a; · first | assumption | (apply Ne.symm; assumption) | omega) | exact newL_self (by rfl) | exact newF_self (by rfl) | (apply cpyF_a; · first | assumption | (apply Ne.symm; assumption) | omega))) <;> first | assumption | rfl) ?_
  refine wa_icmp_eq (pc := 16) 27 dJ29_nextNode_16 rfl (fun hb16 => ?_) (fun hb16 => absurd rfl hb16)
  refine wa_aloadV_n (pc := 27) (y := mJ29_nextNode) dJ29_nextNode_27 rfl (by first | exact rf_s _ | exact rf_n | exact rf_q _) ?_
  refine wa_ifnonnull (pc := 28) (y := mJ29_nextNode) 39 dJ29_nextNode_28 rfl ?_
  refine wa_aloadV_n (pc := 39) (y := mJ29_nextNode) dJ29_nextNode_39 rfl (by first | exact rf_s _ | exact rf_n | exact rf_q _) ?_
  refine wa_aloadV_n (pc := 40) (y := mJ29_nextNode) dJ29_nextNode_40 rfl (by first | exact rf_s _ | exact rf_n | exact rf_q _) ?_
  refine wf_put (k := 20) (l := 5) 1 (.object "java/util/LinkedHashMap$Entry") dJ29_nextNode_41 (by assumption) rfl q1425 (Or.inl rfl) (Nat.le_of_ble_eq_true rfl) rfl (by decide +kernel) (by first | rfl | exact rf_nar _ | exact rf_nar2 _) (by first | rfl | exact rf_fit _ | exact rf_fit2 _) ?_
  refine wa_aloadV_n (pc := 44) (y := mJ29_nextNode) dJ29_nextNode_44 rfl (by first | exact rf_s _ | exact rf_n | exact rf_q _) ?_
  refine wa_aloadV_n (pc := 45) (y := mJ29_nextNode) dJ29_nextNode_45 rfl (by first | exact rf_s _ | exact rf_n | exact rf_q _) ?_
  refine wf_get (k := 20) (l := 5) 3 dJ29_nextNode_46 (by assumption) rfl q1427 (Or.inl rfl) (Nat.le_of_ble_eq_true rfl) (Nat.le_of_ble_eq_true rfl) (by (repeat (first | exact updF_self _ _ _ _ | (apply updF_i; · decide) | (apply updF_a; · first | assumption | (apply Ne.symm; assumption) | omega) | (apply newF_a; · first | assumption | (apply Ne.symm; assumption) | omega) | exact newL_self (by rfl) | exact newF_self (by rfl) | (apply cpyF_a; · first | assumption | (apply Ne.symm; assumption) | omega))) <;> first | assumption | rfl) ?_
  refine wa_if_eq (pc := 49) 59 dJ29_nextNode_49 rfl (fun hb49 => ?_) (fun hb49 => absurd rfl hb49)
  refine wa_aloadV_n (pc := 59) (y := mJ29_nextNode) dJ29_nextNode_59 rfl (by first | exact rf_s _ | exact rf_n | exact rf_q _) ?_
  refine wn_get 5 dJ29_nextNode_60 (by assumption) q1312 (Or.inl rfl) (Nat.le_of_ble_eq_true rfl) (by (repeat (first | exact updF_self _ _ _ _ | (apply updF_i; · decide) | (apply updF_a; · first | assumption | (apply Ne.symm; assumption) | omega) | (apply newF_a; · first | assumption | (apply Ne.symm; assumption) | omega) | exact newL_self (by rfl) | exact newF_self (by rfl) | (apply cpyF_a; · first | assumption | (apply Ne.symm; assumption) | omega))) <;> first | assumption | rfl) ?_
  refine wf_put (k := 20) (l := 5) 0 (.object "java/util/LinkedHashMap$Entry") dJ29_nextNode_63 (by assumption) rfl q1424 (Or.inl rfl) (Nat.le_of_ble_eq_true rfl) rfl (by decide +kernel) (by first | rfl | exact rf_nar _ | exact rf_nar2 _) (by first | rfl | exact rf_fit _ | exact rf_fit2 _) ?_
  refine wa_aloadV_n (pc := 66) (y := mJ29_nextNode) dJ29_nextNode_66 rfl (by first | exact rf_s _ | exact rf_n | exact rf_q _) ?_
  refine wa_areturnV (pc := 67) (y := mJ29_nextNode) (.object "java/util/LinkedHashMap$Entry") dJ29_nextNode_67 rfl (Or.inl ⟨_, rfl⟩) (by first | exact rf_s _ | exact rf_n | exact rf_q _) ⟨rfl, rfl⟩
theorem ItR.step (I : ItR h F it kk m (some p) cur mc) : ItR h (updF (updF F it 1 (.ref p)) it 0 (va_rf o)) it kk m o (some p) mc := by
  obtain ⟨i1, i2, i3, i4, i5, i6⟩ := I
  exact ⟨i1, updF_self _ _ _ _, (updF_i (by decide) rfl).trans (updF_self _ _ _ _), (updF_i (by decide) rfl).trans ((updF_i (by decide) rfl).trans i4), (updF_i (by decide) rfl).trans ((updF_i (by decide) rfl).trans i5), (updF_i (by decide) rfl).trans ((updF_i (by decide) rfl).trans i6)⟩
theorem s_J24_getKey (hp : Nd h p) (e : F p 1 = .ref q) : MA G d mJ24_getKey [.ref p] (sF h F) (fun r h' => r = .inl (some (.ref q)) ∧ h' = sF h F) := by
  change WA G d mJ24_getKey 0 [.ref p] [] _ _
  refine wa_aloadV_n (pc := 0) (y := mJ24_getKey) dJ24_getKey_0 rfl (by first | exact rf_s _ | exact rf_n | exact rf_q _) ?_
  refine wn_get 1 dJ24_getKey_1 (by assumption) q1320 (Or.inl rfl) (Nat.le_of_ble_eq_true rfl) (by (repeat (first | exact updF_self _ _ _ _ | (apply updF_i; · decide) | (apply updF_a; · first | assumption | (apply Ne.symm; assumption) | omega) | (apply newF_a; · first | assumption | (apply Ne.symm; assumption) | omega) | exact newL_self (by rfl) | exact newF_self (by rfl) | (apply cpyF_a; · first | assumption | (apply Ne.symm; assumption) | omega))) <;> first | assumption | rfl) ?_
  refine wa_areturnV (pc := 4) (y := mJ24_getKey) (.object "java/lang/Object") dJ24_getKey_4 rfl (Or.inl ⟨_, rfl⟩) (by first | exact rf_s _ | exact rf_n | exact rf_q _) ⟨rfl, rfl⟩
theorem s_J24_getValue (hp : Nd h p) (e : F p 2 = .ref q) : MA G d mJ24_getValue [.ref p] (sF h F) (fun r h' => r = .inl (some (.ref q)) ∧ h' = sF h F) := by
  change WA G d mJ24_getValue 0 [.ref p] [] _ _
  refine wa_aloadV_n (pc := 0) (y := mJ24_getValue) dJ24_getValue_0 rfl (by first | exact rf_s _ | exact rf_n | exact rf_q _) ?_
  refine wn_get 2 dJ24_getValue_1 (by assumption) q1327 (Or.inl rfl) (Nat.le_of_ble_eq_true rfl) (by (repeat (first | exact updF_self _ _ _ _ | (apply updF_i; · decide) | (apply updF_a; · first | assumption | (apply Ne.symm; assumption) | omega) | (apply newF_a; · first | assumption | (apply Ne.symm; assumption) | omega) | exact newL_self (by rfl) | exact newF_self (by rfl) | (apply cpyF_a; · first | assumption | (apply Ne.symm; assumption) | omega))) <;> first | assumption | rfl) ?_
  refine wa_areturnV (pc := 4) (y := mJ24_getValue) (.object "java/lang/Object") dJ24_getValue_4 rfl (Or.inl ⟨_, rfl⟩) (by first | exact rf_s _ | exact rf_n | exact rf_q _) ⟨rfl, rfl⟩
end ITR
