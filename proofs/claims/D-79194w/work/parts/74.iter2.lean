/-! ===== iterators: next, remove ===== -/
section ITR2
variable {G : GG} {d n : Nat} {h h2 : AH} {F F2 F3 : Nat → Nat → Value} {l m p q x k kk tb c s i v it : Nat} {ns a b : List Nat} {P : Nat → Prop} {o cur : Option Nat} {mc : Int32}
/-- the iterator has gone one node on -/
noncomputable def itF (F : Nat → Nat → Value) (it p : Nat) (b : List Nat) : Nat → Nat → Value := updF (updF F it 1 (.ref p)) it 0 (va_rf b.head?)
theorem itF_fr : Fr (· = it) h F h (itF F it p b) := ⟨Ext.refl, fun b _ hb => by funext j; exact updF_a hb (updF_a hb rfl)⟩
theorem s_J31_next (hd : 1 ≤ d) (I : ItR h F it 16 m (some p) cur mc) (M : MapR h F m (a ++ p :: b)) (h3 : F m 3 = .int mc) : MA G d mJ31_next [.ref it] (sF h F) (fun r h' => ∃ q, F p 1 = .ref q ∧ KeyAt h F q (kF F p) ∧ r = .inl (some (.ref q)) ∧ h' = sF h (itF F it p b)) := by
  obtain ⟨pN, ⟨-, q, e1, eK⟩, -⟩ := M.2.2.2.2.2.2.2.2.1 p (by simp)
  have i1 := I.1
  have hpi : p ≠ it := pN.ne i1 (by decide) (by decide)
  have e2 : itF F it p b p 1 = .ref q := (updF_a hpi rfl).trans ((updF_a hpi rfl).trans e1)
  have pN9 := pN
  change WA G d mJ31_next 0 [.ref it] [] _ _
  rcases pN with pI | pI
  · refine wa_aloadV_n (pc := 0) (y := mJ31_next) dJ31_next_0 rfl (by first | exact rf_s _ | exact rf_n | exact rf_q _) ?_
    refine wa_callW (k := 16) (pc := 1) (owner := "java/util/LinkedHashMap$LinkedHashIterator") (s_J29_nextNode_16 (d := d - 1) I M h3) dJ31_next_1 okJ29_nextNode rfl q1536 q1537 (hDc_code q1527 q1528) (by decide) q1538 q1527 (sF_at (by assumption)) rfl rfl rfl rfl (Nat.le_of_ble_eq_true rfl) (Nat.le_of_ble_eq_true rfl) (by omega) ?_
    rintro _ _ - - ⟨rfl, rfl⟩
    refine aft_v (pc2 := 4) ?_ rfl
    refine wa_callW (k := 13) (pc := 4) (owner := "java/util/HashMap$Node") (s_J24_getKey (d := d - 1) pN9 e2) dJ31_next_4 okJ24_getKey rfl q1539 q1540 (hDc_code q1544 q1545) (by decide) q1543 q1544 (sF_at (by assumption)) rfl rfl rfl rfl (Nat.le_of_ble_eq_true rfl) (Nat.le_of_ble_eq_true rfl) (by omega) ?_
    rintro _ _ - - ⟨rfl, rfl⟩
    refine aft_v (pc2 := 7) ?_ rfl
    refine wa_areturnV (pc := 7) (y := mJ31_next) (.object "java/lang/Object") dJ31_next_7 rfl (Or.inl ⟨_, rfl⟩) (by first | exact rf_s _ | exact rf_n | exact rf_q _) ⟨q, e1, eK, rfl, rfl⟩
  · refine wa_aloadV_n (pc := 0) (y := mJ31_next) dJ31_next_0 rfl (by first | exact rf_s _ | exact rf_n | exact rf_q _) ?_
    refine wa_callW (k := 16) (pc := 1) (owner := "java/util/LinkedHashMap$LinkedHashIterator") (s_J29_nextNode_16 (d := d - 1) I M h3) dJ31_next_1 okJ29_nextNode rfl q1536 q1537 (hDc_code q1527 q1528) (by decide) q1538 q1527 (sF_at (by assumption)) rfl rfl rfl rfl (Nat.le_of_ble_eq_true rfl) (Nat.le_of_ble_eq_true rfl) (by omega) ?_
    rintro _ _ - - ⟨rfl, rfl⟩
    refine aft_v (pc2 := 4) ?_ rfl
    refine wa_callW (k := 14) (pc := 4) (owner := "java/util/HashMap$Node") (s_J24_getKey (d := d - 1) pN9 e2) dJ31_next_4 okJ24_getKey rfl q1539 q1540 (hDc_code q1544 q1545) (by decide) q1542 q1544 (sF_at (by assumption)) rfl rfl rfl rfl (Nat.le_of_ble_eq_true rfl) (Nat.le_of_ble_eq_true rfl) (by omega) ?_
    rintro _ _ - - ⟨rfl, rfl⟩
    refine aft_v (pc2 := 7) ?_ rfl
    refine wa_areturnV (pc := 7) (y := mJ31_next) (.object "java/lang/Object") dJ31_next_7 rfl (Or.inl ⟨_, rfl⟩) (by first | exact rf_s _ | exact rf_n | exact rf_q _) ⟨q, e1, eK, rfl, rfl⟩
theorem s_J41_next (hd : 1 ≤ d) (I : ItR h F it 18 m (some p) cur mc) (M : MapR h F m (a ++ p :: b)) (h3 : F m 3 = .int mc) : MA G d mJ41_next [.ref it] (sF h F) (fun r h' => r = .inl (some (.ref (vF F p))) ∧ h' = sF h (itF F it p b)) := by
  obtain ⟨pN, -, pv⟩ := M.2.2.2.2.2.2.2.2.1 p (by simp)
  have i1 := I.1
  have hpi : p ≠ it := pN.ne i1 (by decide) (by decide)
  have e2 : itF F it p b p 2 = .ref (vF F p) := (updF_a hpi rfl).trans ((updF_a hpi rfl).trans pv)
  change WA G d mJ41_next 0 [.ref it] [] _ _
  refine wa_aloadV_n (pc := 0) (y := mJ41_next) dJ41_next_0 rfl (by first | exact rf_s _ | exact rf_n | exact rf_q _) ?_
  refine wa_callW (k := 18) (pc := 1) (owner := "java/util/LinkedHashMap$LinkedHashIterator") (s_J29_nextNode_18 (d := d - 1) I M h3) dJ41_next_1 okJ29_nextNode rfl q1551 q1552 (hDc_code q1527 q1528) (by decide) q1553 q1527 (sF_at (by assumption)) rfl rfl rfl rfl (Nat.le_of_ble_eq_true rfl) (Nat.le_of_ble_eq_true rfl) (by omega) ?_
  rintro _ _ - - ⟨rfl, rfl⟩
  refine aft_v (pc2 := 4) ?_ rfl
  refine wn_get 2 dJ41_next_4 (by assumption) q1328 (Or.inr q1329) (Nat.le_of_ble_eq_true rfl) (by (repeat (first | exact updF_self _ _ _ _ | (apply updF_i; · decide) | (apply updF_a; · first | assumption | (apply Ne.symm; assumption) | omega) | (apply newF_a; · first | assumption | (apply Ne.symm; assumption) | omega) | exact newL_self (by rfl) | exact newF_self (by rfl) | (apply cpyF_a; · first | assumption | (apply Ne.symm; assumption) | omega))) <;> first | assumption | rfl) ?_
  refine wa_areturnV (pc := 7) (y := mJ41_next) (.object "java/lang/Object") dJ41_next_7 rfl (Or.inl ⟨_, rfl⟩) (by first | exact rf_s _ | exact rf_n | exact rf_q _) ⟨rfl, rfl⟩
theorem s_J30_next_2 (hd : 1 ≤ d) (I : ItR h F it 20 m (some p) cur mc) (M : MapR h F m (a ++ p :: b)) (h3 : F m 3 = .int mc) : MA G d mJ30_next_2 [.ref it] (sF h F) (fun r h' => r = .inl (some (.ref p)) ∧ h' = sF h (itF F it p b)) := by
  have i1 := I.1
  change WA G d mJ30_next_2 0 [.ref it] [] _ _
  refine wa_aloadV_n (pc := 0) (y := mJ30_next_2) dJ30_next_2_0 rfl (by first | exact rf_s _ | exact rf_n | exact rf_q _) ?_
  refine wa_callW (k := 20) (pc := 1) (owner := "java/util/LinkedHashMap$LinkedHashIterator") (s_J29_nextNode_20 (d := d - 1) I M h3) dJ30_next_2_1 okJ29_nextNode rfl q1523 q1524 (hDc_code q1527 q1528) (by decide) q1526 q1527 (sF_at (by assumption)) rfl rfl rfl rfl (Nat.le_of_ble_eq_true rfl) (Nat.le_of_ble_eq_true rfl) (by omega) ?_
  rintro _ _ - - ⟨rfl, rfl⟩
  refine aft_v (pc2 := 4) ?_ rfl
  refine wa_areturnV (pc := 4) (y := mJ30_next_2) (.object "java/util/Map$Entry") dJ30_next_2_4 rfl (Or.inl ⟨_, rfl⟩) (by first | exact rf_s _ | exact rf_n | exact rf_q _) ⟨rfl, rfl⟩
theorem s_J30_next (hd : 2 ≤ d) (I : ItR h F it 20 m (some p) cur mc) (M : MapR h F m (a ++ p :: b)) (h3 : F m 3 = .int mc) : MA G d mJ30_next [.ref it] (sF h F) (fun r h' => r = .inl (some (.ref p)) ∧ h' = sF h (itF F it p b)) := by
  have i1 := I.1
  change WA G d mJ30_next 0 [.ref it] [] _ _
  refine wa_aloadV_n (pc := 0) (y := mJ30_next) dJ30_next_0 rfl (by first | exact rf_s _ | exact rf_n | exact rf_q _) ?_
  refine wa_callV (pc := 1) (s_J30_next_2 (d := d - 1) (by omega) I M h3) dJ30_next_1 okJ30_next_2 q1519 q1520 q1521 (sF_at (by assumption)) rfl rfl rfl (Nat.le_of_ble_eq_true rfl) (Nat.le_of_ble_eq_true rfl) (by omega) ?_
  rintro _ _ - - ⟨rfl, rfl⟩
  refine aft_v (pc2 := 4) ?_ rfl
  refine wa_areturnV (pc := 4) (y := mJ30_next) (.object "java/lang/Object") dJ30_next_4 rfl (Or.inl ⟨_, rfl⟩) (by first | exact rf_s _ | exact rf_n | exact rf_q _) ⟨rfl, rfl⟩
theorem s_J29_remove (hd : 9 ≤ d) (hG : StG G) (I : ItR h F it 16 m o (some p) mc) (M : MapR h F m (a ++ p :: b)) (t : TK h F m k) (h3 : F m 3 = .int mc) (hl9 : (a ++ p :: b).length ≤ 96) : MA G d mJ29_remove [.ref it] (sF h F) (fun r h' => r = .inl none ∧ ∃ F2 mc2, h' = sF h F2 ∧ MapR h F2 m (a ++ b) ∧ TK h F2 m k ∧ F2 m 3 = .int mc2 ∧ ItR h F2 it 16 m o none mc2 ∧ es F2 (a ++ b) = es F a ++ es F b ∧ Fr (fun z => z = it ∨ MFp F m (a ++ p :: b) z) h F h F2 ∧ ∀ z, MFp F2 m (a ++ b) z → MFp F m (a ++ p :: b) z) := by
  have I9 := I
  obtain ⟨i1, i2, i3, i4, i5, i6⟩ := I
  have m1 := M.1
  obtain ⟨pN, ⟨p0, q, e1, eK⟩, -⟩ := M.2.2.2.2.2.2.2.2.1 p (by simp)
  have hpi : p ≠ it := pN.ne i1 (by decide) (by decide)
  have hmi : m ≠ it := m1.ne i1 (by decide)
  have hno := MFp.no M i1 (by decide)
  obtain ⟨F1, hF1⟩ : ∃ F1, F1 = updF F it 1 .null := ⟨_, rfl⟩
  have f1 : Fr (· = it) h F h F1 := by rw [hF1]; exact Fr.upd rfl
  obtain ⟨M1, es1, t1, mf1, gm1⟩ := M.fr f1 (fun b hb e => hno (e ▸ hb)) (fun q hq e => hq.ne i1 (by decide) e)
  have K1 := eK.fr f1 (fun e => eK.1.ne i1 (by decide) e)
  have hd9 := M.2.2.2.2.2.2.2.2.2.1
  have mn := M.2.2.2.2.2.2.2.1
  have gz : ∀ z j, z ≠ it → F1 z j = F z j := fun z j hz => by rw [hF1]; exact updF_a hz rfl
  have hi1 : ∀ z, z ∈ a ++ p :: b → z ≠ it := fun z hz => (M.2.2.2.2.2.2.2.2.1 z hz).1.ne i1 (by decide) (by decide)
  have kk1 : ∀ z, z ∈ a ++ p :: b → kF F1 z = kF F z := fun z hz => kF_congr (gz z 0 (hi1 z hz))
  have e14 : F1 it 4 = .ref m := by rw [hF1]; exact updF_i (by decide) i6
  have e10 : F1 p 0 = .int (Int32.ofNat (kF F p)) := (gz p 0 hpi).trans p0
  have e11 : F1 p 1 = .ref q := (gz p 1 hpi).trans e1
  change WA G d mJ29_remove 0 [.ref it, .retAddr 0] [] _ _
  refine wa_aloadV_n (pc := 0) (y := mJ29_remove) dJ29_remove_0 rfl (by first | exact rf_s _ | exact rf_n | exact rf_q _) ?_
  refine wf_get (k := 16) (l := 5) 1 dJ29_remove_1 (by assumption) rfl q1425 (Or.inl rfl) (Nat.le_of_ble_eq_true rfl) (Nat.le_of_ble_eq_true rfl) (by (repeat (first | exact updF_self _ _ _ _ | (apply updF_i; · decide) | (apply updF_a; · first | assumption | (apply Ne.symm; assumption) | omega) | (apply newF_a; · first | assumption | (apply Ne.symm; assumption) | omega) | exact newL_self (by rfl) | exact newF_self (by rfl) | (apply cpyF_a; · first | assumption | (apply Ne.symm; assumption) | omega))) <;> first | assumption | rfl) ?_
  refine wa_astoreV_n (pc := 4) (y := mJ29_remove) dJ29_remove_4 (Nat.le_of_ble_eq_true rfl) (by first | rfl | (simp [okst, rf_cat] <;> assumption)) (by first | exact rf_s _ | exact rf_n | exact rf_q _) ?_
  change WA _ _ _ _ (List.set _ 1 _) _ _ _
  simp only [List.set_cons_zero, List.set_cons_succ]
  refine wa_aloadV_n (pc := 5) (y := mJ29_remove) dJ29_remove_5 rfl (by first | exact rf_s _ | exact rf_n | exact rf_q _) ?_
  refine wa_ifnonnull (pc := 6) (y := mJ29_remove) 17 dJ29_remove_6 rfl ?_
  refine wa_aloadV_n (pc := 17) (y := mJ29_remove) dJ29_remove_17 rfl (by first | exact rf_s _ | exact rf_n | exact rf_q _) ?_
  refine wf_get (k := 16) (l := 5) 4 dJ29_remove_18 (by assumption) rfl q1428 (Or.inl rfl) (Nat.le_of_ble_eq_true rfl) (Nat.le_of_ble_eq_true rfl) (by (repeat (first | exact updF_self _ _ _ _ | (apply updF_i; · decide) | (apply updF_a; · first | assumption | (apply Ne.symm; assumption) | omega) | (apply newF_a; · first | assumption | (apply Ne.symm; assumption) | omega) | exact newL_self (by rfl) | exact newF_self (by rfl) | (apply cpyF_a; · first | assumption | (apply Ne.symm; assumption) | omega))) <;> first | assumption | rfl) ?_
  refine wf_get (k := 12) (l := 12) 3 dJ29_remove_21 (by assumption) rfl q211 (Or.inr q212) (Nat.le_of_ble_eq_true rfl) (Nat.le_of_ble_eq_true rfl) (by (repeat (first | exact updF_self _ _ _ _ | (apply updF_i; · decide) | (apply updF_a; · first | assumption | (apply Ne.symm; assumption) | omega) | (apply newF_a; · first | assumption | (apply Ne.symm; assumption) | omega) | exact newL_self (by rfl) | exact newF_self (by rfl) | (apply cpyF_a; · first | assumption | (apply Ne.symm; assumption) | omega))) <;> first | assumption | rfl) ?_
  refine wa_aloadV_n (pc := 24) (y := mJ29_remove) dJ29_remove_24 rfl (by first | exact rf_s _ | exact rf_n | exact rf_q _) ?_
  refine wf_get (k := 16) (l := 5) 2 dJ29_remove_25 (by assumption) rfl q1426 (Or.inl rfl) (Nat.le_of_ble_eq_true rfl) (Nat.le_of_ble_eq_true rfl) (by (repeat (first | exact updF_self _ _ _ _ | (apply updF_i; · decide) | (apply updF_a; · first | assumption | (apply Ne.symm; assumption) | omega) | (apply newF_a; · first | assumption | (apply Ne.symm; assumption) | omega) | exact newL_self (by rfl) | exact newF_self (by rfl) | (apply cpyF_a; · first | assumption | (apply Ne.symm; assumption) | omega))) <;> first | assumption | rfl) ?_
  refine wa_icmp_eq (pc := 28) 39 dJ29_remove_28 rfl (fun hb28 => ?_) (fun hb28 => absurd rfl hb28)
  refine wa_aloadV_n (pc := 39) (y := mJ29_remove) dJ29_remove_39 rfl (by first | exact rf_s _ | exact rf_n | exact rf_q _) ?_
  refine wa_null (pc := 40) (y := mJ29_remove) dJ29_remove_40 ?_
  refine wf_put (k := 16) (l := 5) 1 (.object "java/util/LinkedHashMap$Entry") dJ29_remove_41 (by assumption) rfl q1425 (Or.inl rfl) (Nat.le_of_ble_eq_true rfl) rfl (by decide +kernel) (by first | rfl | exact rf_nar _ | exact rf_nar2 _) (by first | rfl | exact rf_fit _ | exact rf_fit2 _) ?_
  rw [← hF1]
  refine wa_aloadV_n (pc := 44) (y := mJ29_remove) dJ29_remove_44 rfl (by first | exact rf_s _ | exact rf_n | exact rf_q _) ?_
  refine wf_get (k := 16) (l := 5) 4 dJ29_remove_45 (by assumption) rfl q1428 (Or.inl rfl) (Nat.le_of_ble_eq_true rfl) (Nat.le_of_ble_eq_true rfl) (e14) ?_
  refine wa_aloadV_n (pc := 48) (y := mJ29_remove) dJ29_remove_48 rfl (by first | exact rf_s _ | exact rf_n | exact rf_q _) ?_
  refine wn_get 0 dJ29_remove_49 (by assumption) q1316 (Or.inl rfl) (Nat.le_of_ble_eq_true rfl) (e10) ?_
  refine wa_aloadV_n (pc := 52) (y := mJ29_remove) dJ29_remove_52 rfl (by first | exact rf_s _ | exact rf_n | exact rf_q _) ?_
  refine wn_get 1 dJ29_remove_53 (by assumption) q1323 (Or.inl rfl) (Nat.le_of_ble_eq_true rfl) (e11) ?_
  refine wa_null (pc := 56) (y := mJ29_remove) dJ29_remove_56 ?_
  refine wa_iconst (pc := 57) (y := mJ29_remove) (Int32.ofNat 0) dJ29_remove_57 rfl ?_
  refine wa_iconst (pc := 58) (y := mJ29_remove) (Int32.ofNat 0) dJ29_remove_58 rfl ?_
  refine wa_callW (k := 12) (pc := 59) (owner := "java/util/HashMap") (s_J4_removeNode (d := d - 1) (mv := false) (k := k) (by omega) hG M1 (t1 k t) hl9 K1) dJ29_remove_59 okJ4_removeNode rfl q1915 q1916 (hDc_code q1919 q1920) (by decide) q1918 q1919 (sF_at (by assumption)) rfl rfl rfl rfl (Nat.le_of_ble_eq_true rfl) (Nat.le_of_ble_eq_true rfl) (by omega) ?_
  rintro r h' - - Z
  have Z9 := Z.resolve_left fun h9 => h9.1 p (by simp) (kk1 p (by simp))
  obtain ⟨a2, p2, b2, h2, F2, ns2, z1, z2, rfl, rfl, z4, z5, z6, z7, z8, ⟨z9, z10⟩, z11⟩ := Z9
  obtain ⟨zn, zh⟩ := z11 rfl
  subst zh
  have hp2 : p2 = p := hd9 p2 p (by rw [z1]; simp) (by simp) (by rw [← kk1 p2 (by rw [z1]; simp)]; exact z2)
  rw [hp2] at z1
  obtain ⟨ha, hb⟩ := app_uniq mn z1
  rw [← ha, ← hb] at z6 zn
  rw [zn] at z4 z6 z7
  have g3 : F2 m 3 = .int (mc + 1) := z8 mc ((gm1 3).trans h3)
  have I2 : ItR h2 F1 it 16 m o none mc := (by rw [hF1]; exact ⟨i1, (updF_i (by decide) rfl).trans i2, updF_self _ _ _ _, (updF_i (by decide) rfl).trans i4, (updF_i (by decide) rfl).trans i5, (updF_i (by decide) rfl).trans i6⟩)
  have I3 := I2.fr z7.1 (fun e => hno ((mf1 it).mp e))
  obtain ⟨j1, j2, j3, j4, j5, j6⟩ := I3
  refine aft_v (pc2 := 62) ?_ rfl
  refine wa_pop (pc := 62) (y := mJ29_remove) dJ29_remove_62 (by first | rfl | exact rf_cat _) ?_
  refine wa_aloadV_n (pc := 63) (y := mJ29_remove) dJ29_remove_63 rfl (by first | exact rf_s _ | exact rf_n | exact rf_q _) ?_
  refine wa_aloadV_n (pc := 64) (y := mJ29_remove) dJ29_remove_64 rfl (by first | exact rf_s _ | exact rf_n | exact rf_q _) ?_
  refine wf_get (k := 16) (l := 5) 4 dJ29_remove_65 (by assumption) rfl q1428 (Or.inl rfl) (Nat.le_of_ble_eq_true rfl) (Nat.le_of_ble_eq_true rfl) (by (repeat (first | exact updF_self _ _ _ _ | (apply updF_i; · decide) | (apply updF_a; · first | assumption | (apply Ne.symm; assumption) | omega) | (apply newF_a; · first | assumption | (apply Ne.symm; assumption) | omega) | exact newL_self (by rfl) | exact newF_self (by rfl) | (apply cpyF_a; · first | assumption | (apply Ne.symm; assumption) | omega))) <;> first | assumption | rfl) ?_
  refine wf_get (k := 12) (l := 12) 3 dJ29_remove_68 (by assumption) rfl q211 (Or.inr q212) (Nat.le_of_ble_eq_true rfl) (Nat.le_of_ble_eq_true rfl) (by (repeat (first | exact updF_self _ _ _ _ | (apply updF_i; · decide) | (apply updF_a; · first | assumption | (apply Ne.symm; assumption) | omega) | (apply newF_a; · first | assumption | (apply Ne.symm; assumption) | omega) | exact newL_self (by rfl) | exact newF_self (by rfl) | (apply cpyF_a; · first | assumption | (apply Ne.symm; assumption) | omega))) <;> first | assumption | rfl) ?_
  refine wf_put (k := 16) (l := 5) 2 .int dJ29_remove_71 (by assumption) rfl q1426 (Or.inl rfl) (Nat.le_of_ble_eq_true rfl) rfl (by decide +kernel) rfl rfl ?_
  refine wa_return (pc := 74) (y := mJ29_remove) dJ29_remove_74 rfl ?_
  have f3 : Fr (· = it) h2 F2 h2 (updF F2 it 2 (.int (mc + 1))) := Fr.upd rfl
  obtain ⟨M3, es3, t3, mf3, gm3⟩ := z4.fr f3 (fun b hb e => MFp.no z4 i1 (by decide) (e ▸ hb)) (fun q hq e => hq.ne i1 (by decide) e)
  refine ⟨rfl, _, mc + 1, rfl, M3, t3 k z5, (gm3 3).trans g3, ⟨j1, (updF_i (by decide) rfl).trans j2, (updF_i (by decide) rfl).trans j3, updF_self _ _ _ _, (updF_i (by decide) rfl).trans j5, (updF_i (by decide) rfl).trans j6⟩, ?_, ?_, fun z hz => ?_⟩
  · rw [es3, z6, es_congr (F2 := F1) (F := F) fun z hz => ⟨gz z 0 (hi1 z (by simp [hz])), gz z 2 (hi1 z (by simp [hz]))⟩, es_congr (F2 := F1) (F := F) (ns := b) fun z hz => ⟨gz z 0 (hi1 z (by simp [hz])), gz z 2 (hi1 z (by simp [hz]))⟩]
  · exact ((f1.mono (P2 := fun z => z = it ∨ MFp F m (a ++ p :: b) z) fun z _ h => Or.inl h).trans (z7.1.mono fun z _ h => (mf1 z).mp h) fun z _ h => Or.inr h).trans f3 fun z _ h => Or.inl h
  · have h1 := (mf3 z).mp hz
    rcases z7.2.2.2 z h1 with h2 | h2
    · exact (mf1 z).mp h2
    · have := MFp.lt z4 h1
      omega
end ITR2
