/-! ===== checks that throw; cues by their numbers ===== -/
/-- an exception of the kind is thrown; nothing that was there has changed -/
def ThQ (k : Nat) (h : AH) (F : Nat → Nat → Value) (r : RR) (h' : AH) : Prop := ∃ (h2 : AH) (F2 : Nat → Nat → Value) (q : Nat), r = .inr q ∧ h' = sF h2 F2 ∧ Fr NoP h F h2 F2 ∧ Cst 2 h h2 ∧ Is h2 q k 0
def ChkQ (k : Nat) (b : Bool) (h : AH) (F : Nat → Nat → Value) (r : RR) (h' : AH) : Prop := b = true ∧ r = .inl none ∧ h' = sF h F ∨ b = false ∧ ThQ k h F r h'
/-- a refusal of a reason is thrown -/
def RefQ (z : Int32) (h : AH) (F : Nat → Nat → Value) (r : RR) (h' : AH) : Prop := ∃ (h2 : AH) (F2 : Nat → Nat → Value) (q : Nat), r = .inr q ∧ h' = sF h2 F2 ∧ Fr NoP h F h2 F2 ∧ Cst 2 h h2 ∧ Is h2 q 21 1 ∧ F2 q 0 = .int z ∧ h.1 ≤ q
section CHECKS
variable {G : GG} {d n : Nat} {h h2 h3 : AH} {F F2 F3 : Nat → Nat → Value} {s c k i p q a : Nat} {A : SA} {f g : Nat → Int32} {O P : Nat → Prop} {x z v lo hi : Int32} {b : Bool} {Q : RR → AH → Prop}
theorem ThQ.after {y : MD} {pc n : Nat} {ls st : List Value} {r : RR} {h' : AH} (t : ThQ k h F r h') (hkk : ∃ q9 : vw_C, kl[k]? = some q9) (he : y.2.2.2.2 = []) (kk : ∀ (h2 : AH) (F2 : Nat → Nat → Value) (q : Nat), Fr NoP h F h2 F2 → Cst 2 h h2 → Is h2 q k 0 → Q (.inr q) (sF h2 F2)) : AFT G d y pc n ls st Q r h' := by
  obtain ⟨h2, F2, q, rfl, rfl, fr, cst, iq⟩ := t
  obtain ⟨q9, hq9⟩ := hkk
  exact wax_out (sF_at iq) hq9 (fun z hz => by rw [he] at hz; cases hz) (kk h2 F2 q fr cst iq)
theorem ThQ.tr {r : RR} {h' : AH} (t : ThQ k h2 F2 r h') (fr : Fr NoP h F h2 F2) (c0 : Cst c h h2) : ∃ (h3 : AH) (F3 : Nat → Nat → Value) (q : Nat), r = .inr q ∧ h' = sF h3 F3 ∧ Fr NoP h F h3 F3 ∧ Cst (c + 2) h h3 ∧ Is h3 q k 0 := by
  obtain ⟨h3, F3, q, e1, e2, fr2, c2, iq⟩ := t
  exact ⟨h3, F3, q, e1, e2, fr.trans fr2 fun _ _ q => q, c0.trans c2, iq⟩
theorem s_X1_checkArgument (hd : 6 ≤ d) : MA G d mX1_checkArgument [.int (bI b)] (sF h F) (ChkQ 23 b h F) := by
  change WA G d mX1_checkArgument 0 [.int (bI b)] [] _ _
  refine wa_iload_n (pc := 0) (y := mX1_checkArgument) dX1_checkArgument_0 rfl ?_
  refine wa_if_ne (pc := 1) 12 dX1_checkArgument_1 rfl (fun hb1 => ?_) (fun hb1 => ?_)
  · refine wa_return (pc := 12) (y := mX1_checkArgument) dX1_checkArgument_12 rfl (Or.inl ⟨bI_n0 hb1, rfl, rfl⟩)
  · refine wa_newX (pc := 4) (y := mX1_checkArgument) (nn := 6) 2 dX1_checkArgument_4 rfl q1701 q543 q107 ?_
    refine wa_dup (pc := 7) (y := mX1_checkArgument) dX1_checkArgument_7 (by first | rfl | exact rf_cat _) ?_
    refine wf_exc_J17 (pc := 8) (y := mX1_checkArgument) dX1_checkArgument_8 q1702 (Nat.le_of_ble_eq_true rfl) (by omega) ?_
    exact wa_athrow (pc := 11) (y := mX1_checkArgument) dX1_checkArgument_11 (wax_out (sF_at Is.exc) rfl (fun z hz => by cases hz) (Or.inr ⟨bI_0.mp hb1, _, _, _, rfl, rfl, Fr.excT Fr.refl, Cst.exc (by decide), Is.exc⟩))
theorem s_X1_checkIndex (hd : 6 ≤ d) : MA G d mX1_checkIndex [.int (bI b)] (sF h F) (ChkQ 25 b h F) := by
  change WA G d mX1_checkIndex 0 [.int (bI b)] [] _ _
  refine wa_iload_n (pc := 0) (y := mX1_checkIndex) dX1_checkIndex_0 rfl ?_
  refine wa_if_ne (pc := 1) 12 dX1_checkIndex_1 rfl (fun hb1 => ?_) (fun hb1 => ?_)
  · refine wa_return (pc := 12) (y := mX1_checkIndex) dX1_checkIndex_12 rfl (Or.inl ⟨bI_n0 hb1, rfl, rfl⟩)
  · refine wa_newX (pc := 4) (y := mX1_checkIndex) (nn := 6) 4 dX1_checkIndex_4 rfl q1836 q1734 q129 ?_
    refine wa_dup (pc := 7) (y := mX1_checkIndex) dX1_checkIndex_7 (by first | rfl | exact rf_cat _) ?_
    refine wf_exc_J34 (pc := 8) (y := mX1_checkIndex) dX1_checkIndex_8 q1837 (Nat.le_of_ble_eq_true rfl) (by omega) ?_
    exact wa_athrow (pc := 11) (y := mX1_checkIndex) dX1_checkIndex_11 (wax_out (sF_at Is.exc) rfl (fun z hz => by cases hz) (Or.inr ⟨bI_0.mp hb1, _, _, _, rfl, rfl, Fr.excT Fr.refl, Cst.exc (by decide), Is.exc⟩))
theorem s_X1_checkState (hd : 6 ≤ d) : MA G d mX1_checkState [.int (bI b)] (sF h F) (ChkQ 24 b h F) := by
  change WA G d mX1_checkState 0 [.int (bI b)] [] _ _
  refine wa_iload_n (pc := 0) (y := mX1_checkState) dX1_checkState_0 rfl ?_
  refine wa_if_ne (pc := 1) 12 dX1_checkState_1 rfl (fun hb1 => ?_) (fun hb1 => ?_)
  · refine wa_return (pc := 12) (y := mX1_checkState) dX1_checkState_12 rfl (Or.inl ⟨bI_n0 hb1, rfl, rfl⟩)
  · refine wa_newX (pc := 4) (y := mX1_checkState) (nn := 6) 3 dX1_checkState_4 rfl q1709 q1710 q128 ?_
    refine wa_dup (pc := 7) (y := mX1_checkState) dX1_checkState_7 (by first | rfl | exact rf_cat _) ?_
    refine wf_exc_J33 (pc := 8) (y := mX1_checkState) dX1_checkState_8 q1718 (Nat.le_of_ble_eq_true rfl) (by omega) ?_
    exact wa_athrow (pc := 11) (y := mX1_checkState) dX1_checkState_11 (wax_out (sF_at Is.exc) rfl (fun z hz => by cases hz) (Or.inr ⟨bI_0.mp hb1, _, _, _, rfl, rfl, Fr.excT Fr.refl, Cst.exc (by decide), Is.exc⟩))
theorem s_X1_checkElement (hd : 6 ≤ d) : MA G d mX1_checkElement [.int (bI b)] (sF h F) (ChkQ 26 b h F) := by
  change WA G d mX1_checkElement 0 [.int (bI b)] [] _ _
  refine wa_iload_n (pc := 0) (y := mX1_checkElement) dX1_checkElement_0 rfl ?_
  refine wa_if_ne (pc := 1) 12 dX1_checkElement_1 rfl (fun hb1 => ?_) (fun hb1 => ?_)
  · refine wa_return (pc := 12) (y := mX1_checkElement) dX1_checkElement_12 rfl (Or.inl ⟨bI_n0 hb1, rfl, rfl⟩)
  · refine wa_newX (pc := 4) (y := mX1_checkElement) (nn := 6) 5 dX1_checkElement_4 rfl q2024 q1494 q127 ?_
    refine wa_dup (pc := 7) (y := mX1_checkElement) dX1_checkElement_7 (by first | rfl | exact rf_cat _) ?_
    refine wf_exc_J32 (pc := 8) (y := mX1_checkElement) dX1_checkElement_8 q2025 (Nat.le_of_ble_eq_true rfl) (by omega) ?_
    exact wa_athrow (pc := 11) (y := mX1_checkElement) dX1_checkElement_11 (wax_out (sF_at Is.exc) rfl (fun z hz => by cases hz) (Or.inr ⟨bI_0.mp hb1, _, _, _, rfl, rfl, Fr.excT Fr.refl, Cst.exc (by decide), Is.exc⟩))
theorem s_X10_init (hd : 4 ≤ d) : MA G d mX10_init [.ref h.1, .int z] (ah_new (sF h F) 58 [] 7) (fun r h' => r = .inl none ∧ h' = sF (hExc h 21 1 7) (updF (newF F h.1 (fun _ => .int 0)) h.1 0 (.int z))) := by
  have i0 : Is (hExc h 21 1 7) h.1 21 1 := Is.exc
  change WA G d mX10_init 0 [.ref h.1, .int z] [] _ _
  refine wa_aloadV_n (pc := 0) (y := mX10_init) dX10_init_0 rfl (by first | exact rf_s _ | exact rf_n | exact rf_q _) ?_
  refine wf_exc_X10 (pc := 1) (y := mX10_init) dX10_init_1 q1982 (Nat.le_of_ble_eq_true rfl) (by omega) ?_
  refine wa_aloadV_n (pc := 4) (y := mX10_init) dX10_init_4 rfl (by first | exact rf_s _ | exact rf_n | exact rf_q _) ?_
  refine wa_iload_n (pc := 5) (y := mX10_init) dX10_init_5 rfl ?_
  refine wf_putF (k := 21) (l := 1) 0 .int dX10_init_6 (by assumption) rfl q1983 (Or.inl rfl) (Nat.le_of_ble_eq_true rfl) rfl rfl rfl (by decide +kernel) rfl rfl ?_
  refine wa_return (pc := 9) (y := mX10_init) dX10_init_9 rfl ⟨rfl, rfl⟩
theorem s_X14_init (hd : 4 ≤ d) : MA G d mX14_init [.ref h.1, .int z] (ah_new (sF h F) 59 [] 7) (fun r h' => r = .inl none ∧ h' = sF (hExc h 22 1 7) (updF (newF F h.1 (fun _ => .int 0)) h.1 0 (.int z))) := by
  have i0 : Is (hExc h 22 1 7) h.1 22 1 := Is.exc
  change WA G d mX14_init 0 [.ref h.1, .int z] [] _ _
  refine wa_aloadV_n (pc := 0) (y := mX14_init) dX14_init_0 rfl (by first | exact rf_s _ | exact rf_n | exact rf_q _) ?_
  refine wf_exc_X14 (pc := 1) (y := mX14_init) dX14_init_1 q2569 (Nat.le_of_ble_eq_true rfl) (by omega) ?_
  refine wa_aloadV_n (pc := 4) (y := mX14_init) dX14_init_4 rfl (by first | exact rf_s _ | exact rf_n | exact rf_q _) ?_
  refine wa_iload_n (pc := 5) (y := mX14_init) dX14_init_5 rfl ?_
  refine wf_putF (k := 22) (l := 1) 0 .int dX14_init_6 (by assumption) rfl q2570 (Or.inl rfl) (Nat.le_of_ble_eq_true rfl) rfl rfl rfl (by decide +kernel) rfl rfl ?_
  refine wa_return (pc := 9) (y := mX14_init) dX14_init_9 rfl ⟨rfl, rfl⟩
theorem s_X1_refuse (hd : 5 ≤ d) : MA G d mX1_refuse [.int (bI b), .int z] (sF h F) (fun r h' => b = false ∧ r = .inl none ∧ h' = sF h F ∨ b = true ∧ RefQ z h F r h') := by
  change WA G d mX1_refuse 0 [.int (bI b), .int z] [] _ _
  refine wa_iload_n (pc := 0) (y := mX1_refuse) dX1_refuse_0 rfl ?_
  refine wa_if_eq (pc := 1) 13 dX1_refuse_1 rfl (fun hb1 => ?_) (fun hb1 => ?_)
  · refine wa_return (pc := 13) (y := mX1_refuse) dX1_refuse_13 rfl (Or.inl ⟨bI_0.mp hb1, rfl, rfl⟩)
  · refine wa_newX (pc := 4) (y := mX1_refuse) (nn := 7) 0 dX1_refuse_4 rfl q1828 q1971 q136 ?_
    refine wa_dup (pc := 7) (y := mX1_refuse) dX1_refuse_7 (by first | rfl | exact rf_cat _) ?_
    refine wa_iload_n (pc := 8) (y := mX1_refuse) dX1_refuse_8 rfl ?_
    refine wa_callI (pc := 9) (s_X10_init (d := d - 1) (by omega)) dX1_refuse_9 okX10_init rfl rfl rfl q1979 q1980 rfl rfl (Nat.le_of_ble_eq_true rfl) (Nat.le_of_ble_eq_true rfl) (by omega) ?_
    rintro _ _ - - ⟨rfl, rfl⟩
    refine aft_0 (pc2 := 12) ?_ rfl
    exact wa_athrow (pc := 12) (y := mX1_refuse) dX1_refuse_12 (wax_out (sF_at Is.exc) rfl (fun z hz => by cases hz) (Or.inr ⟨bI_n0 hb1, _, _, _, rfl, rfl, (Fr.excT Fr.refl).updT (Or.inr (Nat.le_refl _)), Cst.exc (by decide), Is.exc, updF_self _ _ _ _, Nat.le_refl _⟩))
theorem s_X1_isIn {h0 : AH} : MA G d mX1_isIn [.int v, .int lo, .int hi] h0 (fun r h' => r = .inl (some (.int (bI (inb v lo hi)))) ∧ h' = h0) := by
  change WA G d mX1_isIn 0 [.int v, .int lo, .int hi] [] _ _
  have e1 : v < lo → inb v lo hi = false := fun e => by simp [inb, Int32.not_le.mpr e]
  have e2 : hi < v → inb v lo hi = false := fun e => by simp [inb, Int32.not_le.mpr e]
  have e3 : ¬ v < lo → ¬ hi < v → inb v lo hi = true := fun e1 e2 => by simp [inb, Int32.not_lt.mp e1, Int32.not_lt.mp e2]
  refine wa_iload_n (pc := 0) (y := mX1_isIn) dX1_isIn_0 rfl ?_
  refine wa_iload_n (pc := 1) (y := mX1_isIn) dX1_isIn_1 rfl ?_
  refine wa_icmp_lt (pc := 2) 14 dX1_isIn_2 rfl (fun hb2 => ?_) (fun hb2 => ?_)
  · refine wa_iconst (pc := 14) (y := mX1_isIn) (Int32.ofNat 0) dX1_isIn_14 rfl ?_
    refine wa_ireturn (pc := 15) (y := mX1_isIn) .boolean dX1_isIn_15 rfl (by first | rfl | exact bI_nar _) ⟨by first | rw [e1 hb2]; rfl | rw [e2 hb7]; rfl | rw [e3 hb2 hb7]; rfl, rfl⟩
  · refine wa_iload_n (pc := 5) (y := mX1_isIn) dX1_isIn_5 rfl ?_
    refine wa_iload_n (pc := 6) (y := mX1_isIn) dX1_isIn_6 rfl ?_
    refine wa_icmp_gt (pc := 7) 14 dX1_isIn_7 rfl (fun hb7 => ?_) (fun hb7 => ?_)
    · refine wa_iconst (pc := 14) (y := mX1_isIn) (Int32.ofNat 0) dX1_isIn_14 rfl ?_
      refine wa_ireturn (pc := 15) (y := mX1_isIn) .boolean dX1_isIn_15 rfl (by first | rfl | exact bI_nar _) ⟨by first | rw [e1 hb2]; rfl | rw [e2 hb7]; rfl | rw [e3 hb2 hb7]; rfl, rfl⟩
    · refine wa_iconst (pc := 10) (y := mX1_isIn) (Int32.ofNat 1) dX1_isIn_10 rfl ?_
      refine wa_goto (pc := 11) (y := mX1_isIn) 15 dX1_isIn_11 rfl ?_
      refine wa_ireturn (pc := 15) (y := mX1_isIn) .boolean dX1_isIn_15 rfl (by first | rfl | exact bI_nar _) ⟨by first | rw [e1 hb2]; rfl | rw [e2 hb7]; rfl | rw [e3 hb2 hb7]; rfl, rfl⟩
theorem s_X2_indexOf (hd : 3 ≤ d) (S : ShowR G h F O s A f g) : MA G d mX2_indexOf [.ref s, .int v] (sF h F) (fun r h' => r = .inl (some (.int (oI (pl f v)))) ∧ h' = sF h F) := by
  have S_is := S.is; have S_0 := S.f0; have S_1 := S.f1; have S_2 := S.f2; have S_3 := S.f3; have S_4 := S.f4; have S_5 := S.f5; have S_6 := S.f6; have S_7 := S.f7; have S_h := S.hm; have S_c := S.cl.1; have S_l := S.fl.1; have S_m := S.im.1
  have hn := S.nlt
  have hnc := S.nc
  have loop : ∀ (t k : Nat), k + t = u (f 0) → pl f v = plg f v t k → WA G d mX2_indexOf 2 [.ref s, .int v, .int (Int32.ofNat k)] [] (sF h F) (fun r h' => r = .inl (some (.int (oI (pl f v)))) ∧ h' = sF h F) := by
    intro t
    induction t with
    | zero =>
      intro k hk e
      refine wa_iload_n (pc := 2) (y := mX2_indexOf) dX2_indexOf_2 rfl ?_
      refine wa_aloadV_n (pc := 3) (y := mX2_indexOf) dX2_indexOf_3 rfl (by first | exact rf_s _ | exact rf_n | exact rf_q _) ?_
      refine wf_get (k := 1) (l := 8) 0 dX2_indexOf_4 (by assumption) rfl q355 (Or.inl rfl) (Nat.le_of_ble_eq_true rfl) (Nat.le_of_ble_eq_true rfl) (by (repeat (first | exact updF_self _ _ _ _ | (apply updF_i; · decide) | (apply updF_a; · first | assumption | (apply Ne.symm; assumption) | omega) | (apply newF_a; · first | assumption | (apply Ne.symm; assumption) | omega) | exact newL_self (by rfl) | exact newF_self (by rfl) | (apply cpyF_a; · first | assumption | (apply Ne.symm; assumption) | omega))) <;> first | assumption | rfl) ?_
      refine wa_callV (pc := 7) (s_J2_size (d := d - 1) S.cl) dX2_indexOf_7 okJ2_size q1181 q1145 q1146 (sF_at (by assumption)) rfl rfl rfl (Nat.le_of_ble_eq_true rfl) (Nat.le_of_ble_eq_true rfl) (by omega) ?_
      rintro _ _ - - ⟨rfl, rfl⟩
      refine aft_v (pc2 := 10) ?_ rfl
      refine wa_icmp_ge (pc := 10) 39 dX2_indexOf_10 rfl (fun hb10 => ?_) (fun hb10 => absurd ((iN_le (by omega) (by omega)).mpr (by omega)) hb10)
      refine wa_iconst (pc := 39) (y := mX2_indexOf) (-1) dX2_indexOf_39 rfl ?_
      refine wa_ireturn (pc := 40) (y := mX2_indexOf) .int dX2_indexOf_40 rfl rfl ⟨by rw [e]; rfl, rfl⟩
    | succ t ih =>
      intro k hk e
      obtain ⟨a, ha⟩ := S.cu (k := k) (by omega)
      have C := S.cue k a ha
      have c1 := C.1
      have c2 := C.2.2.1
      refine wa_iload_n (pc := 2) (y := mX2_indexOf) dX2_indexOf_2 rfl ?_
      refine wa_aloadV_n (pc := 3) (y := mX2_indexOf) dX2_indexOf_3 rfl (by first | exact rf_s _ | exact rf_n | exact rf_q _) ?_
      refine wf_get (k := 1) (l := 8) 0 dX2_indexOf_4 (by assumption) rfl q355 (Or.inl rfl) (Nat.le_of_ble_eq_true rfl) (Nat.le_of_ble_eq_true rfl) (by (repeat (first | exact updF_self _ _ _ _ | (apply updF_i; · decide) | (apply updF_a; · first | assumption | (apply Ne.symm; assumption) | omega) | (apply newF_a; · first | assumption | (apply Ne.symm; assumption) | omega) | exact newL_self (by rfl) | exact newF_self (by rfl) | (apply cpyF_a; · first | assumption | (apply Ne.symm; assumption) | omega))) <;> first | assumption | rfl) ?_
      refine wa_callV (pc := 7) (s_J2_size (d := d - 1) S.cl) dX2_indexOf_7 okJ2_size q1181 q1145 q1146 (sF_at (by assumption)) rfl rfl rfl (Nat.le_of_ble_eq_true rfl) (Nat.le_of_ble_eq_true rfl) (by omega) ?_
      rintro _ _ - - ⟨rfl, rfl⟩
      refine aft_v (pc2 := 10) ?_ rfl
      refine wa_icmp_ge (pc := 10) 39 dX2_indexOf_10 rfl (fun hb10 => absurd ((iN_le (by omega) (by omega)).mp hb10) (by omega)) (fun hb10 => ?_)
      refine wa_aloadV_n (pc := 13) (y := mX2_indexOf) dX2_indexOf_13 rfl (by first | exact rf_s _ | exact rf_n | exact rf_q _) ?_
      refine wf_get (k := 1) (l := 8) 0 dX2_indexOf_14 (by assumption) rfl q355 (Or.inl rfl) (Nat.le_of_ble_eq_true rfl) (Nat.le_of_ble_eq_true rfl) (by (repeat (first | exact updF_self _ _ _ _ | (apply updF_i; · decide) | (apply updF_a; · first | assumption | (apply Ne.symm; assumption) | omega) | (apply newF_a; · first | assumption | (apply Ne.symm; assumption) | omega) | exact newL_self (by rfl) | exact newF_self (by rfl) | (apply cpyF_a; · first | assumption | (apply Ne.symm; assumption) | omega))) <;> first | assumption | rfl) ?_
      refine wa_iload_n (pc := 17) (y := mX2_indexOf) dX2_indexOf_17 rfl ?_
      refine wa_callV (pc := 18) (s_J2_get (d := d - 1) (by omega) S.cl ha) dX2_indexOf_18 okJ2_get q416 q417 q418 (sF_at (by assumption)) rfl rfl rfl (Nat.le_of_ble_eq_true rfl) (Nat.le_of_ble_eq_true rfl) (by omega) ?_
      rintro _ _ - - ⟨rfl, rfl⟩
      refine aft_v (pc2 := 21) ?_ rfl
      refine wa_castS (pc := 21) (y := mX2_indexOf) (k := 6) dX2_indexOf_21 (sF_at (by assumption)) rfl q430 ?_
      refine wf_getN (k := 6) (l := 6) 0 dX2_indexOf_24 (by assumption) rfl q1193 (Or.inl rfl) (Nat.le_of_ble_eq_true rfl) (Nat.le_of_ble_eq_true rfl) (by (repeat (first | exact updF_self _ _ _ _ | (apply updF_i; · decide) | (apply updF_a; · first | assumption | (apply Ne.symm; assumption) | omega) | (apply newF_a; · first | assumption | (apply Ne.symm; assumption) | omega) | exact newL_self (by rfl) | exact newF_self (by rfl) | (apply cpyF_a; · first | assumption | (apply Ne.symm; assumption) | omega))) <;> first | assumption | rfl) ?_
      refine wa_iload_n (pc := 27) (y := mX2_indexOf) dX2_indexOf_27 rfl ?_
      refine wa_icmp_ne (pc := 28) 33 dX2_indexOf_28 rfl (fun hb28 => ?_) (fun hb28 => ?_)
      · refine wa_iincN (pc := 33) (y := mX2_indexOf) dX2_indexOf_33 rfl (Nat.le_of_ble_eq_true rfl) (by first | rfl | (simp [okst, rf_cat] <;> assumption)) ?_
        simp only [List.set_cons_zero, List.set_cons_succ]
        refine wa_goto (pc := 36) (y := mX2_indexOf) 2 dX2_indexOf_36 rfl ?_
        exact ih (k + 1) (by omega) (by rw [e]; conv => lhs; unfold plg; rw [if_neg hb28])
      · have h9 : f (18 + 12 * k) = v := hb28
        refine wa_iload_n (pc := 31) (y := mX2_indexOf) dX2_indexOf_31 rfl ?_
        refine wa_ireturn (pc := 32) (y := mX2_indexOf) .int dX2_indexOf_32 rfl rfl ⟨by rw [e]; unfold plg; rw [if_pos h9]; rfl, rfl⟩
  change WA G d mX2_indexOf 0 [.ref s, .int v, .retAddr 0] [] _ _
  refine wa_iconst (pc := 0) (y := mX2_indexOf) (Int32.ofNat 0) dX2_indexOf_0 rfl ?_
  refine wa_istore_n (pc := 1) (y := mX2_indexOf) dX2_indexOf_1 (Nat.le_of_ble_eq_true rfl) (by first | rfl | (simp [okst, rf_cat] <;> assumption)) ?_
  change WA _ _ _ _ (List.set _ 2 _) _ _ _
  simp only [List.set_cons_zero, List.set_cons_succ]
  exact loop (u (f 0)) 0 (by omega) rfl
/-- index: the place, or an exception -/
def IdxQ (f : Nat → Int32) (v : Int32) (h : AH) (F : Nat → Nat → Value) (r : RR) (h' : AH) : Prop := (∃ p, pl f v = some p ∧ r = .inl (some (.int (Int32.ofNat p))) ∧ h' = sF h F) ∨ pl f v = none ∧ ThQ 25 h F r h'
theorem s_X2_index (hd : 7 ≤ d) (S : ShowR G h F O s A f g) : MA G d mX2_index [.ref s, .int v] (sF h F) (IdxQ f v h F) := by
  have S_is := S.is; have S_0 := S.f0; have S_1 := S.f1; have S_2 := S.f2; have S_3 := S.f3; have S_4 := S.f4; have S_5 := S.f5; have S_6 := S.f6; have S_7 := S.f7; have S_h := S.hm; have S_c := S.cl.1; have S_l := S.fl.1; have S_m := S.im.1
  have hn := S.nlt
  change WA G d mX2_index 0 [.ref s, .int v, .retAddr 0] [] _ _
  cases e : pl f v with
  | none =>
    refine wa_aloadV_n (pc := 0) (y := mX2_index) dX2_index_0 rfl (by first | exact rf_s _ | exact rf_n | exact rf_q _) ?_
    refine wa_iload_n (pc := 1) (y := mX2_index) dX2_index_1 rfl ?_
    refine wa_callV (pc := 2) (s_X2_indexOf (d := d - 1) (by omega) S) dX2_index_2 okX2_indexOf q1694 q1695 q1696 (sF_at (by assumption)) rfl rfl rfl (Nat.le_of_ble_eq_true rfl) (Nat.le_of_ble_eq_true rfl) (by omega) ?_
    rintro _ _ - - ⟨rfl, rfl⟩
    refine aft_v (pc2 := 5) ?_ rfl
    rw [e, oI_none]
    refine wa_istore_n (pc := 5) (y := mX2_index) dX2_index_5 (Nat.le_of_ble_eq_true rfl) (by first | rfl | (simp [okst, rf_cat] <;> assumption)) ?_
    change WA _ _ _ _ (List.set _ 2 _) _ _ _
    simp only [List.set_cons_zero, List.set_cons_succ]
    refine wa_iload_n (pc := 6) (y := mX2_index) dX2_index_6 rfl ?_
    refine wa_iconst (pc := 7) (y := mX2_index) (-1) dX2_index_7 rfl ?_
    refine wa_icmp_eq (pc := 8) 15 dX2_index_8 rfl (fun hb8 => ?_) (fun hb8 => absurd rfl hb8)
    refine wa_iconst (pc := 15) (y := mX2_index) (Int32.ofNat 0) dX2_index_15 rfl ?_
    refine wa_callSN (pc := 16) (s_X1_checkIndex (d := d - 1) (b := false) (by omega)) dX2_index_16 okX1_checkIndex rfl q1833 q1834 rfl rfl (Nat.le_of_ble_eq_true rfl) (Nat.le_of_ble_eq_true rfl) (by omega) ?_
    rintro r h' - - (⟨hb, -, -⟩ | ⟨-, T⟩)
    · cases hb
    exact T.after ⟨_, rfl⟩ rfl fun h2 F2 q fr cst iq => Or.inr ⟨e, h2, F2, q, rfl, rfl, fr, cst, iq⟩
  | some p =>
    have hp := (pl_some e).1
    have hp0 : Int32.ofNat p ≠ -1 := fun e9 => by have e8 := congrArg u e9; rw [u_of (by omega)] at e8; have : u (-1) = 4294967295 := (by decide); omega
    refine wa_aloadV_n (pc := 0) (y := mX2_index) dX2_index_0 rfl (by first | exact rf_s _ | exact rf_n | exact rf_q _) ?_
    refine wa_iload_n (pc := 1) (y := mX2_index) dX2_index_1 rfl ?_
    refine wa_callV (pc := 2) (s_X2_indexOf (d := d - 1) (by omega) S) dX2_index_2 okX2_indexOf q1694 q1695 q1696 (sF_at (by assumption)) rfl rfl rfl (Nat.le_of_ble_eq_true rfl) (Nat.le_of_ble_eq_true rfl) (by omega) ?_
    rintro _ _ - - ⟨rfl, rfl⟩
    refine aft_v (pc2 := 5) ?_ rfl
    rw [e, oI_some]
    refine wa_istore_n (pc := 5) (y := mX2_index) dX2_index_5 (Nat.le_of_ble_eq_true rfl) (by first | rfl | (simp [okst, rf_cat] <;> assumption)) ?_
    change WA _ _ _ _ (List.set _ 2 _) _ _ _
    simp only [List.set_cons_zero, List.set_cons_succ]
    refine wa_iload_n (pc := 6) (y := mX2_index) dX2_index_6 rfl ?_
    refine wa_iconst (pc := 7) (y := mX2_index) (-1) dX2_index_7 rfl ?_
    refine wa_icmp_eq (pc := 8) 15 dX2_index_8 rfl (fun hb8 => absurd hb8 hp0) (fun hb8 => ?_)
    refine wa_iconst (pc := 11) (y := mX2_index) (Int32.ofNat 1) dX2_index_11 rfl ?_
    refine wa_goto (pc := 12) (y := mX2_index) 16 dX2_index_12 rfl ?_
    refine wa_callSN (pc := 16) (s_X1_checkIndex (d := d - 1) (b := true) (by omega)) dX2_index_16 okX1_checkIndex rfl q1833 q1834 rfl rfl (Nat.le_of_ble_eq_true rfl) (Nat.le_of_ble_eq_true rfl) (by omega) ?_
    rintro r h' - - (⟨-, rfl, rfl⟩ | ⟨hb, -⟩)
    rotate_left
    · cases hb
    refine aft_0 (pc2 := 19) ?_ rfl
    refine wa_iload_n (pc := 19) (y := mX2_index) dX2_index_19 rfl ?_
    refine wa_ireturn (pc := 20) (y := mX2_index) .int dX2_index_20 rfl rfl (Or.inl ⟨p, e, rfl, rfl⟩)
def CueQ (f : Nat → Int32) (A : SA) (v : Int32) (h : AH) (F : Nat → Nat → Value) (r : RR) (h' : AH) : Prop := (∃ p a, pl f v = some p ∧ A.cs[p]? = some a ∧ r = .inl (some (.ref a)) ∧ h' = sF h F) ∨ pl f v = none ∧ ThQ 25 h F r h'
theorem s_X2_cue (hd : 8 ≤ d) (S : ShowR G h F O s A f g) : MA G d mX2_cue [.ref s, .int v] (sF h F) (CueQ f A v h F) := by
  have S_is := S.is; have S_0 := S.f0; have S_1 := S.f1; have S_2 := S.f2; have S_3 := S.f3; have S_4 := S.f4; have S_5 := S.f5; have S_6 := S.f6; have S_7 := S.f7; have S_h := S.hm; have S_c := S.cl.1; have S_l := S.fl.1; have S_m := S.im.1
  change WA G d mX2_cue 0 [.ref s, .int v] [] _ _
  refine wa_aloadV_n (pc := 0) (y := mX2_cue) dX2_cue_0 rfl (by first | exact rf_s _ | exact rf_n | exact rf_q _) ?_
  refine wf_get (k := 1) (l := 8) 0 dX2_cue_1 (by assumption) rfl q355 (Or.inl rfl) (Nat.le_of_ble_eq_true rfl) (Nat.le_of_ble_eq_true rfl) (by (repeat (first | exact updF_self _ _ _ _ | (apply updF_i; · decide) | (apply updF_a; · first | assumption | (apply Ne.symm; assumption) | omega) | (apply newF_a; · first | assumption | (apply Ne.symm; assumption) | omega) | exact newL_self (by rfl) | exact newF_self (by rfl) | (apply cpyF_a; · first | assumption | (apply Ne.symm; assumption) | omega))) <;> first | assumption | rfl) ?_
  refine wa_aloadV_n (pc := 4) (y := mX2_cue) dX2_cue_4 rfl (by first | exact rf_s _ | exact rf_n | exact rf_q _) ?_
  refine wa_iload_n (pc := 5) (y := mX2_cue) dX2_cue_5 rfl ?_
  refine wa_callV (pc := 6) (s_X2_index (d := d - 1) (v := v) (by omega) S) dX2_cue_6 okX2_index q1876 q1830 q1831 (sF_at (by assumption)) rfl rfl rfl (Nat.le_of_ble_eq_true rfl) (Nat.le_of_ble_eq_true rfl) (by omega) ?_
  rintro r h' - - (⟨p, e, rfl, rfl⟩ | ⟨e, T⟩)
  rotate_left
  · exact T.after ⟨_, rfl⟩ rfl fun h2 F2 q fr cst iq => Or.inr ⟨e, h2, F2, q, rfl, rfl, fr, cst, iq⟩
  obtain ⟨a, ha⟩ := S.cu (pl_some e).1
  have C := S.cue p a ha
  have c1 := C.1
  refine aft_v (pc2 := 9) ?_ rfl
  refine wa_callV (pc := 9) (s_J2_get (d := d - 1) (by omega) S.cl ha) dX2_cue_9 okJ2_get q416 q417 q418 (sF_at (by assumption)) rfl rfl rfl (Nat.le_of_ble_eq_true rfl) (Nat.le_of_ble_eq_true rfl) (by omega) ?_
  rintro _ _ - - ⟨rfl, rfl⟩
  refine aft_v (pc2 := 12) ?_ rfl
  refine wa_castS (pc := 12) (y := mX2_cue) (k := 6) dX2_cue_12 (sF_at (by assumption)) rfl q430 ?_
  refine wa_areturnV (pc := 15) (y := mX2_cue) (.object "CueStack$Cue") dX2_cue_15 rfl (Or.inl ⟨_, rfl⟩) (by first | exact rf_s _ | exact rf_n | exact rf_q _) (Or.inl ⟨p, a, e, ha, rfl, rfl⟩)
/-- the place of the next cue behind a number -/
def nxJ (f : Nat → Int32) (v : Int32) : Nat → Nat → Nat
  | 0, k => k
  | t + 1, k => if v < f (18 + 12 * k) then k else nxJ f v t (k + 1)
def nxI (f : Nat → Int32) (v : Int32) : Nat := nxJ f v (u (f 0)) 0
theorem s_X2_nextOf (hd : 3 ≤ d) (S : ShowR G h F O s A f g) : MA G d mX2_nextOf [.ref s, .int v] (sF h F) (fun r h' => r = .inl (some (.int (Int32.ofNat (nxI f v)))) ∧ h' = sF h F) := by
  have S_is := S.is; have S_0 := S.f0; have S_1 := S.f1; have S_2 := S.f2; have S_3 := S.f3; have S_4 := S.f4; have S_5 := S.f5; have S_6 := S.f6; have S_7 := S.f7; have S_h := S.hm; have S_c := S.cl.1; have S_l := S.fl.1; have S_m := S.im.1
  have hn := S.nlt
  have hnc := S.nc
  have loop : ∀ (t k : Nat), k + t = u (f 0) → nxI f v = nxJ f v t k → WA G d mX2_nextOf 2 [.ref s, .int v, .int (Int32.ofNat k)] [] (sF h F) (fun r h' => r = .inl (some (.int (Int32.ofNat (nxI f v)))) ∧ h' = sF h F) := by
    intro t
    induction t with
    | zero =>
      intro k hk e
      refine wa_iload_n (pc := 2) (y := mX2_nextOf) dX2_nextOf_2 rfl ?_
      refine wa_aloadV_n (pc := 3) (y := mX2_nextOf) dX2_nextOf_3 rfl (by first | exact rf_s _ | exact rf_n | exact rf_q _) ?_
      refine wf_get (k := 1) (l := 8) 0 dX2_nextOf_4 (by assumption) rfl q355 (Or.inl rfl) (Nat.le_of_ble_eq_true rfl) (Nat.le_of_ble_eq_true rfl) (by (repeat (first | exact updF_self _ _ _ _ | (apply updF_i; · decide) | (apply updF_a; · first | assumption | (apply Ne.symm; assumption) | omega) | (apply newF_a; · first | assumption | (apply Ne.symm; assumption) | omega) | exact newL_self (by rfl) | exact newF_self (by rfl) | (apply cpyF_a; · first | assumption | (apply Ne.symm; assumption) | omega))) <;> first | assumption | rfl) ?_
      refine wa_callV (pc := 7) (s_J2_size (d := d - 1) S.cl) dX2_nextOf_7 okJ2_size q1181 q1145 q1146 (sF_at (by assumption)) rfl rfl rfl (Nat.le_of_ble_eq_true rfl) (Nat.le_of_ble_eq_true rfl) (by omega) ?_
      rintro _ _ - - ⟨rfl, rfl⟩
      refine aft_v (pc2 := 10) ?_ rfl
      refine wa_icmp_ge (pc := 10) 37 dX2_nextOf_10 rfl (fun hb10 => ?_) (fun hb10 => absurd ((iN_le (by omega) (by omega)).mpr (by omega)) hb10)
      refine wa_iload_n (pc := 37) (y := mX2_nextOf) dX2_nextOf_37 rfl ?_
      refine wa_ireturn (pc := 38) (y := mX2_nextOf) .int dX2_nextOf_38 rfl rfl ⟨by rw [e]; rfl, rfl⟩
    | succ t ih =>
      intro k hk e
      obtain ⟨a, ha⟩ := S.cu (k := k) (by omega)
      have C := S.cue k a ha
      have c1 := C.1
      have c2 := C.2.2.1
      refine wa_iload_n (pc := 2) (y := mX2_nextOf) dX2_nextOf_2 rfl ?_
      refine wa_aloadV_n (pc := 3) (y := mX2_nextOf) dX2_nextOf_3 rfl (by first | exact rf_s _ | exact rf_n | exact rf_q _) ?_
      refine wf_get (k := 1) (l := 8) 0 dX2_nextOf_4 (by assumption) rfl q355 (Or.inl rfl) (Nat.le_of_ble_eq_true rfl) (Nat.le_of_ble_eq_true rfl) (by (repeat (first | exact updF_self _ _ _ _ | (apply updF_i; · decide) | (apply updF_a; · first | assumption | (apply Ne.symm; assumption) | omega) | (apply newF_a; · first | assumption | (apply Ne.symm; assumption) | omega) | exact newL_self (by rfl) | exact newF_self (by rfl) | (apply cpyF_a; · first | assumption | (apply Ne.symm; assumption) | omega))) <;> first | assumption | rfl) ?_
      refine wa_callV (pc := 7) (s_J2_size (d := d - 1) S.cl) dX2_nextOf_7 okJ2_size q1181 q1145 q1146 (sF_at (by assumption)) rfl rfl rfl (Nat.le_of_ble_eq_true rfl) (Nat.le_of_ble_eq_true rfl) (by omega) ?_
      rintro _ _ - - ⟨rfl, rfl⟩
      refine aft_v (pc2 := 10) ?_ rfl
      refine wa_icmp_ge (pc := 10) 37 dX2_nextOf_10 rfl (fun hb10 => absurd ((iN_le (by omega) (by omega)).mp hb10) (by omega)) (fun hb10 => ?_)
      refine wa_aloadV_n (pc := 13) (y := mX2_nextOf) dX2_nextOf_13 rfl (by first | exact rf_s _ | exact rf_n | exact rf_q _) ?_
      refine wf_get (k := 1) (l := 8) 0 dX2_nextOf_14 (by assumption) rfl q355 (Or.inl rfl) (Nat.le_of_ble_eq_true rfl) (Nat.le_of_ble_eq_true rfl) (by (repeat (first | exact updF_self _ _ _ _ | (apply updF_i; · decide) | (apply updF_a; · first | assumption | (apply Ne.symm; assumption) | omega) | (apply newF_a; · first | assumption | (apply Ne.symm; assumption) | omega) | exact newL_self (by rfl) | exact newF_self (by rfl) | (apply cpyF_a; · first | assumption | (apply Ne.symm; assumption) | omega))) <;> first | assumption | rfl) ?_
      refine wa_iload_n (pc := 17) (y := mX2_nextOf) dX2_nextOf_17 rfl ?_
      refine wa_callV (pc := 18) (s_J2_get (d := d - 1) (by omega) S.cl ha) dX2_nextOf_18 okJ2_get q416 q417 q418 (sF_at (by assumption)) rfl rfl rfl (Nat.le_of_ble_eq_true rfl) (Nat.le_of_ble_eq_true rfl) (by omega) ?_
      rintro _ _ - - ⟨rfl, rfl⟩
      refine aft_v (pc2 := 21) ?_ rfl
      refine wa_castS (pc := 21) (y := mX2_nextOf) (k := 6) dX2_nextOf_21 (sF_at (by assumption)) rfl q430 ?_
      refine wf_getN (k := 6) (l := 6) 0 dX2_nextOf_24 (by assumption) rfl q1193 (Or.inl rfl) (Nat.le_of_ble_eq_true rfl) (Nat.le_of_ble_eq_true rfl) (by (repeat (first | exact updF_self _ _ _ _ | (apply updF_i; · decide) | (apply updF_a; · first | assumption | (apply Ne.symm; assumption) | omega) | (apply newF_a; · first | assumption | (apply Ne.symm; assumption) | omega) | exact newL_self (by rfl) | exact newF_self (by rfl) | (apply cpyF_a; · first | assumption | (apply Ne.symm; assumption) | omega))) <;> first | assumption | rfl) ?_
      refine wa_iload_n (pc := 27) (y := mX2_nextOf) dX2_nextOf_27 rfl ?_
      refine wa_icmp_gt (pc := 28) 37 dX2_nextOf_28 rfl (fun hb28 => ?_) (fun hb28 => ?_)
      · refine wa_iload_n (pc := 37) (y := mX2_nextOf) dX2_nextOf_37 rfl ?_
        refine wa_ireturn (pc := 38) (y := mX2_nextOf) .int dX2_nextOf_38 rfl rfl ⟨by rw [e]; unfold nxJ; rw [if_pos hb28], rfl⟩
      · refine wa_iincN (pc := 31) (y := mX2_nextOf) dX2_nextOf_31 rfl (Nat.le_of_ble_eq_true rfl) (by first | rfl | (simp [okst, rf_cat] <;> assumption)) ?_
        simp only [List.set_cons_zero, List.set_cons_succ]
        refine wa_goto (pc := 34) (y := mX2_nextOf) 2 dX2_nextOf_34 rfl ?_
        exact ih (k + 1) (by omega) (by rw [e]; conv => lhs; unfold nxJ; rw [if_neg hb28])
  change WA G d mX2_nextOf 0 [.ref s, .int v, .retAddr 0] [] _ _
  refine wa_iconst (pc := 0) (y := mX2_nextOf) (Int32.ofNat 0) dX2_nextOf_0 rfl ?_
  refine wa_istore_n (pc := 1) (y := mX2_nextOf) dX2_nextOf_1 (Nat.le_of_ble_eq_true rfl) (by first | rfl | (simp [okst, rf_cat] <;> assumption)) ?_
  change WA _ _ _ _ (List.set _ 2 _) _ _ _
  simp only [List.set_cons_zero, List.set_cons_succ]
  exact loop (u (f 0)) 0 (by omega) rfl
end CHECKS
