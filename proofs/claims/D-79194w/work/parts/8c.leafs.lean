/-! ===== fades, cues, instructions: their methods ===== -/
theorem nar01 {x : Int32} (h : x = 0 ∨ x = 1) : narrow .boolean (.int x) = .int x := by rcases h with rfl | rfl <;> rfl
theorem fit01 {x : Int32} (h : x = 0 ∨ x = 1) : fits .boolean (.int x) = true := by rcases h with rfl | rfl <;> rfl
section LEAFS
variable {G : GG} {d n : Nat} {h h2 : AH} {F F2 : Nat → Nat → Value} {s c k i p q a dl tm : Nat} {A : SA} {f g : Nat → Int32} {O P : Nat → Prop} {x z v w lev part : Int32}
theorem s_X3_init {h0 : AH} (hd : 1 ≤ d) : MA G d mX3_init [.ref a] h0 (fun r h' => r = .inl none ∧ h' = h0) := by
  change WA G d mX3_init 0 [.ref a] [] _ _
  refine wa_aloadV_n (pc := 0) (y := mX3_init) dX3_init_0 rfl (by first | exact rf_s _ | exact rf_n | exact rf_q _) ?_
  refine wa_objInit (pc := 1) (y := mX3_init) dX3_init_1 q251 q151 q152 (Nat.le_of_ble_eq_true rfl) (by omega) ?_
  refine wa_return (pc := 4) (y := mX3_init) dX3_init_4 rfl ⟨rfl, rfl⟩
def nowG (g : Nat → Int32) (c : Nat) : Int32 := nowV (g (5 * c)) (g (5 * c + 1)) (g (5 * c + 2)) (g (5 * c + 3)) (g (5 * c + 4))
theorem s_X3_now (T : FadR h F g a c) : MA G d mX3_now [.ref a] (sF h F) (fun r h' => r = .inl (some (.int (nowG g c))) ∧ h' = sF h F) := by
  obtain ⟨t1, t2, t3, t4, t5, t6⟩ := T
  change WA G d mX3_now 0 [.ref a] [] _ _
  refine wa_aloadV_n (pc := 0) (y := mX3_now) dX3_now_0 rfl (by first | exact rf_s _ | exact rf_n | exact rf_q _) ?_
  refine wf_get (k := 2) (l := 5) 4 dX3_now_1 (by assumption) rfl q258 (Or.inl rfl) (Nat.le_of_ble_eq_true rfl) (Nat.le_of_ble_eq_true rfl) (by (repeat (first | exact updF_self _ _ _ _ | (apply updF_i; · decide) | (apply updF_a; · first | assumption | (apply Ne.symm; assumption) | omega) | (apply newF_a; · first | assumption | (apply Ne.symm; assumption) | omega) | exact newL_self (by rfl) | exact newF_self (by rfl) | (apply cpyF_a; · first | assumption | (apply Ne.symm; assumption) | omega))) <;> first | assumption | rfl) ?_
  refine wa_aloadV_n (pc := 4) (y := mX3_now) dX3_now_4 rfl (by first | exact rf_s _ | exact rf_n | exact rf_q _) ?_
  refine wf_get (k := 2) (l := 5) 2 dX3_now_5 (by assumption) rfl q256 (Or.inl rfl) (Nat.le_of_ble_eq_true rfl) (Nat.le_of_ble_eq_true rfl) (by (repeat (first | exact updF_self _ _ _ _ | (apply updF_i; · decide) | (apply updF_a; · first | assumption | (apply Ne.symm; assumption) | omega) | (apply newF_a; · first | assumption | (apply Ne.symm; assumption) | omega) | exact newL_self (by rfl) | exact newF_self (by rfl) | (apply cpyF_a; · first | assumption | (apply Ne.symm; assumption) | omega))) <;> first | assumption | rfl) ?_
  refine wa_aloadV_n (pc := 8) (y := mX3_now) dX3_now_8 rfl (by first | exact rf_s _ | exact rf_n | exact rf_q _) ?_
  refine wf_get (k := 2) (l := 5) 3 dX3_now_9 (by assumption) rfl q257 (Or.inl rfl) (Nat.le_of_ble_eq_true rfl) (Nat.le_of_ble_eq_true rfl) (by (repeat (first | exact updF_self _ _ _ _ | (apply updF_i; · decide) | (apply updF_a; · first | assumption | (apply Ne.symm; assumption) | omega) | (apply newF_a; · first | assumption | (apply Ne.symm; assumption) | omega) | exact newL_self (by rfl) | exact newF_self (by rfl) | (apply cpyF_a; · first | assumption | (apply Ne.symm; assumption) | omega))) <;> first | assumption | rfl) ?_
  first | with_reducible refine wa_iaddN (pc := 12) (y := mX3_now) dX3_now_12 ?_ | refine wa_iadd (pc := 12) (y := mX3_now) dX3_now_12 ?_
  refine wa_icmp_lt (pc := 13) 21 dX3_now_13 rfl (fun hb13 => ?_) (fun hb13 => ?_)
  · refine wa_aloadV_n (pc := 21) (y := mX3_now) dX3_now_21 rfl (by first | exact rf_s _ | exact rf_n | exact rf_q _) ?_
    refine wf_get (k := 2) (l := 5) 4 dX3_now_22 (by assumption) rfl q258 (Or.inl rfl) (Nat.le_of_ble_eq_true rfl) (Nat.le_of_ble_eq_true rfl) (by (repeat (first | exact updF_self _ _ _ _ | (apply updF_i; · decide) | (apply updF_a; · first | assumption | (apply Ne.symm; assumption) | omega) | (apply newF_a; · first | assumption | (apply Ne.symm; assumption) | omega) | exact newL_self (by rfl) | exact newF_self (by rfl) | (apply cpyF_a; · first | assumption | (apply Ne.symm; assumption) | omega))) <;> first | assumption | rfl) ?_
    refine wa_aloadV_n (pc := 25) (y := mX3_now) dX3_now_25 rfl (by first | exact rf_s _ | exact rf_n | exact rf_q _) ?_
    refine wf_get (k := 2) (l := 5) 2 dX3_now_26 (by assumption) rfl q256 (Or.inl rfl) (Nat.le_of_ble_eq_true rfl) (Nat.le_of_ble_eq_true rfl) (by (repeat (first | exact updF_self _ _ _ _ | (apply updF_i; · decide) | (apply updF_a; · first | assumption | (apply Ne.symm; assumption) | omega) | (apply newF_a; · first | assumption | (apply Ne.symm; assumption) | omega) | exact newL_self (by rfl) | exact newF_self (by rfl) | (apply cpyF_a; · first | assumption | (apply Ne.symm; assumption) | omega))) <;> first | assumption | rfl) ?_
    refine wa_icmp_gt (pc := 29) 39 dX3_now_29 rfl (fun hb29 => ?_) (fun hb29 => ?_)
    · refine wa_aloadV_n (pc := 39) (y := mX3_now) dX3_now_39 rfl (by first | exact rf_s _ | exact rf_n | exact rf_q _) ?_
      refine wf_get (k := 2) (l := 5) 0 dX3_now_40 (by assumption) rfl q252 (Or.inl rfl) (Nat.le_of_ble_eq_true rfl) (Nat.le_of_ble_eq_true rfl) (by (repeat (first | exact updF_self _ _ _ _ | (apply updF_i; · decide) | (apply updF_a; · first | assumption | (apply Ne.symm; assumption) | omega) | (apply newF_a; · first | assumption | (apply Ne.symm; assumption) | omega) | exact newL_self (by rfl) | exact newF_self (by rfl) | (apply cpyF_a; · first | assumption | (apply Ne.symm; assumption) | omega))) <;> first | assumption | rfl) ?_
      refine wa_aloadV_n (pc := 43) (y := mX3_now) dX3_now_43 rfl (by first | exact rf_s _ | exact rf_n | exact rf_q _) ?_
      refine wf_get (k := 2) (l := 5) 1 dX3_now_44 (by assumption) rfl q253 (Or.inl rfl) (Nat.le_of_ble_eq_true rfl) (Nat.le_of_ble_eq_true rfl) (by (repeat (first | exact updF_self _ _ _ _ | (apply updF_i; · decide) | (apply updF_a; · first | assumption | (apply Ne.symm; assumption) | omega) | (apply newF_a; · first | assumption | (apply Ne.symm; assumption) | omega) | exact newL_self (by rfl) | exact newF_self (by rfl) | (apply cpyF_a; · first | assumption | (apply Ne.symm; assumption) | omega))) <;> first | assumption | rfl) ?_
      refine wa_aloadV_n (pc := 47) (y := mX3_now) dX3_now_47 rfl (by first | exact rf_s _ | exact rf_n | exact rf_q _) ?_
      refine wf_get (k := 2) (l := 5) 0 dX3_now_48 (by assumption) rfl q252 (Or.inl rfl) (Nat.le_of_ble_eq_true rfl) (Nat.le_of_ble_eq_true rfl) (by (repeat (first | exact updF_self _ _ _ _ | (apply updF_i; · decide) | (apply updF_a; · first | assumption | (apply Ne.symm; assumption) | omega) | (apply newF_a; · first | assumption | (apply Ne.symm; assumption) | omega) | exact newL_self (by rfl) | exact newF_self (by rfl) | (apply cpyF_a; · first | assumption | (apply Ne.symm; assumption) | omega))) <;> first | assumption | rfl) ?_
      refine wa_isub (pc := 51) (y := mX3_now) dX3_now_51 ?_
      refine wa_aloadV_n (pc := 52) (y := mX3_now) dX3_now_52 rfl (by first | exact rf_s _ | exact rf_n | exact rf_q _) ?_
      refine wf_get (k := 2) (l := 5) 4 dX3_now_53 (by assumption) rfl q258 (Or.inl rfl) (Nat.le_of_ble_eq_true rfl) (Nat.le_of_ble_eq_true rfl) (by (repeat (first | exact updF_self _ _ _ _ | (apply updF_i; · decide) | (apply updF_a; · first | assumption | (apply Ne.symm; assumption) | omega) | (apply newF_a; · first | assumption | (apply Ne.symm; assumption) | omega) | exact newL_self (by rfl) | exact newF_self (by rfl) | (apply cpyF_a; · first | assumption | (apply Ne.symm; assumption) | omega))) <;> first | assumption | rfl) ?_
      refine wa_aloadV_n (pc := 56) (y := mX3_now) dX3_now_56 rfl (by first | exact rf_s _ | exact rf_n | exact rf_q _) ?_
      refine wf_get (k := 2) (l := 5) 2 dX3_now_57 (by assumption) rfl q256 (Or.inl rfl) (Nat.le_of_ble_eq_true rfl) (Nat.le_of_ble_eq_true rfl) (by (repeat (first | exact updF_self _ _ _ _ | (apply updF_i; · decide) | (apply updF_a; · first | assumption | (apply Ne.symm; assumption) | omega) | (apply newF_a; · first | assumption | (apply Ne.symm; assumption) | omega) | exact newL_self (by rfl) | exact newF_self (by rfl) | (apply cpyF_a; · first | assumption | (apply Ne.symm; assumption) | omega))) <;> first | assumption | rfl) ?_
      refine wa_isub (pc := 60) (y := mX3_now) dX3_now_60 ?_
      first | with_reducible refine wa_imulN (pc := 61) (y := mX3_now) dX3_now_61 ?_ | refine wa_imul (pc := 61) (y := mX3_now) dX3_now_61 ?_
      refine wa_aloadV_n (pc := 62) (y := mX3_now) dX3_now_62 rfl (by first | exact rf_s _ | exact rf_n | exact rf_q _) ?_
      refine wf_get (k := 2) (l := 5) 3 dX3_now_63 (by assumption) rfl q257 (Or.inl rfl) (Nat.le_of_ble_eq_true rfl) (Nat.le_of_ble_eq_true rfl) (by (repeat (first | exact updF_self _ _ _ _ | (apply updF_i; · decide) | (apply updF_a; · first | assumption | (apply Ne.symm; assumption) | omega) | (apply newF_a; · first | assumption | (apply Ne.symm; assumption) | omega) | exact newL_self (by rfl) | exact newF_self (by rfl) | (apply cpyF_a; · first | assumption | (apply Ne.symm; assumption) | omega))) <;> first | assumption | rfl) ?_
      refine wa_idiv (pc := 66) (y := mX3_now) dX3_now_66 (fun e => ?_) ?_
      · rw [e, Int32.add_zero] at hb13; exact absurd hb13 (Int32.not_lt.mpr (Int32.le_of_lt hb29))
      first | with_reducible refine wa_iaddN (pc := 67) (y := mX3_now) dX3_now_67 ?_ | refine wa_iadd (pc := 67) (y := mX3_now) dX3_now_67 ?_
      refine wa_ireturn (pc := 68) (y := mX3_now) .int dX3_now_68 rfl rfl ⟨by unfold nowG nowV; rw [if_pos hb13]; first | rw [if_pos hb29] | rw [if_neg hb29], rfl⟩
    · refine wa_aloadV_n (pc := 32) (y := mX3_now) dX3_now_32 rfl (by first | exact rf_s _ | exact rf_n | exact rf_q _) ?_
      refine wf_get (k := 2) (l := 5) 0 dX3_now_33 (by assumption) rfl q252 (Or.inl rfl) (Nat.le_of_ble_eq_true rfl) (Nat.le_of_ble_eq_true rfl) (by (repeat (first | exact updF_self _ _ _ _ | (apply updF_i; · decide) | (apply updF_a; · first | assumption | (apply Ne.symm; assumption) | omega) | (apply newF_a; · first | assumption | (apply Ne.symm; assumption) | omega) | exact newL_self (by rfl) | exact newF_self (by rfl) | (apply cpyF_a; · first | assumption | (apply Ne.symm; assumption) | omega))) <;> first | assumption | rfl) ?_
      refine wa_goto (pc := 36) (y := mX3_now) 68 dX3_now_36 rfl ?_
      refine wa_ireturn (pc := 68) (y := mX3_now) .int dX3_now_68 rfl rfl ⟨by unfold nowG nowV; rw [if_pos hb13]; first | rw [if_pos hb29] | rw [if_neg hb29], rfl⟩
  · refine wa_aloadV_n (pc := 16) (y := mX3_now) dX3_now_16 rfl (by first | exact rf_s _ | exact rf_n | exact rf_q _) ?_
    refine wf_get (k := 2) (l := 5) 1 dX3_now_17 (by assumption) rfl q253 (Or.inl rfl) (Nat.le_of_ble_eq_true rfl) (Nat.le_of_ble_eq_true rfl) (by (repeat (first | exact updF_self _ _ _ _ | (apply updF_i; · decide) | (apply updF_a; · first | assumption | (apply Ne.symm; assumption) | omega) | (apply newF_a; · first | assumption | (apply Ne.symm; assumption) | omega) | exact newL_self (by rfl) | exact newF_self (by rfl) | (apply cpyF_a; · first | assumption | (apply Ne.symm; assumption) | omega))) <;> first | assumption | rfl) ?_
    refine wa_ireturn (pc := 20) (y := mX3_now) .int dX3_now_20 rfl rfl ⟨by unfold nowG nowV; rw [if_neg hb13], rfl⟩
def isG (g : Nat → Int32) (c : Nat) : Bool := decide (g (5 * c + 2) < g (5 * c + 3) + g (5 * c + 4))
theorem s_X3_isGoing (T : FadR h F g a c) : MA G d mX3_isGoing [.ref a] (sF h F) (fun r h' => r = .inl (some (.int (bI (isG g c)))) ∧ h' = sF h F) := by
  obtain ⟨t1, t2, t3, t4, t5, t6⟩ := T
  change WA G d mX3_isGoing 0 [.ref a] [] _ _
  refine wa_aloadV_n (pc := 0) (y := mX3_isGoing) dX3_isGoing_0 rfl (by first | exact rf_s _ | exact rf_n | exact rf_q _) ?_
  refine wf_get (k := 2) (l := 5) 4 dX3_isGoing_1 (by assumption) rfl q258 (Or.inl rfl) (Nat.le_of_ble_eq_true rfl) (Nat.le_of_ble_eq_true rfl) (by (repeat (first | exact updF_self _ _ _ _ | (apply updF_i; · decide) | (apply updF_a; · first | assumption | (apply Ne.symm; assumption) | omega) | (apply newF_a; · first | assumption | (apply Ne.symm; assumption) | omega) | exact newL_self (by rfl) | exact newF_self (by rfl) | (apply cpyF_a; · first | assumption | (apply Ne.symm; assumption) | omega))) <;> first | assumption | rfl) ?_
  refine wa_aloadV_n (pc := 4) (y := mX3_isGoing) dX3_isGoing_4 rfl (by first | exact rf_s _ | exact rf_n | exact rf_q _) ?_
  refine wf_get (k := 2) (l := 5) 2 dX3_isGoing_5 (by assumption) rfl q256 (Or.inl rfl) (Nat.le_of_ble_eq_true rfl) (Nat.le_of_ble_eq_true rfl) (by (repeat (first | exact updF_self _ _ _ _ | (apply updF_i; · decide) | (apply updF_a; · first | assumption | (apply Ne.symm; assumption) | omega) | (apply newF_a; · first | assumption | (apply Ne.symm; assumption) | omega) | exact newL_self (by rfl) | exact newF_self (by rfl) | (apply cpyF_a; · first | assumption | (apply Ne.symm; assumption) | omega))) <;> first | assumption | rfl) ?_
  refine wa_aloadV_n (pc := 8) (y := mX3_isGoing) dX3_isGoing_8 rfl (by first | exact rf_s _ | exact rf_n | exact rf_q _) ?_
  refine wf_get (k := 2) (l := 5) 3 dX3_isGoing_9 (by assumption) rfl q257 (Or.inl rfl) (Nat.le_of_ble_eq_true rfl) (Nat.le_of_ble_eq_true rfl) (by (repeat (first | exact updF_self _ _ _ _ | (apply updF_i; · decide) | (apply updF_a; · first | assumption | (apply Ne.symm; assumption) | omega) | (apply newF_a; · first | assumption | (apply Ne.symm; assumption) | omega) | exact newL_self (by rfl) | exact newF_self (by rfl) | (apply cpyF_a; · first | assumption | (apply Ne.symm; assumption) | omega))) <;> first | assumption | rfl) ?_
  first | with_reducible refine wa_iaddN (pc := 12) (y := mX3_isGoing) dX3_isGoing_12 ?_ | refine wa_iadd (pc := 12) (y := mX3_isGoing) dX3_isGoing_12 ?_
  refine wa_icmp_ge (pc := 13) 20 dX3_isGoing_13 rfl (fun hb13 => ?_) (fun hb13 => ?_)
  · refine wa_iconst (pc := 20) (y := mX3_isGoing) (Int32.ofNat 0) dX3_isGoing_20 rfl ?_
    refine wa_ireturn (pc := 21) (y := mX3_isGoing) .boolean dX3_isGoing_21 rfl (by first | rfl | exact bI_nar _) ⟨by unfold isG; first | rw [decide_eq_true (Int32.not_le.mp hb13)]; rfl | rw [decide_eq_false (Int32.not_lt.mpr hb13)]; rfl, rfl⟩
  · refine wa_iconst (pc := 16) (y := mX3_isGoing) (Int32.ofNat 1) dX3_isGoing_16 rfl ?_
    refine wa_goto (pc := 17) (y := mX3_isGoing) 21 dX3_isGoing_17 rfl ?_
    refine wa_ireturn (pc := 21) (y := mX3_isGoing) .boolean dX3_isGoing_21 rfl (by first | rfl | exact bI_nar _) ⟨by unfold isG; first | rw [decide_eq_true (Int32.not_le.mp hb13)]; rfl | rw [decide_eq_false (Int32.not_lt.mpr hb13)]; rfl, rfl⟩
theorem s_X3_begin (hd : 1 ≤ d) (T : FadR h F g a c) : MA G d mX3_begin [.ref a, .int v, .int x, .int z] (sF h F) (fun r h' => r = .inl none ∧ h' = sF h (updF (updF (updF (updF (updF F a 0 (.int (nowG g c))) a 1 (.int v)) a 2 (.int x)) a 3 (.int z)) a 4 (.int 0))) := by
  have T9 := T
  have t1 := T.1
  change WA G d mX3_begin 0 [.ref a, .int v, .int x, .int z] [] _ _
  refine wa_aloadV_n (pc := 0) (y := mX3_begin) dX3_begin_0 rfl (by first | exact rf_s _ | exact rf_n | exact rf_q _) ?_
  refine wa_aloadV_n (pc := 1) (y := mX3_begin) dX3_begin_1 rfl (by first | exact rf_s _ | exact rf_n | exact rf_q _) ?_
  refine wa_callV (pc := 2) (s_X3_now (d := d - 1) T9) dX3_begin_2 okX3_now q2299 q1167 q1168 (sF_at (by assumption)) rfl rfl rfl (Nat.le_of_ble_eq_true rfl) (Nat.le_of_ble_eq_true rfl) (by omega) ?_
  rintro _ _ - - ⟨rfl, rfl⟩
  refine aft_v (pc2 := 5) ?_ rfl
  refine wf_put (k := 2) (l := 5) 0 .int dX3_begin_5 (by assumption) rfl q252 (Or.inl rfl) (Nat.le_of_ble_eq_true rfl) rfl (by decide +kernel) rfl rfl ?_
  refine wa_aloadV_n (pc := 8) (y := mX3_begin) dX3_begin_8 rfl (by first | exact rf_s _ | exact rf_n | exact rf_q _) ?_
  refine wa_iload_n (pc := 9) (y := mX3_begin) dX3_begin_9 rfl ?_
  refine wf_put (k := 2) (l := 5) 1 .int dX3_begin_10 (by assumption) rfl q253 (Or.inl rfl) (Nat.le_of_ble_eq_true rfl) rfl (by decide +kernel) rfl rfl ?_
  refine wa_aloadV_n (pc := 13) (y := mX3_begin) dX3_begin_13 rfl (by first | exact rf_s _ | exact rf_n | exact rf_q _) ?_
  refine wa_iload_n (pc := 14) (y := mX3_begin) dX3_begin_14 rfl ?_
  refine wf_put (k := 2) (l := 5) 2 .int dX3_begin_15 (by assumption) rfl q256 (Or.inl rfl) (Nat.le_of_ble_eq_true rfl) rfl (by decide +kernel) rfl rfl ?_
  refine wa_aloadV_n (pc := 18) (y := mX3_begin) dX3_begin_18 rfl (by first | exact rf_s _ | exact rf_n | exact rf_q _) ?_
  refine wa_iload_n (pc := 19) (y := mX3_begin) dX3_begin_19 rfl ?_
  refine wf_put (k := 2) (l := 5) 3 .int dX3_begin_20 (by assumption) rfl q257 (Or.inl rfl) (Nat.le_of_ble_eq_true rfl) rfl (by decide +kernel) rfl rfl ?_
  refine wa_aloadV_n (pc := 23) (y := mX3_begin) dX3_begin_23 rfl (by first | exact rf_s _ | exact rf_n | exact rf_q _) ?_
  refine wa_iconst (pc := 24) (y := mX3_begin) (Int32.ofNat 0) dX3_begin_24 rfl ?_
  refine wf_put (k := 2) (l := 5) 4 .int dX3_begin_25 (by assumption) rfl q258 (Or.inl rfl) (Nat.le_of_ble_eq_true rfl) rfl (by decide +kernel) rfl rfl ?_
  refine wa_return (pc := 28) (y := mX3_begin) dX3_begin_28 rfl ⟨rfl, rfl⟩
theorem s_X3_copy (hd : 2 ≤ d) (T : FadR h F g a c) : MA G d mX3_copy [.ref a] (sF h F) (fun r h' => ∃ (h2 : AH) (F2 : Nat → Nat → Value), r = .inl (some (.ref h.1)) ∧ h' = sF h2 F2 ∧ Fr NoP h F h2 F2 ∧ Cst 2 h h2 ∧ FadR h2 F2 g h.1 c) := by
  obtain ⟨t1, t2, t3, t4, t5, t6⟩ := T
  have i9 : Is (hNew h 2 5) h.1 2 5 := Is.self
  have hne : a ≠ h.1 := Nat.ne_of_lt t1.lt
  have ia9 := t1.new (k2 := 2) (l2 := 5)
  change WA G d mX3_copy 0 [.ref a, .retAddr 0] [] _ _
  refine wf_new (k := 2) (l := 5) [.int 0, .int 0, .int 0, .int 0, .int 0] tyX3 dX3_copy_0 rfl q1672 q247 q92 tyX3_ok rfl rfl ?_
  refine wa_dup (pc := 3) (y := mX3_copy) dX3_copy_3 (by first | rfl | exact rf_cat _) ?_
  refine wa_callI (pc := 4) (s_X3_init (d := d - 1) (by omega)) dX3_copy_4 okX3_init rfl rfl rfl q1673 q249 rfl rfl (Nat.le_of_ble_eq_true rfl) (Nat.le_of_ble_eq_true rfl) (by omega) ?_
  rintro _ _ - - ⟨rfl, rfl⟩
  refine aft_0 (pc2 := 7) ?_ rfl
  refine wa_astoreV_n (pc := 7) (y := mX3_copy) dX3_copy_7 (Nat.le_of_ble_eq_true rfl) (by first | rfl | (simp [okst, rf_cat] <;> assumption)) (by first | exact rf_s _ | exact rf_n | exact rf_q _) ?_
  change WA _ _ _ _ (List.set _ 1 _) _ _ _
  simp only [List.set_cons_zero, List.set_cons_succ]
  refine wa_aloadV_n (pc := 8) (y := mX3_copy) dX3_copy_8 rfl (by first | exact rf_s _ | exact rf_n | exact rf_q _) ?_
  refine wa_aloadV_n (pc := 9) (y := mX3_copy) dX3_copy_9 rfl (by first | exact rf_s _ | exact rf_n | exact rf_q _) ?_
  refine wf_get (k := 2) (l := 5) 0 dX3_copy_10 (by assumption) rfl q252 (Or.inl rfl) (Nat.le_of_ble_eq_true rfl) (Nat.le_of_ble_eq_true rfl) (by (repeat (first | exact updF_self _ _ _ _ | (apply updF_i; · decide) | (apply updF_a; · first | assumption | (apply Ne.symm; assumption) | omega) | (apply newF_a; · first | assumption | (apply Ne.symm; assumption) | omega) | exact newL_self (by rfl) | exact newF_self (by rfl) | (apply cpyF_a; · first | assumption | (apply Ne.symm; assumption) | omega))) <;> first | assumption | rfl) ?_
  refine wf_put (k := 2) (l := 5) 0 .int dX3_copy_13 (by assumption) rfl q252 (Or.inl rfl) (Nat.le_of_ble_eq_true rfl) rfl (by decide +kernel) rfl rfl ?_
  refine wa_aloadV_n (pc := 16) (y := mX3_copy) dX3_copy_16 rfl (by first | exact rf_s _ | exact rf_n | exact rf_q _) ?_
  refine wa_aloadV_n (pc := 17) (y := mX3_copy) dX3_copy_17 rfl (by first | exact rf_s _ | exact rf_n | exact rf_q _) ?_
  refine wf_get (k := 2) (l := 5) 1 dX3_copy_18 (by assumption) rfl q253 (Or.inl rfl) (Nat.le_of_ble_eq_true rfl) (Nat.le_of_ble_eq_true rfl) (by (repeat (first | exact updF_self _ _ _ _ | (apply updF_i; · decide) | (apply updF_a; · first | assumption | (apply Ne.symm; assumption) | omega) | (apply newF_a; · first | assumption | (apply Ne.symm; assumption) | omega) | exact newL_self (by rfl) | exact newF_self (by rfl) | (apply cpyF_a; · first | assumption | (apply Ne.symm; assumption) | omega))) <;> first | assumption | rfl) ?_
  refine wf_put (k := 2) (l := 5) 1 .int dX3_copy_21 (by assumption) rfl q253 (Or.inl rfl) (Nat.le_of_ble_eq_true rfl) rfl (by decide +kernel) rfl rfl ?_
  refine wa_aloadV_n (pc := 24) (y := mX3_copy) dX3_copy_24 rfl (by first | exact rf_s _ | exact rf_n | exact rf_q _) ?_
  refine wa_aloadV_n (pc := 25) (y := mX3_copy) dX3_copy_25 rfl (by first | exact rf_s _ | exact rf_n | exact rf_q _) ?_
  refine wf_get (k := 2) (l := 5) 2 dX3_copy_26 (by assumption) rfl q256 (Or.inl rfl) (Nat.le_of_ble_eq_true rfl) (Nat.le_of_ble_eq_true rfl) (by (repeat (first | exact updF_self _ _ _ _ | (apply updF_i; · decide) | (apply updF_a; · first | assumption | (apply Ne.symm; assumption) | omega) | (apply newF_a; · first | assumption | (apply Ne.symm; assumption) | omega) | exact newL_self (by rfl) | exact newF_self (by rfl) | (apply cpyF_a; · first | assumption | (apply Ne.symm; assumption) | omega))) <;> first | assumption | rfl) ?_
  refine wf_put (k := 2) (l := 5) 2 .int dX3_copy_29 (by assumption) rfl q256 (Or.inl rfl) (Nat.le_of_ble_eq_true rfl) rfl (by decide +kernel) rfl rfl ?_
  refine wa_aloadV_n (pc := 32) (y := mX3_copy) dX3_copy_32 rfl (by first | exact rf_s _ | exact rf_n | exact rf_q _) ?_
  refine wa_aloadV_n (pc := 33) (y := mX3_copy) dX3_copy_33 rfl (by first | exact rf_s _ | exact rf_n | exact rf_q _) ?_
  refine wf_get (k := 2) (l := 5) 3 dX3_copy_34 (by assumption) rfl q257 (Or.inl rfl) (Nat.le_of_ble_eq_true rfl) (Nat.le_of_ble_eq_true rfl) (by (repeat (first | exact updF_self _ _ _ _ | (apply updF_i; · decide) | (apply updF_a; · first | assumption | (apply Ne.symm; assumption) | omega) | (apply newF_a; · first | assumption | (apply Ne.symm; assumption) | omega) | exact newL_self (by rfl) | exact newF_self (by rfl) | (apply cpyF_a; · first | assumption | (apply Ne.symm; assumption) | omega))) <;> first | assumption | rfl) ?_
  refine wf_put (k := 2) (l := 5) 3 .int dX3_copy_37 (by assumption) rfl q257 (Or.inl rfl) (Nat.le_of_ble_eq_true rfl) rfl (by decide +kernel) rfl rfl ?_
  refine wa_aloadV_n (pc := 40) (y := mX3_copy) dX3_copy_40 rfl (by first | exact rf_s _ | exact rf_n | exact rf_q _) ?_
  refine wa_aloadV_n (pc := 41) (y := mX3_copy) dX3_copy_41 rfl (by first | exact rf_s _ | exact rf_n | exact rf_q _) ?_
  refine wf_get (k := 2) (l := 5) 4 dX3_copy_42 (by assumption) rfl q258 (Or.inl rfl) (Nat.le_of_ble_eq_true rfl) (Nat.le_of_ble_eq_true rfl) (by (repeat (first | exact updF_self _ _ _ _ | (apply updF_i; · decide) | (apply updF_a; · first | assumption | (apply Ne.symm; assumption) | omega) | (apply newF_a; · first | assumption | (apply Ne.symm; assumption) | omega) | exact newL_self (by rfl) | exact newF_self (by rfl) | (apply cpyF_a; · first | assumption | (apply Ne.symm; assumption) | omega))) <;> first | assumption | rfl) ?_
  refine wf_put (k := 2) (l := 5) 4 .int dX3_copy_45 (by assumption) rfl q258 (Or.inl rfl) (Nat.le_of_ble_eq_true rfl) rfl (by decide +kernel) rfl rfl ?_
  refine wa_aloadV_n (pc := 48) (y := mX3_copy) dX3_copy_48 rfl (by first | exact rf_s _ | exact rf_n | exact rf_q _) ?_
  refine wa_areturnV (pc := 49) (y := mX3_copy) (.object "CueStack$Fade") dX3_copy_49 rfl (Or.inl ⟨_, rfl⟩) (by first | exact rf_s _ | exact rf_n | exact rf_q _) ⟨_, _, rfl, rfl, (((((Fr.newT Fr.refl).updT (Or.inr (Nat.le_refl _))).updT (Or.inr (Nat.le_refl _))).updT (Or.inr (Nat.le_refl _))).updT (Or.inr (Nat.le_refl _))).updT (Or.inr (Nat.le_refl _)), ⟨by show h.1 + 1 ≤ h.1 + 2; omega, by show h.2.1 + 5 ≤ h.2.1 + 4 * 2; omega⟩, i9, (by (repeat (first | exact updF_self _ _ _ _ | (apply updF_i; · decide) | (apply updF_a; · first | assumption | (apply Ne.symm; assumption) | omega) | (apply newF_a; · first | assumption | (apply Ne.symm; assumption) | omega) | exact newL_self (by rfl) | exact newF_self (by rfl) | (apply cpyF_a; · first | assumption | (apply Ne.symm; assumption) | omega))) <;> first | assumption | rfl), (by (repeat (first | exact updF_self _ _ _ _ | (apply updF_i; · decide) | (apply updF_a; · first | assumption | (apply Ne.symm; assumption) | omega) | (apply newF_a; · first | assumption | (apply Ne.symm; assumption) | omega) | exact newL_self (by rfl) | exact newF_self (by rfl) | (apply cpyF_a; · first | assumption | (apply Ne.symm; assumption) | omega))) <;> first | assumption | rfl), (by (repeat (first | exact updF_self _ _ _ _ | (apply updF_i; · decide) | (apply updF_a; · first | assumption | (apply Ne.symm; assumption) | omega) | (apply newF_a; · first | assumption | (apply Ne.symm; assumption) | omega) | exact newL_self (by rfl) | exact newF_self (by rfl) | (apply cpyF_a; · first | assumption | (apply Ne.symm; assumption) | omega))) <;> first | assumption | rfl), (by (repeat (first | exact updF_self _ _ _ _ | (apply updF_i; · decide) | (apply updF_a; · first | assumption | (apply Ne.symm; assumption) | omega) | (apply newF_a; · first | assumption | (apply Ne.symm; assumption) | omega) | exact newL_self (by rfl) | exact newF_self (by rfl) | (apply cpyF_a; · first | assumption | (apply Ne.symm; assumption) | omega))) <;> first | assumption | rfl), (by (repeat (first | exact updF_self _ _ _ _ | (apply updF_i; · decide) | (apply updF_a; · first | assumption | (apply Ne.symm; assumption) | omega) | (apply newF_a; · first | assumption | (apply Ne.symm; assumption) | omega) | exact newL_self (by rfl) | exact newF_self (by rfl) | (apply cpyF_a; · first | assumption | (apply Ne.symm; assumption) | omega))) <;> first | assumption | rfl)⟩
theorem s_X8_init (hd : 1 ≤ d) (hi : Is h q 7 2) : MA G d mX8_init [.ref q, .int x] (sF h F) (fun r h' => r = .inl none ∧ h' = sF h (updF F q 0 (.int x))) := by
  change WA G d mX8_init 0 [.ref q, .int x] [] _ _
  refine wa_aloadV_n (pc := 0) (y := mX8_init) dX8_init_0 rfl (by first | exact rf_s _ | exact rf_n | exact rf_q _) ?_
  refine wa_objInit (pc := 1) (y := mX8_init) dX8_init_1 q1952 q151 q152 (Nat.le_of_ble_eq_true rfl) (by omega) ?_
  refine wa_aloadV_n (pc := 4) (y := mX8_init) dX8_init_4 rfl (by first | exact rf_s _ | exact rf_n | exact rf_q _) ?_
  refine wa_iload_n (pc := 5) (y := mX8_init) dX8_init_5 rfl ?_
  refine wf_putF (k := 7) (l := 2) 0 .int dX8_init_6 (by assumption) rfl q1954 (Or.inl rfl) (Nat.le_of_ble_eq_true rfl) rfl rfl rfl (by decide +kernel) rfl rfl ?_
  refine wa_return (pc := 9) (y := mX8_init) dX8_init_9 rfl ⟨rfl, rfl⟩
theorem s_X8_init8 (hd : 1 ≤ d) (hi : Is h q 8 1) : MA G d mX8_init [.ref q, .int x] (sF h F) (fun r h' => r = .inl none ∧ h' = sF h (updF F q 0 (.int x))) := by
  change WA G d mX8_init 0 [.ref q, .int x] [] _ _
  refine wa_aloadV_n (pc := 0) (y := mX8_init) dX8_init_0 rfl (by first | exact rf_s _ | exact rf_n | exact rf_q _) ?_
  refine wa_objInit (pc := 1) (y := mX8_init) dX8_init_1 q1952 q151 q152 (Nat.le_of_ble_eq_true rfl) (by omega) ?_
  refine wa_aloadV_n (pc := 4) (y := mX8_init) dX8_init_4 rfl (by first | exact rf_s _ | exact rf_n | exact rf_q _) ?_
  refine wa_iload_n (pc := 5) (y := mX8_init) dX8_init_5 rfl ?_
  refine wf_putF (k := 8) (l := 1) 0 .int dX8_init_6 (by assumption) rfl q1954 (Or.inl rfl) (Nat.le_of_ble_eq_true rfl) rfl rfl rfl (by decide +kernel) rfl rfl ?_
  refine wa_return (pc := 9) (y := mX8_init) dX8_init_9 rfl ⟨rfl, rfl⟩
theorem s_X9_init (hd : 2 ≤ d) (hi : Is h q 7 2) : MA G d mX9_init [.ref q, .int x, .int z] (sF h F) (fun r h' => r = .inl none ∧ h' = sF h (updF (updF F q 0 (.int x)) q 1 (.int z))) := by
  change WA G d mX9_init 0 [.ref q, .int x, .int z] [] _ _
  refine wa_aloadV_n (pc := 0) (y := mX9_init) dX9_init_0 rfl (by first | exact rf_s _ | exact rf_n | exact rf_q _) ?_
  refine wa_iload_n (pc := 1) (y := mX9_init) dX9_init_1 rfl ?_
  refine wa_callI (pc := 2) (s_X8_init (d := d - 1) (by omega) hi) dX9_init_2 okX8_init rfl rfl rfl q1949 q1950 rfl rfl (Nat.le_of_ble_eq_true rfl) (Nat.le_of_ble_eq_true rfl) (by omega) ?_
  rintro _ _ - - ⟨rfl, rfl⟩
  refine aft_0 (pc2 := 5) ?_ rfl
  refine wa_aloadV_n (pc := 5) (y := mX9_init) dX9_init_5 rfl (by first | exact rf_s _ | exact rf_n | exact rf_q _) ?_
  refine wa_iload_n (pc := 6) (y := mX9_init) dX9_init_6 rfl ?_
  refine wf_putF (k := 7) (l := 2) 1 .int dX9_init_7 (by assumption) rfl q1953 (Or.inl rfl) (Nat.le_of_ble_eq_true rfl) rfl rfl rfl (by decide +kernel) rfl rfl ?_
  refine wa_return (pc := 10) (y := mX9_init) dX9_init_10 rfl ⟨rfl, rfl⟩
theorem s_X11_init (hd : 2 ≤ d) (hi : Is h q 8 1) : MA G d mX11_init [.ref q, .int x] (sF h F) (fun r h' => r = .inl none ∧ h' = sF h (updF F q 0 (.int x))) := by
  change WA G d mX11_init 0 [.ref q, .int x] [] _ _
  refine wa_aloadV_n (pc := 0) (y := mX11_init) dX11_init_0 rfl (by first | exact rf_s _ | exact rf_n | exact rf_q _) ?_
  refine wa_iload_n (pc := 1) (y := mX11_init) dX11_init_1 rfl ?_
  refine wa_callI (pc := 2) (s_X8_init8 (d := d - 1) (by omega) hi) dX11_init_2 okX8_init rfl rfl rfl q2177 q1950 rfl rfl (Nat.le_of_ble_eq_true rfl) (Nat.le_of_ble_eq_true rfl) (by omega) ?_
  rintro _ _ - - ⟨rfl, rfl⟩
  refine aft_0 (pc2 := 5) ?_ rfl
  refine wa_return (pc := 5) (y := mX11_init) dX11_init_5 rfl ⟨rfl, rfl⟩
theorem s_X7_length (C : CueR h F dl tm f a k) (hq : q < 4) : MA G d mX7_length [.ref a, .int (Int32.ofNat q)] (sF h F) (fun r h' => r = .inl (some (.int (f (18 + 12 * k + 4 + 2 * q) + f (18 + 12 * k + 4 + 2 * q + 1)))) ∧ h' = sF h F) := by
  obtain ⟨t1, t2, t3, t4, t5, t6, t7, t8, t9, t10, t11, t12, t13⟩ := C
  obtain ⟨e1, e2⟩ := t11 q hq
  change WA G d mX7_length 0 [.ref a, .int (Int32.ofNat q)] [] _ _
  refine wa_aloadV_n (pc := 0) (y := mX7_length) dX7_length_0 rfl (by first | exact rf_s _ | exact rf_n | exact rf_q _) ?_
  refine wf_get (k := 6) (l := 6) 4 dX7_length_1 (by assumption) rfl q1204 (Or.inl rfl) (Nat.le_of_ble_eq_true rfl) (Nat.le_of_ble_eq_true rfl) (by (repeat (first | exact updF_self _ _ _ _ | (apply updF_i; · decide) | (apply updF_a; · first | assumption | (apply Ne.symm; assumption) | omega) | (apply newF_a; · first | assumption | (apply Ne.symm; assumption) | omega) | exact newL_self (by rfl) | exact newF_self (by rfl) | (apply cpyF_a; · first | assumption | (apply Ne.symm; assumption) | omega))) <;> first | assumption | rfl) ?_
  refine wa_iload_n (pc := 4) (y := mX7_length) dX7_length_4 rfl ?_
  refine wf_iaload dX7_length_5 (by assumption) (by omega) (by (repeat (first | exact updF_self _ _ _ _ | (apply updF_i; · decide) | (apply updF_a; · first | assumption | (apply Ne.symm; assumption) | omega) | (apply newF_a; · first | assumption | (apply Ne.symm; assumption) | omega) | exact newL_self (by rfl) | exact newF_self (by rfl) | (apply cpyF_a; · first | assumption | (apply Ne.symm; assumption) | omega))) <;> first | assumption | rfl) ?_
  refine wa_aloadV_n (pc := 6) (y := mX7_length) dX7_length_6 rfl (by first | exact rf_s _ | exact rf_n | exact rf_q _) ?_
  refine wf_get (k := 6) (l := 6) 5 dX7_length_7 (by assumption) rfl q1207 (Or.inl rfl) (Nat.le_of_ble_eq_true rfl) (Nat.le_of_ble_eq_true rfl) (by (repeat (first | exact updF_self _ _ _ _ | (apply updF_i; · decide) | (apply updF_a; · first | assumption | (apply Ne.symm; assumption) | omega) | (apply newF_a; · first | assumption | (apply Ne.symm; assumption) | omega) | exact newL_self (by rfl) | exact newF_self (by rfl) | (apply cpyF_a; · first | assumption | (apply Ne.symm; assumption) | omega))) <;> first | assumption | rfl) ?_
  refine wa_iload_n (pc := 10) (y := mX7_length) dX7_length_10 rfl ?_
  refine wf_iaload dX7_length_11 (by assumption) (by omega) (by (repeat (first | exact updF_self _ _ _ _ | (apply updF_i; · decide) | (apply updF_a; · first | assumption | (apply Ne.symm; assumption) | omega) | (apply newF_a; · first | assumption | (apply Ne.symm; assumption) | omega) | exact newL_self (by rfl) | exact newF_self (by rfl) | (apply cpyF_a; · first | assumption | (apply Ne.symm; assumption) | omega))) <;> first | assumption | rfl) ?_
  first | with_reducible refine wa_iaddN (pc := 12) (y := mX7_length) dX7_length_12 ?_ | refine wa_iadd (pc := 12) (y := mX7_length) dX7_length_12 ?_
  refine wa_ireturn (pc := 13) (y := mX7_length) .int dX7_length_13 rfl rfl ⟨rfl, rfl⟩
/-- a cue as its constructor leaves it -/
def CinQ (a : Nat) (v : Int32) (h : AH) (F : Nat → Nat → Value) (h2 : AH) (F2 : Nat → Nat → Value) : Prop := Fr (· = a) h F h2 F2 ∧ Cst 2 h h2 ∧ Is h2 h.1 32 4 ∧ Is h2 (h.1 + 1) 32 4 ∧ F2 a 0 = .int v ∧ F2 a 1 = F a 1 ∧ F2 a 2 = F a 2 ∧ F2 a 3 = .int (-1) ∧ F2 a 4 = .ref h.1 ∧ F2 a 5 = .ref (h.1 + 1) ∧ ∀ q, q < 4 → F2 h.1 q = .int 0 ∧ F2 (h.1 + 1) q = .int 0
theorem s_X7_init (hd : 1 ≤ d) (hi : Is h a 6 6) : MA G d mX7_init [.ref a, .int v] (sF h F) (fun r h' => ∃ (h2 : AH) (F2 : Nat → Nat → Value), r = .inl none ∧ h' = sF h2 F2 ∧ CinQ a v h F h2 F2) := by
  have hlt := hi.lt
  have n1 : a ≠ h.1 := Nat.ne_of_lt hlt
  have n2 : a ≠ h.1 + 1 := by omega
  have n3 : h.1 ≠ h.1 + 1 := by omega
  have i1 : Is (hNew h 32 4) h.1 32 4 := Is.self
  have i2 : Is (hNew (hNew h 32 4) 32 4) (h.1 + 1) 32 4 := Is.self (h := hNew h 32 4)
  have ia := hi.new (k2 := 32) (l2 := 4)
  have ia2 := ia.new (k2 := 32) (l2 := 4)
  change WA G d mX7_init 0 [.ref a, .int v] [] _ _
  refine wa_aloadV_n (pc := 0) (y := mX7_init) dX7_init_0 rfl (by first | exact rf_s _ | exact rf_n | exact rf_q _) ?_
  refine wa_objInit (pc := 1) (y := mX7_init) dX7_init_1 q1191 q151 q152 (Nat.le_of_ble_eq_true rfl) (by omega) ?_
  refine wa_aloadV_n (pc := 4) (y := mX7_init) dX7_init_4 rfl (by first | exact rf_s _ | exact rf_n | exact rf_q _) ?_
  refine wa_iconst (pc := 5) (y := mX7_init) (-1) dX7_init_5 rfl ?_
  refine wf_put (k := 6) (l := 6) 3 .int dX7_init_6 (by assumption) rfl q1201 (Or.inl rfl) (Nat.le_of_ble_eq_true rfl) rfl (by decide +kernel) rfl rfl ?_
  refine wa_aloadV_n (pc := 9) (y := mX7_init) dX7_init_9 rfl (by first | exact rf_s _ | exact rf_n | exact rf_q _) ?_
  refine wa_iconst (pc := 10) (y := mX7_init) (Int32.ofNat 4) dX7_init_10 rfl ?_
  refine wf_newarray 32 dX7_init_11 (by decide) (Or.inl ⟨rfl, rfl⟩) q271 ?_
  refine wf_putF (k := 6) (l := 6) 4 (.array .int) dX7_init_13 (by assumption) rfl q1204 (Or.inl rfl) (Nat.le_of_ble_eq_true rfl) rfl rfl rfl (by decide +kernel) (by first | rfl | exact rf_nar _ | exact rf_nar2 _) (by first | rfl | exact rf_fit _ | exact rf_fit2 _) ?_
  refine wa_aloadV_n (pc := 16) (y := mX7_init) dX7_init_16 rfl (by first | exact rf_s _ | exact rf_n | exact rf_q _) ?_
  refine wa_iconst (pc := 17) (y := mX7_init) (Int32.ofNat 4) dX7_init_17 rfl ?_
  refine wf_newarray 32 dX7_init_18 (by decide) (Or.inl ⟨rfl, rfl⟩) q271 ?_
  refine wf_putF (k := 6) (l := 6) 5 (.array .int) dX7_init_20 (by assumption) rfl q1207 (Or.inl rfl) (Nat.le_of_ble_eq_true rfl) rfl rfl rfl (by decide +kernel) (by first | rfl | exact rf_nar _ | exact rf_nar2 _) (by first | rfl | exact rf_fit _ | exact rf_fit2 _) ?_
  refine wa_aloadV_n (pc := 23) (y := mX7_init) dX7_init_23 rfl (by first | exact rf_s _ | exact rf_n | exact rf_q _) ?_
  refine wa_iload_n (pc := 24) (y := mX7_init) dX7_init_24 rfl ?_
  refine wf_putF (k := 6) (l := 6) 0 .int dX7_init_25 (by assumption) rfl q1192 (Or.inl rfl) (Nat.le_of_ble_eq_true rfl) rfl rfl rfl (by decide +kernel) rfl rfl ?_
  refine wa_return (pc := 28) (y := mX7_init) dX7_init_28 rfl ⟨_, _, rfl, rfl, ((((((Fr.refl (P := (· = a))).updT (Or.inl rfl)).newT.updT (Or.inl rfl)).newT).updT (Or.inl rfl)).updT (Or.inl rfl)), ⟨by show h.1 + 1 + 1 ≤ h.1 + 2; omega, by show h.2.1 + 4 + 4 ≤ h.2.1 + 4 * 2; omega⟩, i1.new, i2, (by (repeat (first | exact updF_self _ _ _ _ | (apply updF_i; · decide) | (apply updF_a; · first | assumption | (apply Ne.symm; assumption) | omega) | (apply newF_a; · first | assumption | (apply Ne.symm; assumption) | omega) | exact newL_self (by rfl) | exact newF_self (by rfl) | (apply cpyF_a; · first | assumption | (apply Ne.symm; assumption) | omega))) <;> first | assumption | rfl), (by (repeat (first | exact updF_self _ _ _ _ | (apply updF_i; · decide) | (apply updF_a; · first | assumption | (apply Ne.symm; assumption) | omega) | (apply newF_a; · first | assumption | (apply Ne.symm; assumption) | omega) | exact newL_self (by rfl) | exact newF_self (by rfl) | (apply cpyF_a; · first | assumption | (apply Ne.symm; assumption) | omega))) <;> first | assumption | rfl), (by (repeat (first | exact updF_self _ _ _ _ | (apply updF_i; · decide) | (apply updF_a; · first | assumption | (apply Ne.symm; assumption) | omega) | (apply newF_a; · first | assumption | (apply Ne.symm; assumption) | omega) | exact newL_self (by rfl) | exact newF_self (by rfl) | (apply cpyF_a; · first | assumption | (apply Ne.symm; assumption) | omega))) <;> first | assumption | rfl), (by (repeat (first | exact updF_self _ _ _ _ | (apply updF_i; · decide) | (apply updF_a; · first | assumption | (apply Ne.symm; assumption) | omega) | (apply newF_a; · first | assumption | (apply Ne.symm; assumption) | omega) | exact newL_self (by rfl) | exact newF_self (by rfl) | (apply cpyF_a; · first | assumption | (apply Ne.symm; assumption) | omega))) <;> first | assumption | rfl), (by (repeat (first | exact updF_self _ _ _ _ | (apply updF_i; · decide) | (apply updF_a; · first | assumption | (apply Ne.symm; assumption) | omega) | (apply newF_a; · first | assumption | (apply Ne.symm; assumption) | omega) | exact newL_self (by rfl) | exact newF_self (by rfl) | (apply cpyF_a; · first | assumption | (apply Ne.symm; assumption) | omega))) <;> first | assumption | rfl), (by (repeat (first | exact updF_self _ _ _ _ | (apply updF_i; · decide) | (apply updF_a; · first | assumption | (apply Ne.symm; assumption) | omega) | (apply newF_a; · first | assumption | (apply Ne.symm; assumption) | omega) | exact newL_self (by rfl) | exact newF_self (by rfl) | (apply cpyF_a; · first | assumption | (apply Ne.symm; assumption) | omega))) <;> first | assumption | rfl), fun q hq => ⟨(by (repeat (first | exact updF_self _ _ _ _ | (apply updF_i; · decide) | (apply updF_a; · first | assumption | (apply Ne.symm; assumption) | omega) | (apply newF_a; · first | assumption | (apply Ne.symm; assumption) | omega) | exact newL_self (by rfl) | exact newF_self (by rfl) | (apply cpyF_a; · first | assumption | (apply Ne.symm; assumption) | omega))) <;> first | assumption | rfl), (by (repeat (first | exact updF_self _ _ _ _ | (apply updF_i; · decide) | (apply updF_a; · first | assumption | (apply Ne.symm; assumption) | omega) | (apply newF_a; · first | assumption | (apply Ne.symm; assumption) | omega) | exact newL_self (by rfl) | exact newF_self (by rfl) | (apply cpyF_a; · first | assumption | (apply Ne.symm; assumption) | omega))) <;> first | assumption | rfl)⟩⟩
theorem s_X7_copy (hd : 2 ≤ d) (C : CueR h F dl tm f a k) : MA G d mX7_copy [.ref a] (sF h F) (fun r h' => ∃ (h2 : AH) (F2 : Nat → Nat → Value), r = .inl (some (.ref h.1)) ∧ h' = sF h2 F2 ∧ Fr NoP h F h2 F2 ∧ Cst 4 h h2 ∧ CueR h2 F2 (h.1 + 1) (h.1 + 2) f h.1 k) := by
  have t1 := C.1
  have t3 := C.2.2.1
  have ia9 := t1.new (k2 := 6) (l2 := 6)
  have hab : a ≠ h.1 := Nat.ne_of_lt t1.lt
  change WA G d mX7_copy 0 [.ref a, .retAddr 0] [] _ _
  refine wf_new (k := 6) (l := 6) [.int 0, .int 0, .int 0, .int 0, .null, .null] tyX7 dX7_copy_0 rfl q1186 q1187 q116 tyX7_ok rfl rfl ?_
  refine wa_dup (pc := 3) (y := mX7_copy) dX7_copy_3 (by first | rfl | exact rf_cat _) ?_
  refine wa_aloadV_n (pc := 4) (y := mX7_copy) dX7_copy_4 rfl (by first | exact rf_s _ | exact rf_n | exact rf_q _) ?_
  refine wf_get (k := 6) (l := 6) 0 dX7_copy_5 (by assumption) rfl q1192 (Or.inl rfl) (Nat.le_of_ble_eq_true rfl) (Nat.le_of_ble_eq_true rfl) (by (repeat (first | exact updF_self _ _ _ _ | (apply updF_i; · decide) | (apply updF_a; · first | assumption | (apply Ne.symm; assumption) | omega) | (apply newF_a; · first | assumption | (apply Ne.symm; assumption) | omega) | exact newL_self (by rfl) | exact newF_self (by rfl) | (apply cpyF_a; · first | assumption | (apply Ne.symm; assumption) | omega))) <;> first | assumption | rfl) ?_
  refine wa_callI (pc := 8) (s_X7_init (d := d - 1) (a := h.1) (v := f (18 + 12 * k)) (by omega) (Is.self (h := h))) dX7_copy_8 okX7_init rfl rfl rfl q1188 q1189 rfl rfl (Nat.le_of_ble_eq_true rfl) (Nat.le_of_ble_eq_true rfl) (by omega) ?_
  rintro _ _ - - ⟨h2, F2, rfl, rfl, fr0, cst, i1, i2, e0, e1, e2, e3, e4, e5, e6⟩
  refine aft_0 (pc2 := 11) ?_ rfl
  have fr : Fr NoP h F h2 F2 := (Fr.newT Fr.refl).trans fr0 (fun b hb e => absurd e (by omega))
  obtain ⟨u1, u2, u3, u4, u5, u6, u7, u8, u9, u10, u11, u12, u13⟩ := C.fr fr (fun q => q) (fun q => q) (fun q => q)
  have ib : Is h2 h.1 6 6 := (Is.self (h := h)).ext fr0.1
  have hab : a ≠ h.1 := Nat.ne_of_lt t1.lt
  have hda : dl ≠ h.1 := Nat.ne_of_lt C.2.2.2.2.2.2.2.2.1.lt
  have hta : tm ≠ h.1 := Nat.ne_of_lt C.2.2.2.2.2.2.2.2.2.1.lt
  have hd1 : dl ≠ h.1 + 1 := by have := C.2.2.2.2.2.2.2.2.1.lt; omega
  have ht1 : tm ≠ h.1 + 1 := by have := C.2.2.2.2.2.2.2.2.2.1.lt; omega
  have hd2 : dl ≠ h.1 + 1 + 1 := by have := C.2.2.2.2.2.2.2.2.1.lt; omega
  have ht2 : tm ≠ h.1 + 1 + 1 := by have := C.2.2.2.2.2.2.2.2.2.1.lt; omega
  have hb1 : h.1 ≠ h.1 + 1 := by omega
  have hb2 : h.1 ≠ h.1 + 1 + 1 := by omega
  have hb3 : h.1 + 1 ≠ h.1 + 1 + 1 := by omega
  have hab1 : a ≠ h.1 + 1 := by have := t1.lt; omega
  refine wa_astoreV_n (pc := 11) (y := mX7_copy) dX7_copy_11 (Nat.le_of_ble_eq_true rfl) (by first | rfl | (simp [okst, rf_cat] <;> assumption)) (by first | exact rf_s _ | exact rf_n | exact rf_q _) ?_
  change WA _ _ _ _ (List.set _ 1 _) _ _ _
  simp only [List.set_cons_zero, List.set_cons_succ]
  refine wa_aloadV_n (pc := 12) (y := mX7_copy) dX7_copy_12 rfl (by first | exact rf_s _ | exact rf_n | exact rf_q _) ?_
  refine wa_aloadV_n (pc := 13) (y := mX7_copy) dX7_copy_13 rfl (by first | exact rf_s _ | exact rf_n | exact rf_q _) ?_
  refine wf_get (k := 6) (l := 6) 1 dX7_copy_14 (by assumption) rfl q1195 (Or.inl rfl) (Nat.le_of_ble_eq_true rfl) (Nat.le_of_ble_eq_true rfl) (by (repeat (first | exact updF_self _ _ _ _ | (apply updF_i; · decide) | (apply updF_a; · first | assumption | (apply Ne.symm; assumption) | omega) | (apply newF_a; · first | assumption | (apply Ne.symm; assumption) | omega) | exact newL_self (by rfl) | exact newF_self (by rfl) | (apply cpyF_a; · first | assumption | (apply Ne.symm; assumption) | omega))) <;> first | assumption | rfl) ?_
  refine wf_put (k := 6) (l := 6) 1 .boolean dX7_copy_17 (by assumption) rfl q1195 (Or.inl rfl) (Nat.le_of_ble_eq_true rfl) rfl (by decide +kernel) (by first | exact nar01 (by assumption) | exact fit01 (by assumption)) (by first | exact nar01 (by assumption) | exact fit01 (by assumption)) ?_
  refine wa_aloadV_n (pc := 20) (y := mX7_copy) dX7_copy_20 rfl (by first | exact rf_s _ | exact rf_n | exact rf_q _) ?_
  refine wa_aloadV_n (pc := 21) (y := mX7_copy) dX7_copy_21 rfl (by first | exact rf_s _ | exact rf_n | exact rf_q _) ?_
  refine wf_get (k := 6) (l := 6) 2 dX7_copy_22 (by assumption) rfl q1198 (Or.inl rfl) (Nat.le_of_ble_eq_true rfl) (Nat.le_of_ble_eq_true rfl) (by (repeat (first | exact updF_self _ _ _ _ | (apply updF_i; · decide) | (apply updF_a; · first | assumption | (apply Ne.symm; assumption) | omega) | (apply newF_a; · first | assumption | (apply Ne.symm; assumption) | omega) | exact newL_self (by rfl) | exact newF_self (by rfl) | (apply cpyF_a; · first | assumption | (apply Ne.symm; assumption) | omega))) <;> first | assumption | rfl) ?_
  refine wf_put (k := 6) (l := 6) 2 .boolean dX7_copy_25 (by assumption) rfl q1198 (Or.inl rfl) (Nat.le_of_ble_eq_true rfl) rfl (by decide +kernel) (by first | exact nar01 (by assumption) | exact fit01 (by assumption)) (by first | exact nar01 (by assumption) | exact fit01 (by assumption)) ?_
  refine wa_aloadV_n (pc := 28) (y := mX7_copy) dX7_copy_28 rfl (by first | exact rf_s _ | exact rf_n | exact rf_q _) ?_
  refine wa_aloadV_n (pc := 29) (y := mX7_copy) dX7_copy_29 rfl (by first | exact rf_s _ | exact rf_n | exact rf_q _) ?_
  refine wf_get (k := 6) (l := 6) 3 dX7_copy_30 (by assumption) rfl q1201 (Or.inl rfl) (Nat.le_of_ble_eq_true rfl) (Nat.le_of_ble_eq_true rfl) (by (repeat (first | exact updF_self _ _ _ _ | (apply updF_i; · decide) | (apply updF_a; · first | assumption | (apply Ne.symm; assumption) | omega) | (apply newF_a; · first | assumption | (apply Ne.symm; assumption) | omega) | exact newL_self (by rfl) | exact newF_self (by rfl) | (apply cpyF_a; · first | assumption | (apply Ne.symm; assumption) | omega))) <;> first | assumption | rfl) ?_
  refine wf_put (k := 6) (l := 6) 3 .int dX7_copy_33 (by assumption) rfl q1201 (Or.inl rfl) (Nat.le_of_ble_eq_true rfl) rfl (by decide +kernel) rfl rfl ?_
  generalize hF5 : updF _ _ _ _ = F5
  have frx : ∀ b, b ≠ h.1 → F5 b = F2 b := fun b hb => by rw [← hF5]; funext j; exact updF_a hb (updF_a hb (updF_a hb rfl))
  have g0 : F5 h.1 0 = .int (f (18 + 12 * k)) := by rw [← hF5]; exact (by (repeat (first | exact updF_self _ _ _ _ | (apply updF_i; · decide) | (apply updF_a; · first | assumption | (apply Ne.symm; assumption) | omega) | (apply newF_a; · first | assumption | (apply Ne.symm; assumption) | omega) | exact newL_self (by rfl) | exact newF_self (by rfl) | (apply cpyF_a; · first | assumption | (apply Ne.symm; assumption) | omega))) <;> first | assumption | rfl)
  have g1 : F5 h.1 1 = .int (f (18 + 12 * k + 2)) := by rw [← hF5]; exact (by (repeat (first | exact updF_self _ _ _ _ | (apply updF_i; · decide) | (apply updF_a; · first | assumption | (apply Ne.symm; assumption) | omega) | (apply newF_a; · first | assumption | (apply Ne.symm; assumption) | omega) | exact newL_self (by rfl) | exact newF_self (by rfl) | (apply cpyF_a; · first | assumption | (apply Ne.symm; assumption) | omega))) <;> first | assumption | rfl)
  have g2 : F5 h.1 2 = .int (f (18 + 12 * k + 3)) := by rw [← hF5]; exact (by (repeat (first | exact updF_self _ _ _ _ | (apply updF_i; · decide) | (apply updF_a; · first | assumption | (apply Ne.symm; assumption) | omega) | (apply newF_a; · first | assumption | (apply Ne.symm; assumption) | omega) | exact newL_self (by rfl) | exact newF_self (by rfl) | (apply cpyF_a; · first | assumption | (apply Ne.symm; assumption) | omega))) <;> first | assumption | rfl)
  have g3 : F5 h.1 3 = .int (f (18 + 12 * k + 1)) := by rw [← hF5]; exact (by (repeat (first | exact updF_self _ _ _ _ | (apply updF_i; · decide) | (apply updF_a; · first | assumption | (apply Ne.symm; assumption) | omega) | (apply newF_a; · first | assumption | (apply Ne.symm; assumption) | omega) | exact newL_self (by rfl) | exact newF_self (by rfl) | (apply cpyF_a; · first | assumption | (apply Ne.symm; assumption) | omega))) <;> first | assumption | rfl)
  have g4 : F5 h.1 4 = .ref (h.1 + 1) := by rw [← hF5]; exact updF_i (by decide) (updF_i (by decide) (updF_i (by decide) e4))
  have g5 : F5 h.1 5 = .ref (h.1 + 1 + 1) := by rw [← hF5]; exact updF_i (by decide) (updF_i (by decide) (updF_i (by decide) e5))
  have ga4 : F5 a 4 = .ref dl := (congrFun (frx a hab) 4).trans u7
  have ga5 : F5 a 5 = .ref tm := (congrFun (frx a hab) 5).trans u8
  have gd : ∀ q, q < 4 → F5 dl q = .int (f (18 + 12 * k + 4 + 2 * q)) := fun q hq => (congrFun (frx dl hda) q).trans (u11 q hq).1
  have gt : ∀ q, q < 4 → F5 tm q = .int (f (18 + 12 * k + 4 + 2 * q + 1)) := fun q hq => (congrFun (frx tm hta) q).trans (u11 q hq).2
  have fr5 : Fr NoP h F h2 F5 := fr.trans (P2 := fun b => b = h.1) ⟨Ext.refl, fun b _ hb => frx b hb⟩ (fun b hb e => absurd e (by omega))
  refine wa_aloadV_n (pc := 36) (y := mX7_copy) dX7_copy_36 rfl (by first | exact rf_s _ | exact rf_n | exact rf_q _) ?_
  refine wf_get (k := 6) (l := 6) 4 dX7_copy_37 (by assumption) rfl q1204 (Or.inl rfl) (Nat.le_of_ble_eq_true rfl) (Nat.le_of_ble_eq_true rfl) (by (repeat (first | exact updF_self _ _ _ _ | (apply updF_i; · decide) | (apply updF_a; · first | assumption | (apply Ne.symm; assumption) | omega) | (apply newF_a; · first | assumption | (apply Ne.symm; assumption) | omega) | exact newL_self (by rfl) | exact newF_self (by rfl) | (apply cpyF_a; · first | assumption | (apply Ne.symm; assumption) | omega))) <;> first | assumption | rfl) ?_
  refine wa_iconst (pc := 40) (y := mX7_copy) (Int32.ofNat 0) dX7_copy_40 rfl ?_
  refine wa_aloadV_n (pc := 41) (y := mX7_copy) dX7_copy_41 rfl (by first | exact rf_s _ | exact rf_n | exact rf_q _) ?_
  refine wf_get (k := 6) (l := 6) 4 dX7_copy_42 (by assumption) rfl q1204 (Or.inl rfl) (Nat.le_of_ble_eq_true rfl) (Nat.le_of_ble_eq_true rfl) (by (repeat (first | exact updF_self _ _ _ _ | (apply updF_i; · decide) | (apply updF_a; · first | assumption | (apply Ne.symm; assumption) | omega) | (apply newF_a; · first | assumption | (apply Ne.symm; assumption) | omega) | exact newL_self (by rfl) | exact newF_self (by rfl) | (apply cpyF_a; · first | assumption | (apply Ne.symm; assumption) | omega))) <;> first | assumption | rfl) ?_
  refine wa_iconst (pc := 45) (y := mX7_copy) (Int32.ofNat 0) dX7_copy_45 rfl ?_
  refine wa_iconst (pc := 46) (y := mX7_copy) (Int32.ofNat 4) dX7_copy_46 rfl ?_
  refine wf_copy (k := 32) (pc := 47) (y := mX7_copy) dX7_copy_47 q1223 q352 q351 q96 (by assumption) (by assumption) (by omega) (fun i hi => Or.inl ⟨rfl, _, by rw [Nat.zero_add]; exact gd i hi⟩) (Or.inl rfl) (Nat.le_of_ble_eq_true rfl) (by omega) ?_
  refine wa_aloadV_n (pc := 50) (y := mX7_copy) dX7_copy_50 rfl (by first | exact rf_s _ | exact rf_n | exact rf_q _) ?_
  refine wf_get (k := 6) (l := 6) 5 dX7_copy_51 (by assumption) rfl q1207 (Or.inl rfl) (Nat.le_of_ble_eq_true rfl) (Nat.le_of_ble_eq_true rfl) (by (repeat (first | exact updF_self _ _ _ _ | (apply updF_i; · decide) | (apply updF_a; · first | assumption | (apply Ne.symm; assumption) | omega) | (apply newF_a; · first | assumption | (apply Ne.symm; assumption) | omega) | exact newL_self (by rfl) | exact newF_self (by rfl) | (apply cpyF_a; · first | assumption | (apply Ne.symm; assumption) | omega))) <;> first | assumption | rfl) ?_
  refine wa_iconst (pc := 54) (y := mX7_copy) (Int32.ofNat 0) dX7_copy_54 rfl ?_
  refine wa_aloadV_n (pc := 55) (y := mX7_copy) dX7_copy_55 rfl (by first | exact rf_s _ | exact rf_n | exact rf_q _) ?_
  refine wf_get (k := 6) (l := 6) 5 dX7_copy_56 (by assumption) rfl q1207 (Or.inl rfl) (Nat.le_of_ble_eq_true rfl) (Nat.le_of_ble_eq_true rfl) (by (repeat (first | exact updF_self _ _ _ _ | (apply updF_i; · decide) | (apply updF_a; · first | assumption | (apply Ne.symm; assumption) | omega) | (apply newF_a; · first | assumption | (apply Ne.symm; assumption) | omega) | exact newL_self (by rfl) | exact newF_self (by rfl) | (apply cpyF_a; · first | assumption | (apply Ne.symm; assumption) | omega))) <;> first | assumption | rfl) ?_
  refine wa_iconst (pc := 59) (y := mX7_copy) (Int32.ofNat 0) dX7_copy_59 rfl ?_
  refine wa_iconst (pc := 60) (y := mX7_copy) (Int32.ofNat 4) dX7_copy_60 rfl ?_
  refine wf_copy (k := 32) (pc := 61) (y := mX7_copy) dX7_copy_61 q1223 q352 q351 q96 (by assumption) (by assumption) (by omega) (fun i hi => Or.inl ⟨rfl, _, by rw [Nat.zero_add]; exact cpyF_a ht1 (gt i hi)⟩) (Or.inl rfl) (Nat.le_of_ble_eq_true rfl) (by omega) ?_
  refine wa_aloadV_n (pc := 64) (y := mX7_copy) dX7_copy_64 rfl (by first | exact rf_s _ | exact rf_n | exact rf_q _) ?_
  refine wa_areturnV (pc := 65) (y := mX7_copy) (.object "CueStack$Cue") dX7_copy_65 rfl (Or.inl ⟨_, rfl⟩) (by first | exact rf_s _ | exact rf_n | exact rf_q _) ⟨_, _, rfl, rfl, (fr5.cpyT (Or.inr (by show h.1 ≤ h.1 + 1; omega))).cpyT (Or.inr (by show h.1 ≤ h.1 + 1 + 1; omega)), ⟨by have := cst.1; have e : (hNew h 6 6).1 = h.1 + 1 := rfl; omega, by have := cst.2; have e : (hNew h 6 6).2.1 = h.2.1 + 6 := rfl; omega⟩, ib, C.2.1, cpyF_a hb2 (cpyF_a hb1 g0), cpyF_a hb2 (cpyF_a hb1 g1), cpyF_a hb2 (cpyF_a hb1 g2), cpyF_a hb2 (cpyF_a hb1 g3), cpyF_a hb2 (cpyF_a hb1 g4), cpyF_a hb2 (cpyF_a hb1 g5), i1, i2, fun q hq => ⟨cpyF_a hb3 (cpyF_in (by omega) (by rw [Nat.zero_add, Nat.sub_zero]; exact gd q hq)), cpyF_in (by omega) (by rw [Nat.zero_add, Nat.sub_zero]; exact cpyF_a ht1 (gt q hq))⟩, C.2.2.2.2.2.2.2.2.2.2.2⟩
end LEAFS
