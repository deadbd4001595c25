/-! ===== CueStackModel: texts ===== -/
/-- the place of a sign among the seven -/
def ixg (x : Int32) : Nat → Nat → Option Nat
  | 0, _ => none
  | t + 1, k => if sgnL.getD k 0 = x then some k else ixg x t (k + 1)
def sgB (c : Int32) : Bool := c = 99 || c = 120 || c = 115 || c = 114 || c = 103 || c = 106 || c = 116
theorem sg_small : ∀ n, n < 256 → (oI (ixg (Int32.ofNat n).toInt8.toInt32 7 0) < 0 ↔ sgB (Int32.ofNat n) = false) := by decide +kernel
section MSTR
variable {G : GG} {d : Nat} {h : AH} {q t : Nat}
theorem s_J11_coder (hG : StG G) (hc : stF G "java/lang/String" "coder" "B" (.int 0) q) : MA G d mJ11_coder [.ref q] h (fun r h' => r = .inl (some (.int 0)) ∧ h' = h) := by
  show WA _ _ _ 0 [.ref q] [] _ _
  refine wa_gets (pc := 0) (y := mJ11_coder) dJ11_coder_0 q488 (Or.inl rfl) q489 (lw_all_tbl q101) (str_cs hG) ?_
  refine wa_if_eq (pc := 3) 13 dJ11_coder_3 rfl (fun hb3 => absurd hb3 (by decide)) (fun hb3 => ?_)
  first | refine wa_aload_n (pc := 6) (y := mJ11_coder) dJ11_coder_6 rfl ?_ | refine wa_aload_nN (pc := 6) (y := mJ11_coder) dJ11_coder_6 rfl ?_ | refine wa_aload_nq (pc := 6) (y := mJ11_coder) dJ11_coder_6 rfl ?_
  refine wa_strget (pc := 7) (y := mJ11_coder) dJ11_coder_7 hc q821 (Or.inl rfl) ?_
  refine wa_goto (pc := 10) (y := mJ11_coder) 14 dJ11_coder_10 rfl ?_
  exact wa_ireturn (pc := 14) (y := mJ11_coder) .byte dJ11_coder_14 rfl rfl ⟨rfl, rfl⟩
theorem s_J11_isLatin1 (hG : StG G) (hc : stF G "java/lang/String" "coder" "B" (.int 0) q) : MA G d mJ11_isLatin1 [.ref q] h (fun r h' => r = .inl (some (.int 1)) ∧ h' = h) := by
  show WA _ _ _ 0 [.ref q] [] _ _
  refine wa_gets (pc := 0) (y := mJ11_isLatin1) dJ11_isLatin1_0 q488 (Or.inl rfl) q489 (lw_all_tbl q101) (str_cs hG) ?_
  refine wa_if_eq (pc := 3) 17 dJ11_isLatin1_3 rfl (fun hb3 => absurd hb3 (by decide)) (fun hb3 => ?_)
  first | refine wa_aload_n (pc := 6) (y := mJ11_isLatin1) dJ11_isLatin1_6 rfl ?_ | refine wa_aload_nN (pc := 6) (y := mJ11_isLatin1) dJ11_isLatin1_6 rfl ?_ | refine wa_aload_nq (pc := 6) (y := mJ11_isLatin1) dJ11_isLatin1_6 rfl ?_
  refine wa_strget (pc := 7) (y := mJ11_isLatin1) dJ11_isLatin1_7 hc q821 (Or.inl rfl) ?_
  refine wa_if_ne (pc := 10) 17 dJ11_isLatin1_10 rfl (fun hb10 => absurd rfl hb10) (fun hb10 => ?_)
  refine wa_iconst (pc := 13) (y := mJ11_isLatin1) (Int32.ofNat 1) dJ11_isLatin1_13 rfl ?_
  refine wa_goto (pc := 14) (y := mJ11_isLatin1) 18 dJ11_isLatin1_14 rfl ?_
  exact wa_ireturn (pc := 18) (y := mJ11_isLatin1) .boolean dJ11_isLatin1_18 rfl rfl ⟨rfl, rfl⟩
theorem s_J11_length {N : Nat} {g : Nat → Value} (hd : 1 ≤ d) (hG : StG G) (hO : stO G "java/lang/String" q) (hc : stF G "java/lang/String" "coder" "B" (.int 0) q) (hv : stF G "java/lang/String" "value" "[B" (.ref t) q) (hT : stT G .byte t N g) : MA G d mJ11_length [.ref q] h (fun r h' => r = .inl (some (.int (Int32.ofNat N))) ∧ h' = h) := by
  show WA _ _ _ 0 [.ref q] [] _ _
  first | refine wa_aload_n (pc := 0) (y := mJ11_length) dJ11_length_0 rfl ?_ | refine wa_aload_nN (pc := 0) (y := mJ11_length) dJ11_length_0 rfl ?_ | refine wa_aload_nq (pc := 0) (y := mJ11_length) dJ11_length_0 rfl ?_
  refine wa_strget (pc := 1) (y := mJ11_length) dJ11_length_1 hv q820 (Or.inl rfl) ?_
  refine wa_alenT (pc := 4) (y := mJ11_length) dJ11_length_4 hT ?_
  first | refine wa_aload_n (pc := 5) (y := mJ11_length) dJ11_length_5 rfl ?_ | refine wa_aload_nN (pc := 5) (y := mJ11_length) dJ11_length_5 rfl ?_ | refine wa_aload_nq (pc := 5) (y := mJ11_length) dJ11_length_5 rfl ?_
  refine wa_callVSt (pc := 6) (s_J11_coder (d := d - 1) hG hc) dJ11_length_6 okJ11_coder q678 q679 q680 hO rfl rfl (Nat.le_of_ble_eq_true rfl) (Nat.le_of_ble_eq_true rfl) (by omega) ?_
  rintro _ _ - - ⟨rfl, rfl⟩
  refine aft_v (pc2 := 9) ?_ rfl
  refine wa_ishr (pc := 9) (y := mJ11_length) dJ11_length_9 ?_
  exact wa_ireturn (pc := 10) (y := mJ11_length) .int dJ11_length_10 rfl rfl ⟨by rw [show ((0 : Int32) &&& 31) = 0 from by decide, Int32.shiftRight_zero], rfl⟩
theorem s_J12_canEncode {c : Int32} : MA G d mJ12_canEncode [.int c] h (fun r h' => r = .inl (some (.int (bI (inb c 0 255)))) ∧ h' = h) := by
  show WA _ _ _ 0 [.int c] [] _ _
  refine wa_iload_n (pc := 0) (y := mJ12_canEncode) dJ12_canEncode_0 rfl ?_
  refine wa_if_lt (pc := 1) 15 dJ12_canEncode_1 rfl (fun hb1 => ?_) (fun hb1 => ?_)
  · refine wa_iconst (pc := 15) (y := mJ12_canEncode) (Int32.ofNat 0) dJ12_canEncode_15 rfl ?_
    exact wa_ireturn (pc := 16) (y := mJ12_canEncode) .boolean dJ12_canEncode_16 rfl rfl ⟨by simp only [inb, bI, Bool.and_eq_true, decide_eq_true_eq]; simp only [Int32.le_iff_toInt_le, Int32.lt_iff_toInt_lt] at *; first | (rw [if_pos ⟨by (first | omega | (simp at *; omega)), by (first | omega | (simp at *; omega))⟩]; rfl) | (rw [if_neg (by intro q9; have := q9.1; have := q9.2; (first | omega | (simp at *; omega)))]; rfl), rfl⟩
  · refine wa_iload_n (pc := 4) (y := mJ12_canEncode) dJ12_canEncode_4 rfl ?_
    refine wa_sipush (pc := 5) (y := mJ12_canEncode) (Int32.ofNat 255) dJ12_canEncode_5 rfl ?_
    refine wa_icmp_gt (pc := 8) 15 dJ12_canEncode_8 rfl (fun hb8 => ?_) (fun hb8 => ?_)
    · refine wa_iconst (pc := 15) (y := mJ12_canEncode) (Int32.ofNat 0) dJ12_canEncode_15 rfl ?_
      exact wa_ireturn (pc := 16) (y := mJ12_canEncode) .boolean dJ12_canEncode_16 rfl rfl ⟨by simp only [inb, bI, Bool.and_eq_true, decide_eq_true_eq]; simp only [Int32.le_iff_toInt_le, Int32.lt_iff_toInt_lt] at *; first | (rw [if_pos ⟨by (first | omega | (simp at *; omega)), by (first | omega | (simp at *; omega))⟩]; rfl) | (rw [if_neg (by intro q9; have := q9.1; have := q9.2; (first | omega | (simp at *; omega)))]; rfl), rfl⟩
    · refine wa_iconst (pc := 11) (y := mJ12_canEncode) (Int32.ofNat 1) dJ12_canEncode_11 rfl ?_
      refine wa_goto (pc := 12) (y := mJ12_canEncode) 16 dJ12_canEncode_12 rfl ?_
      exact wa_ireturn (pc := 16) (y := mJ12_canEncode) .boolean dJ12_canEncode_16 rfl rfl ⟨by simp only [inb, bI, Bool.and_eq_true, decide_eq_true_eq]; simp only [Int32.le_iff_toInt_le, Int32.lt_iff_toInt_lt] at *; first | (rw [if_pos ⟨by (first | omega | (simp at *; omega)), by (first | omega | (simp at *; omega))⟩]; rfl) | (rw [if_neg (by intro q9; have := q9.1; have := q9.2; (first | omega | (simp at *; omega)))]; rfl), rfl⟩
theorem s_J12_indexOfChar {c : Int32} (hT : stT G .byte t 7 (fun j => .int (sgnL.getD j 0))) : MA G d mJ12_indexOfChar [.ref t, .int c, .int (Int32.ofNat 0), .int (Int32.ofNat 7)] h (fun r h' => r = .inl (some (.int (oI (ixg c.toInt8.toInt32 7 0)))) ∧ h' = h) := by
  have key : ∀ u9 k, k + u9 = 7 → WA G d mJ12_indexOfChar 7 [.ref t, .int c, .int (Int32.ofNat 0), .int (Int32.ofNat 7), .int c.toInt8.toInt32, .int (Int32.ofNat k)] [] h (fun r h' => r = .inl (some (.int (oI (ixg c.toInt8.toInt32 u9 k)))) ∧ h' = h) := by
    intro u9
    induction u9 with
    | zero =>
      intro k hk
      obtain rfl : k = 7 := hk
      refine wa_iload (pc := 7) (y := mJ12_indexOfChar) dJ12_indexOfChar_7 rfl ?_
      refine wa_iload_n (pc := 9) (y := mJ12_indexOfChar) dJ12_indexOfChar_9 rfl ?_
      refine wa_icmp_ge (pc := 10) 31 dJ12_indexOfChar_10 rfl (fun hb10 => ?_) (fun hb10 => absurd ((iN_le (by omega) (by omega)).mpr (by omega)) hb10)
      refine wa_iconst (pc := 31) (y := mJ12_indexOfChar) (-1) dJ12_indexOfChar_31 rfl ?_
      exact wa_ireturn (pc := 32) (y := mJ12_indexOfChar) .int dJ12_indexOfChar_32 rfl rfl ⟨rfl, rfl⟩
    | succ u9 ih =>
      intro k hk
      refine wa_iload (pc := 7) (y := mJ12_indexOfChar) dJ12_indexOfChar_7 rfl ?_
      refine wa_iload_n (pc := 9) (y := mJ12_indexOfChar) dJ12_indexOfChar_9 rfl ?_
      refine wa_icmp_ge (pc := 10) 31 dJ12_indexOfChar_10 rfl (fun hb10 => absurd ((iN_le (by omega) (by omega)).mp hb10) (by omega)) (fun hb10 => ?_)
      first | refine wa_aload_n (pc := 13) (y := mJ12_indexOfChar) dJ12_indexOfChar_13 rfl ?_ | refine wa_aload_nN (pc := 13) (y := mJ12_indexOfChar) dJ12_indexOfChar_13 rfl ?_ | refine wa_aload_nq (pc := 13) (y := mJ12_indexOfChar) dJ12_indexOfChar_13 rfl ?_
      refine wa_iload (pc := 14) (y := mJ12_indexOfChar) dJ12_indexOfChar_14 rfl ?_
      refine wa_baloadT (pc := 16) (y := mJ12_indexOfChar) dJ12_indexOfChar_16 hT (by omega) ?_
      refine wa_iload (pc := 17) (y := mJ12_indexOfChar) dJ12_indexOfChar_17 rfl ?_
      refine wa_icmp_ne (pc := 19) 25 dJ12_indexOfChar_19 rfl (fun hb19 => ?_) (fun hb19 => ?_)
      · rw [ixg, if_neg hb19]
        first | with_reducible refine wa_iincN (pc := 25) (y := mJ12_indexOfChar) dJ12_indexOfChar_25 rfl (Nat.le_of_ble_eq_true rfl) rfl ?_ | refine wa_iinc (pc := 25) (y := mJ12_indexOfChar) (1) dJ12_indexOfChar_25 rfl rfl (Nat.le_of_ble_eq_true rfl) rfl ?_
        simp only [List.set_cons_zero, List.set_cons_succ]
        refine wa_goto (pc := 28) (y := mJ12_indexOfChar) 7 dJ12_indexOfChar_28 rfl ?_
        exact ih (k + 1) (by omega)
      · rw [ixg, if_pos hb19]
        refine wa_iload (pc := 22) (y := mJ12_indexOfChar) dJ12_indexOfChar_22 rfl ?_
        exact wa_ireturn (pc := 24) (y := mJ12_indexOfChar) .int dJ12_indexOfChar_24 rfl rfl ⟨rfl, rfl⟩
  show WA _ _ _ 0 [.ref t, .int _, .int _, .int _, .retAddr 0, .retAddr 0] [] _ _
  refine wa_iload_n (pc := 0) (y := mJ12_indexOfChar) dJ12_indexOfChar_0 rfl ?_
  refine wa_i2b (pc := 1) (y := mJ12_indexOfChar) dJ12_indexOfChar_1 ?_
  refine wa_istore (pc := 2) (y := mJ12_indexOfChar) dJ12_indexOfChar_2 (Nat.le_of_ble_eq_true rfl) rfl ?_
  simp only [List.set_cons_zero, List.set_cons_succ]
  refine wa_iload_n (pc := 4) (y := mJ12_indexOfChar) dJ12_indexOfChar_4 rfl ?_
  refine wa_istore (pc := 5) (y := mJ12_indexOfChar) dJ12_indexOfChar_5 (Nat.le_of_ble_eq_true rfl) rfl ?_
  simp only [List.set_cons_zero, List.set_cons_succ]
  exact key 7 0 (by omega)
theorem s_J12_indexOf {c : Int32} (hd : 1 ≤ d) (hc : u c < 65536) (hT : stT G .byte t 7 (fun j => .int (sgnL.getD j 0))) : MA G d mJ12_indexOf [.ref t, .int c, .int (Int32.ofNat 0), .int (Int32.ofNat 7)] h (fun r h' => ∃ v, (r = .inl (some (.int v)) ∧ h' = h) ∧ (v < 0 ↔ sgB c = false)) := by
  show WA _ _ _ 0 [.ref t, .int _, .int _, .int _] [] _ _
  have ec : inb c 0 255 = decide (u c ≤ 255) := inb_le (n := 255) (by omega)
  by_cases e : u c ≤ 255
  · have hs := sg_small (u c) (by omega)
    rw [u_self] at hs
    refine wa_iload_n (pc := 0) (y := mJ12_indexOf) dJ12_indexOf_0 rfl ?_
    refine wa_callS (pc := 1) (s_J12_canEncode (d := d - 1)) dJ12_indexOf_1 okJ12_canEncode q3016 q3017 rfl rfl (Nat.le_of_ble_eq_true rfl) (Nat.le_of_ble_eq_true rfl) (by omega) ?_
    rintro _ _ - - ⟨rfl, rfl⟩
    refine aft_v (pc2 := 4) ?_ rfl
    rw [ec, decide_eq_true e]
    refine wa_if_ne (pc := 4) 9 dJ12_indexOf_4 rfl (fun hb4 => ?_) (fun hb4 => absurd hb4 (by decide))
    refine wa_iload_n (pc := 9) (y := mJ12_indexOf) dJ12_indexOf_9 rfl ?_
    refine wa_iconst (pc := 10) (y := mJ12_indexOf) (Int32.ofNat 0) dJ12_indexOf_10 rfl ?_
    refine wa_max (pc := 11) dJ12_indexOf_11 q3019 q292 q94 q293 (Nat.le_of_ble_eq_true rfl) (by omega) ?_
    rw [if_neg (show ¬ (Int32.ofNat 0 < Int32.ofNat 0) from by decide)]
    refine wa_istore_n (pc := 14) (y := mJ12_indexOf) dJ12_indexOf_14 (Nat.le_of_ble_eq_true rfl) rfl ?_
    change WA _ _ _ _ (List.set _ 2 _) _ _ _
    simp only [List.set_cons_zero, List.set_cons_succ]
    refine wa_iload_n (pc := 15) (y := mJ12_indexOf) dJ12_indexOf_15 rfl ?_
    first | refine wa_aload_n (pc := 16) (y := mJ12_indexOf) dJ12_indexOf_16 rfl ?_ | refine wa_aload_nN (pc := 16) (y := mJ12_indexOf) dJ12_indexOf_16 rfl ?_ | refine wa_aload_nq (pc := 16) (y := mJ12_indexOf) dJ12_indexOf_16 rfl ?_
    refine wa_alenT (pc := 17) (y := mJ12_indexOf) dJ12_indexOf_17 hT ?_
    refine wa_min (pc := 18) dJ12_indexOf_18 q922 q348 q94 q349 (Nat.le_of_ble_eq_true rfl) (by omega) ?_
    rw [if_neg (show ¬ (Int32.ofNat 7 < Int32.ofNat 7) from by decide)]
    refine wa_istore_n (pc := 21) (y := mJ12_indexOf) dJ12_indexOf_21 (Nat.le_of_ble_eq_true rfl) rfl ?_
    change WA _ _ _ _ (List.set _ 3 _) _ _ _
    simp only [List.set_cons_zero, List.set_cons_succ]
    refine wa_iload_n (pc := 22) (y := mJ12_indexOf) dJ12_indexOf_22 rfl ?_
    refine wa_iload_n (pc := 23) (y := mJ12_indexOf) dJ12_indexOf_23 rfl ?_
    refine wa_icmp_lt (pc := 24) 29 dJ12_indexOf_24 rfl (fun hb24 => ?_) (fun hb24 => absurd (show Int32.ofNat 0 < Int32.ofNat 7 from by decide) hb24)
    first | refine wa_aload_n (pc := 29) (y := mJ12_indexOf) dJ12_indexOf_29 rfl ?_ | refine wa_aload_nN (pc := 29) (y := mJ12_indexOf) dJ12_indexOf_29 rfl ?_ | refine wa_aload_nq (pc := 29) (y := mJ12_indexOf) dJ12_indexOf_29 rfl ?_
    refine wa_iload_n (pc := 30) (y := mJ12_indexOf) dJ12_indexOf_30 rfl ?_
    refine wa_iload_n (pc := 31) (y := mJ12_indexOf) dJ12_indexOf_31 rfl ?_
    refine wa_iload_n (pc := 32) (y := mJ12_indexOf) dJ12_indexOf_32 rfl ?_
    refine wa_callS (pc := 33) (s_J12_indexOfChar (d := d - 1) hT) dJ12_indexOf_33 okJ12_indexOfChar q3020 q3021 rfl rfl (Nat.le_of_ble_eq_true rfl) (Nat.le_of_ble_eq_true rfl) (by omega) ?_
    rintro _ _ - - ⟨rfl, rfl⟩
    refine aft_v (pc2 := 36) ?_ rfl
    exact wa_ireturn (pc := 36) (y := mJ12_indexOf) .int dJ12_indexOf_36 rfl rfl ⟨_, ⟨rfl, rfl⟩, hs⟩
  · refine wa_iload_n (pc := 0) (y := mJ12_indexOf) dJ12_indexOf_0 rfl ?_
    refine wa_callS (pc := 1) (s_J12_canEncode (d := d - 1)) dJ12_indexOf_1 okJ12_canEncode q3016 q3017 rfl rfl (Nat.le_of_ble_eq_true rfl) (Nat.le_of_ble_eq_true rfl) (by omega) ?_
    rintro _ _ - - ⟨rfl, rfl⟩
    refine aft_v (pc2 := 4) ?_ rfl
    rw [ec, decide_eq_false e]
    refine wa_if_ne (pc := 4) 9 dJ12_indexOf_4 rfl (fun hb4 => absurd rfl hb4) (fun hb4 => ?_)
    refine wa_iconst (pc := 7) (y := mJ12_indexOf) (-1) dJ12_indexOf_7 rfl ?_
    exact wa_ireturn (pc := 8) (y := mJ12_indexOf) .int dJ12_indexOf_8 rfl rfl ⟨_, ⟨rfl, rfl⟩, ⟨fun _ => by unfold sgB; simp only [Bool.or_eq_false_iff, decide_eq_false_iff_not]; refine ⟨⟨⟨⟨⟨⟨?_, ?_⟩, ?_⟩, ?_⟩, ?_⟩, ?_⟩, ?_⟩ <;> (intro q9; rw [q9] at e; exact absurd (by decide) e), fun _ => by decide⟩⟩
theorem s_J11_indexOf_2 {c : Int32} (hd : 2 ≤ d) (hc9 : u c < 65536) (hG : StG G) (hO : stO G "java/lang/String" q) (hc : stF G "java/lang/String" "coder" "B" (.int 0) q) (hv : stF G "java/lang/String" "value" "[B" (.ref t) q) (hT : stT G .byte t 7 (fun j => .int (sgnL.getD j 0))) : MA G d mJ11_indexOf_2 [.ref q, .int c, .int (Int32.ofNat 0)] h (fun r h' => ∃ v, (r = .inl (some (.int v)) ∧ h' = h) ∧ (v < 0 ↔ sgB c = false)) := by
  show WA _ _ _ 0 [.ref q, .int _, .int _] [] _ _
  first | refine wa_aload_n (pc := 0) (y := mJ11_indexOf_2) dJ11_indexOf_2_0 rfl ?_ | refine wa_aload_nN (pc := 0) (y := mJ11_indexOf_2) dJ11_indexOf_2_0 rfl ?_ | refine wa_aload_nq (pc := 0) (y := mJ11_indexOf_2) dJ11_indexOf_2_0 rfl ?_
  refine wa_callVSt (pc := 1) (s_J11_isLatin1 (d := d - 1) hG hc) dJ11_indexOf_2_1 okJ11_isLatin1 q484 q485 q486 hO rfl rfl (Nat.le_of_ble_eq_true rfl) (Nat.le_of_ble_eq_true rfl) (by omega) ?_
  rintro _ _ - - ⟨rfl, rfl⟩
  refine aft_v (pc2 := 4) ?_ rfl
  refine wa_if_eq (pc := 4) 23 dJ11_indexOf_2_4 rfl (fun hb4 => absurd hb4 (by decide)) (fun hb4 => ?_)
  first | refine wa_aload_n (pc := 7) (y := mJ11_indexOf_2) dJ11_indexOf_2_7 rfl ?_ | refine wa_aload_nN (pc := 7) (y := mJ11_indexOf_2) dJ11_indexOf_2_7 rfl ?_ | refine wa_aload_nq (pc := 7) (y := mJ11_indexOf_2) dJ11_indexOf_2_7 rfl ?_
  refine wa_strget (pc := 8) (y := mJ11_indexOf_2) dJ11_indexOf_2_8 hv q820 (Or.inl rfl) ?_
  refine wa_iload_n (pc := 11) (y := mJ11_indexOf_2) dJ11_indexOf_2_11 rfl ?_
  refine wa_iload_n (pc := 12) (y := mJ11_indexOf_2) dJ11_indexOf_2_12 rfl ?_
  first | refine wa_aload_n (pc := 13) (y := mJ11_indexOf_2) dJ11_indexOf_2_13 rfl ?_ | refine wa_aload_nN (pc := 13) (y := mJ11_indexOf_2) dJ11_indexOf_2_13 rfl ?_ | refine wa_aload_nq (pc := 13) (y := mJ11_indexOf_2) dJ11_indexOf_2_13 rfl ?_
  refine wa_callVSt (pc := 14) (s_J11_length (d := d - 1) (by omega) hG hO hc hv hT) dJ11_indexOf_2_14 okJ11_length q3012 q675 q676 hO rfl rfl (Nat.le_of_ble_eq_true rfl) (Nat.le_of_ble_eq_true rfl) (by omega) ?_
  rintro _ _ - - ⟨rfl, rfl⟩
  refine aft_v (pc2 := 17) ?_ rfl
  refine wa_callS (pc := 17) (s_J12_indexOf (d := d - 1) (by omega) hc9 hT) dJ11_indexOf_2_17 okJ12_indexOf q3013 q3014 rfl rfl (Nat.le_of_ble_eq_true rfl) (Nat.le_of_ble_eq_true rfl) (by omega) ?_
  rintro _ _ - - ⟨v, ⟨rfl, rfl⟩, hv9⟩
  refine aft_v (pc2 := 20) ?_ rfl
  refine wa_goto (pc := 20) (y := mJ11_indexOf_2) 36 dJ11_indexOf_2_20 rfl ?_
  exact wa_ireturn (pc := 36) (y := mJ11_indexOf_2) .int dJ11_indexOf_2_36 rfl rfl ⟨_, ⟨rfl, rfl⟩, hv9⟩
theorem s_J11_indexOf {c : Int32} (hd : 3 ≤ d) (hc9 : u c < 65536) (hG : StG G) (hO : stO G "java/lang/String" q) (hc : stF G "java/lang/String" "coder" "B" (.int 0) q) (hv : stF G "java/lang/String" "value" "[B" (.ref t) q) (hT : stT G .byte t 7 (fun j => .int (sgnL.getD j 0))) : MA G d mJ11_indexOf [.ref q, .int c] h (fun r h' => ∃ v, (r = .inl (some (.int v)) ∧ h' = h) ∧ (v < 0 ↔ sgB c = false)) := by
  show WA _ _ _ 0 [.ref q, .int _] [] _ _
  first | refine wa_aload_n (pc := 0) (y := mJ11_indexOf) dJ11_indexOf_0 rfl ?_ | refine wa_aload_nN (pc := 0) (y := mJ11_indexOf) dJ11_indexOf_0 rfl ?_ | refine wa_aload_nq (pc := 0) (y := mJ11_indexOf) dJ11_indexOf_0 rfl ?_
  refine wa_iload_n (pc := 1) (y := mJ11_indexOf) dJ11_indexOf_1 rfl ?_
  refine wa_iconst (pc := 2) (y := mJ11_indexOf) (Int32.ofNat 0) dJ11_indexOf_2 rfl ?_
  refine wa_callVSt (pc := 3) (s_J11_indexOf_2 (d := d - 1) (by omega) hc9 hG hO hc hv hT) dJ11_indexOf_3 okJ11_indexOf_2 q3008 q3009 q3010 hO rfl rfl (Nat.le_of_ble_eq_true rfl) (Nat.le_of_ble_eq_true rfl) (by omega) ?_
  rintro _ _ - - ⟨v, ⟨rfl, rfl⟩, hv9⟩
  refine aft_v (pc2 := 6) ?_ rfl
  exact wa_ireturn (pc := 6) (y := mJ11_indexOf) .int dJ11_indexOf_6 rfl rfl ⟨_, ⟨rfl, rfl⟩, hv9⟩
end MSTR
