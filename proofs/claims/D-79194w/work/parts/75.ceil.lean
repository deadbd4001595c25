/-! ===== Integer.numberOfLeadingZeros, HashMap.tableSizeFor, Math.ceil ===== -/
section CEIL
variable {G : GG} {d n : Nat} {y : MD} {pc idx : Nat} {ls st : List Value} {h0 h : AH} {Q : RR → AH → Prop} {s x c : Nat}
theorem wa_dconst0 (hd : decode y.2.1 pc = .ok (.dconst 0, 1)) (k : WA G d y (pc + 1) ls (.double FP.dconst0 :: st) h Q) : WA G d y pc ls st h Q := WA.pure (fun p l e R s m args below meth c H locs cells slots Z la C hL K => lv_dconst0 C.1 C.2.1 hd (K la hL)) k
theorem wa_dconst1 (hd : decode y.2.1 pc = .ok (.dconst 1, 1)) (k : WA G d y (pc + 1) ls (.double FP.dconst1 :: st) h Q) : WA G d y pc ls st h Q := WA.pure (fun p l e R s m args below meth c H locs cells slots Z la C hL K => lv_dconst1 C.1 C.2.1 hd (K la hL)) k
theorem wa_l2d {b : Int64} (hv : vn_snl2d b = false) (hd : decode y.2.1 pc = .ok (.invokestatic idx, 3)) (hl : Cond.methodLink y.1.cls idx ⟨"java/lang/Double", "longBitsToDouble", "(J)D"⟩ ∈ lw_all) (hnat : Cond.native ⟨"java/lang/Double", "longBitsToDouble", "(J)D"⟩ ∈ lw_all) (hstat : Cond.static ⟨"java/lang/Double", "longBitsToDouble", "(J)D"⟩ ∈ lw_all) (hini : Cond.initialized "java/lang/Double" ∈ lw_all) (hcat : (st.map fun v => v.category).sum ≤ 8) (hd2 : 0 < d)
    (kk : WA G d y (pc + 3) ls (.double b.toUInt64 :: st) h Q) : WA G d y pc ls (.long b :: st) h Q :=
  WA.read (fun p l e R s m args below meth c H locs cells slots Z la C hR hS hL h1 h2 K => by
    have := C.room
    exact vn_l2d C.1 C.2.1 (C.2.2.1.trans hL.1.symm) C.own (C.word hl) (C.word hnat) (C.word hstat) (C.word hini) hv (by omega) (by omega) hd K) kk
theorem s_J20_numberOfLeadingZeros (hx : 1 ≤ x ∧ x < 128) : MA G d mJ20_numberOfLeadingZeros [.int (Int32.ofNat x)] h0 (fun r h' => ∃ j, 1 ≤ j ∧ j ≤ 7 ∧ r = .inl (some (.int (Int32.ofNat (32 - j)))) ∧ h' = h0) := by
  have fin : ∀ (v : Int32) (j : Nat), 1 ≤ j → j ≤ 7 → v = Int32.ofNat (32 - j) → ∃ j, 1 ≤ j ∧ j ≤ 7 ∧ (.inl (some (.int v)) : RR) = .inl (some (.int (Int32.ofNat (32 - j)))) ∧ h0 = h0 := fun v j h1 h2 e => ⟨j, h1, h2, by rw [e], rfl⟩
  change WA G d mJ20_numberOfLeadingZeros 0 [.int (Int32.ofNat x), .retAddr 0] [] _ _
  rcases Nat.lt_or_ge x 16 with h16 | h16
  · rcases Nat.lt_or_ge x 4 with h4 | h4
    · refine wa_iload_n (pc := 0) (y := mJ20_numberOfLeadingZeros) dJ20_numberOfLeadingZeros_0 rfl ?_
      refine wa_if_gt (pc := 1) 15 dJ20_numberOfLeadingZeros_1 rfl (fun hb1 => ?_) (fun hb1 => absurd ((iN_gt0 (by omega)).mpr (by omega)) hb1)
      refine wa_bipush (pc := 15) (y := mJ20_numberOfLeadingZeros) (Int32.ofNat 31) dJ20_numberOfLeadingZeros_15 rfl ?_
      refine wa_istore_n (pc := 17) (y := mJ20_numberOfLeadingZeros) dJ20_numberOfLeadingZeros_17 (Nat.le_of_ble_eq_true rfl) (by first | rfl | (simp [okst, rf_cat] <;> assumption)) ?_
      change WA _ _ _ _ (List.set _ 1 _) _ _ _
      simp only [List.set_cons_zero, List.set_cons_succ]
      refine wa_iload_n (pc := 18) (y := mJ20_numberOfLeadingZeros) dJ20_numberOfLeadingZeros_18 rfl ?_
      refine wa_ldcw (pc := 19) (y := mJ20_numberOfLeadingZeros) dJ20_numberOfLeadingZeros_19 q997 ?_
      refine wa_icmp_lt (pc := 22) 33 dJ20_numberOfLeadingZeros_22 rfl (fun hb22 => ?_) (fun hb22 => absurd ((iN_lt (b := 65536) (by omega) (by omega)).mpr (by omega)) hb22)
      refine wa_iload_n (pc := 33) (y := mJ20_numberOfLeadingZeros) dJ20_numberOfLeadingZeros_33 rfl ?_
      refine wa_sipush (pc := 34) (y := mJ20_numberOfLeadingZeros) (Int32.ofNat 256) dJ20_numberOfLeadingZeros_34 rfl ?_
      refine wa_icmp_lt (pc := 37) 48 dJ20_numberOfLeadingZeros_37 rfl (fun hb37 => ?_) (fun hb37 => absurd ((iN_lt (b := 256) (by omega) (by omega)).mpr (by omega)) hb37)
      refine wa_iload_n (pc := 48) (y := mJ20_numberOfLeadingZeros) dJ20_numberOfLeadingZeros_48 rfl ?_
      refine wa_bipush (pc := 49) (y := mJ20_numberOfLeadingZeros) (Int32.ofNat 16) dJ20_numberOfLeadingZeros_49 rfl ?_
      refine wa_icmp_lt (pc := 51) 61 dJ20_numberOfLeadingZeros_51 rfl (fun hb51 => ?_) (fun hb51 => absurd ((iN_lt (b := 16) (by omega) (by omega)).mpr (by omega)) hb51)
      refine wa_iload_n (pc := 61) (y := mJ20_numberOfLeadingZeros) dJ20_numberOfLeadingZeros_61 rfl ?_
      refine wa_iconst (pc := 62) (y := mJ20_numberOfLeadingZeros) (Int32.ofNat 4) dJ20_numberOfLeadingZeros_62 rfl ?_
      refine wa_icmp_lt (pc := 63) 73 dJ20_numberOfLeadingZeros_63 rfl (fun hb63 => ?_) (fun hb63 => absurd ((iN_lt (b := 4) (by omega) (by omega)).mpr (by omega)) hb63)
      refine wa_iload_n (pc := 73) (y := mJ20_numberOfLeadingZeros) dJ20_numberOfLeadingZeros_73 rfl ?_
      refine wa_iload_n (pc := 74) (y := mJ20_numberOfLeadingZeros) dJ20_numberOfLeadingZeros_74 rfl ?_
      refine wa_iconst (pc := 75) (y := mJ20_numberOfLeadingZeros) (Int32.ofNat 1) dJ20_numberOfLeadingZeros_75 rfl ?_
      refine wa_iushr (pc := 76) (y := mJ20_numberOfLeadingZeros) dJ20_numberOfLeadingZeros_76 ?_
      rw [iN_ushr (by omega) (by decide)]
      refine wa_isub (pc := 77) (y := mJ20_numberOfLeadingZeros) dJ20_numberOfLeadingZeros_77 ?_
      refine wa_ireturn (pc := 78) (y := mJ20_numberOfLeadingZeros) .int dJ20_numberOfLeadingZeros_78 rfl rfl ?_
      rcases (show x / 2 ^ 1 = 0 ∨ x / 2 ^ 1 = 1 by omega) with e | e <;> rw [e]
      · exact fin _ 1 (by decide) (by decide) (by decide)
      · exact fin _ 2 (by decide) (by decide) (by decide)
    · refine wa_iload_n (pc := 0) (y := mJ20_numberOfLeadingZeros) dJ20_numberOfLeadingZeros_0 rfl ?_
      refine wa_if_gt (pc := 1) 15 dJ20_numberOfLeadingZeros_1 rfl (fun hb1 => ?_) (fun hb1 => absurd ((iN_gt0 (by omega)).mpr (by omega)) hb1)
      refine wa_bipush (pc := 15) (y := mJ20_numberOfLeadingZeros) (Int32.ofNat 31) dJ20_numberOfLeadingZeros_15 rfl ?_
      refine wa_istore_n (pc := 17) (y := mJ20_numberOfLeadingZeros) dJ20_numberOfLeadingZeros_17 (Nat.le_of_ble_eq_true rfl) (by first | rfl | (simp [okst, rf_cat] <;> assumption)) ?_
      change WA _ _ _ _ (List.set _ 1 _) _ _ _
      simp only [List.set_cons_zero, List.set_cons_succ]
      refine wa_iload_n (pc := 18) (y := mJ20_numberOfLeadingZeros) dJ20_numberOfLeadingZeros_18 rfl ?_
      refine wa_ldcw (pc := 19) (y := mJ20_numberOfLeadingZeros) dJ20_numberOfLeadingZeros_19 q997 ?_
      refine wa_icmp_lt (pc := 22) 33 dJ20_numberOfLeadingZeros_22 rfl (fun hb22 => ?_) (fun hb22 => absurd ((iN_lt (b := 65536) (by omega) (by omega)).mpr (by omega)) hb22)
      refine wa_iload_n (pc := 33) (y := mJ20_numberOfLeadingZeros) dJ20_numberOfLeadingZeros_33 rfl ?_
      refine wa_sipush (pc := 34) (y := mJ20_numberOfLeadingZeros) (Int32.ofNat 256) dJ20_numberOfLeadingZeros_34 rfl ?_
      refine wa_icmp_lt (pc := 37) 48 dJ20_numberOfLeadingZeros_37 rfl (fun hb37 => ?_) (fun hb37 => absurd ((iN_lt (b := 256) (by omega) (by omega)).mpr (by omega)) hb37)
      refine wa_iload_n (pc := 48) (y := mJ20_numberOfLeadingZeros) dJ20_numberOfLeadingZeros_48 rfl ?_
      refine wa_bipush (pc := 49) (y := mJ20_numberOfLeadingZeros) (Int32.ofNat 16) dJ20_numberOfLeadingZeros_49 rfl ?_
      refine wa_icmp_lt (pc := 51) 61 dJ20_numberOfLeadingZeros_51 rfl (fun hb51 => ?_) (fun hb51 => absurd ((iN_lt (b := 16) (by omega) (by omega)).mpr (by omega)) hb51)
      refine wa_iload_n (pc := 61) (y := mJ20_numberOfLeadingZeros) dJ20_numberOfLeadingZeros_61 rfl ?_
      refine wa_iconst (pc := 62) (y := mJ20_numberOfLeadingZeros) (Int32.ofNat 4) dJ20_numberOfLeadingZeros_62 rfl ?_
      refine wa_icmp_lt (pc := 63) 73 dJ20_numberOfLeadingZeros_63 rfl (fun hb63 => absurd ((iN_lt (b := 4) (by omega) (by omega)).mp hb63) (by omega)) (fun hb63 => ?_)
      refine wa_iinc (pc := 66) (y := mJ20_numberOfLeadingZeros) (-2) dJ20_numberOfLeadingZeros_66 rfl rfl (Nat.le_of_ble_eq_true rfl) rfl ?_
      simp only [List.set_cons_zero, List.set_cons_succ]
      refine wa_iload_n (pc := 69) (y := mJ20_numberOfLeadingZeros) dJ20_numberOfLeadingZeros_69 rfl ?_
      refine wa_iconst (pc := 70) (y := mJ20_numberOfLeadingZeros) (Int32.ofNat 2) dJ20_numberOfLeadingZeros_70 rfl ?_
      refine wa_iushr (pc := 71) (y := mJ20_numberOfLeadingZeros) dJ20_numberOfLeadingZeros_71 ?_
      rw [iN_ushr (by omega) (by decide)]
      refine wa_istore_n (pc := 72) (y := mJ20_numberOfLeadingZeros) dJ20_numberOfLeadingZeros_72 (Nat.le_of_ble_eq_true rfl) (by first | rfl | (simp [okst, rf_cat] <;> assumption)) ?_
      change WA _ _ _ _ (List.set _ 0 _) _ _ _
      simp only [List.set_cons_zero, List.set_cons_succ]
      refine wa_iload_n (pc := 73) (y := mJ20_numberOfLeadingZeros) dJ20_numberOfLeadingZeros_73 rfl ?_
      refine wa_iload_n (pc := 74) (y := mJ20_numberOfLeadingZeros) dJ20_numberOfLeadingZeros_74 rfl ?_
      refine wa_iconst (pc := 75) (y := mJ20_numberOfLeadingZeros) (Int32.ofNat 1) dJ20_numberOfLeadingZeros_75 rfl ?_
      refine wa_iushr (pc := 76) (y := mJ20_numberOfLeadingZeros) dJ20_numberOfLeadingZeros_76 ?_
      rw [iN_ushr (by omega) (by decide)]
      refine wa_isub (pc := 77) (y := mJ20_numberOfLeadingZeros) dJ20_numberOfLeadingZeros_77 ?_
      refine wa_ireturn (pc := 78) (y := mJ20_numberOfLeadingZeros) .int dJ20_numberOfLeadingZeros_78 rfl rfl ?_
      rcases (show x / 2 ^ 2 / 2 ^ 1 = 0 ∨ x / 2 ^ 2 / 2 ^ 1 = 1 by omega) with e | e <;> rw [e]
      · exact fin _ 3 (by decide) (by decide) (by decide)
      · exact fin _ 4 (by decide) (by decide) (by decide)
  · rcases Nat.lt_or_ge (x / 2 ^ 4) 4 with h4 | h4
    · refine wa_iload_n (pc := 0) (y := mJ20_numberOfLeadingZeros) dJ20_numberOfLeadingZeros_0 rfl ?_
      refine wa_if_gt (pc := 1) 15 dJ20_numberOfLeadingZeros_1 rfl (fun hb1 => ?_) (fun hb1 => absurd ((iN_gt0 (by omega)).mpr (by omega)) hb1)
      refine wa_bipush (pc := 15) (y := mJ20_numberOfLeadingZeros) (Int32.ofNat 31) dJ20_numberOfLeadingZeros_15 rfl ?_
      refine wa_istore_n (pc := 17) (y := mJ20_numberOfLeadingZeros) dJ20_numberOfLeadingZeros_17 (Nat.le_of_ble_eq_true rfl) (by first | rfl | (simp [okst, rf_cat] <;> assumption)) ?_
      change WA _ _ _ _ (List.set _ 1 _) _ _ _
      simp only [List.set_cons_zero, List.set_cons_succ]
      refine wa_iload_n (pc := 18) (y := mJ20_numberOfLeadingZeros) dJ20_numberOfLeadingZeros_18 rfl ?_
      refine wa_ldcw (pc := 19) (y := mJ20_numberOfLeadingZeros) dJ20_numberOfLeadingZeros_19 q997 ?_
      refine wa_icmp_lt (pc := 22) 33 dJ20_numberOfLeadingZeros_22 rfl (fun hb22 => ?_) (fun hb22 => absurd ((iN_lt (b := 65536) (by omega) (by omega)).mpr (by omega)) hb22)
      refine wa_iload_n (pc := 33) (y := mJ20_numberOfLeadingZeros) dJ20_numberOfLeadingZeros_33 rfl ?_
      refine wa_sipush (pc := 34) (y := mJ20_numberOfLeadingZeros) (Int32.ofNat 256) dJ20_numberOfLeadingZeros_34 rfl ?_
      refine wa_icmp_lt (pc := 37) 48 dJ20_numberOfLeadingZeros_37 rfl (fun hb37 => ?_) (fun hb37 => absurd ((iN_lt (b := 256) (by omega) (by omega)).mpr (by omega)) hb37)
      refine wa_iload_n (pc := 48) (y := mJ20_numberOfLeadingZeros) dJ20_numberOfLeadingZeros_48 rfl ?_
      refine wa_bipush (pc := 49) (y := mJ20_numberOfLeadingZeros) (Int32.ofNat 16) dJ20_numberOfLeadingZeros_49 rfl ?_
      refine wa_icmp_lt (pc := 51) 61 dJ20_numberOfLeadingZeros_51 rfl (fun hb51 => absurd ((iN_lt (b := 16) (by omega) (by omega)).mp hb51) (by omega)) (fun hb51 => ?_)
      refine wa_iinc (pc := 54) (y := mJ20_numberOfLeadingZeros) (-4) dJ20_numberOfLeadingZeros_54 rfl rfl (Nat.le_of_ble_eq_true rfl) rfl ?_
      simp only [List.set_cons_zero, List.set_cons_succ]
      refine wa_iload_n (pc := 57) (y := mJ20_numberOfLeadingZeros) dJ20_numberOfLeadingZeros_57 rfl ?_
      refine wa_iconst (pc := 58) (y := mJ20_numberOfLeadingZeros) (Int32.ofNat 4) dJ20_numberOfLeadingZeros_58 rfl ?_
      refine wa_iushr (pc := 59) (y := mJ20_numberOfLeadingZeros) dJ20_numberOfLeadingZeros_59 ?_
      rw [iN_ushr (by omega) (by decide)]
      refine wa_istore_n (pc := 60) (y := mJ20_numberOfLeadingZeros) dJ20_numberOfLeadingZeros_60 (Nat.le_of_ble_eq_true rfl) (by first | rfl | (simp [okst, rf_cat] <;> assumption)) ?_
      change WA _ _ _ _ (List.set _ 0 _) _ _ _
      simp only [List.set_cons_zero, List.set_cons_succ]
      refine wa_iload_n (pc := 61) (y := mJ20_numberOfLeadingZeros) dJ20_numberOfLeadingZeros_61 rfl ?_
      refine wa_iconst (pc := 62) (y := mJ20_numberOfLeadingZeros) (Int32.ofNat 4) dJ20_numberOfLeadingZeros_62 rfl ?_
      refine wa_icmp_lt (pc := 63) 73 dJ20_numberOfLeadingZeros_63 rfl (fun hb63 => ?_) (fun hb63 => absurd ((iN_lt (b := 4) (by omega) (by omega)).mpr (by omega)) hb63)
      refine wa_iload_n (pc := 73) (y := mJ20_numberOfLeadingZeros) dJ20_numberOfLeadingZeros_73 rfl ?_
      refine wa_iload_n (pc := 74) (y := mJ20_numberOfLeadingZeros) dJ20_numberOfLeadingZeros_74 rfl ?_
      refine wa_iconst (pc := 75) (y := mJ20_numberOfLeadingZeros) (Int32.ofNat 1) dJ20_numberOfLeadingZeros_75 rfl ?_
      refine wa_iushr (pc := 76) (y := mJ20_numberOfLeadingZeros) dJ20_numberOfLeadingZeros_76 ?_
      rw [iN_ushr (by omega) (by decide)]
      refine wa_isub (pc := 77) (y := mJ20_numberOfLeadingZeros) dJ20_numberOfLeadingZeros_77 ?_
      refine wa_ireturn (pc := 78) (y := mJ20_numberOfLeadingZeros) .int dJ20_numberOfLeadingZeros_78 rfl rfl ?_
      rcases (show x / 2 ^ 4 / 2 ^ 1 = 0 ∨ x / 2 ^ 4 / 2 ^ 1 = 1 by omega) with e | e <;> rw [e]
      · exact fin _ 5 (by decide) (by decide) (by decide)
      · exact fin _ 6 (by decide) (by decide) (by decide)
    · refine wa_iload_n (pc := 0) (y := mJ20_numberOfLeadingZeros) dJ20_numberOfLeadingZeros_0 rfl ?_
      refine wa_if_gt (pc := 1) 15 dJ20_numberOfLeadingZeros_1 rfl (fun hb1 => ?_) (fun hb1 => absurd ((iN_gt0 (by omega)).mpr (by omega)) hb1)
      refine wa_bipush (pc := 15) (y := mJ20_numberOfLeadingZeros) (Int32.ofNat 31) dJ20_numberOfLeadingZeros_15 rfl ?_
      refine wa_istore_n (pc := 17) (y := mJ20_numberOfLeadingZeros) dJ20_numberOfLeadingZeros_17 (Nat.le_of_ble_eq_true rfl) (by first | rfl | (simp [okst, rf_cat] <;> assumption)) ?_
      change WA _ _ _ _ (List.set _ 1 _) _ _ _
      simp only [List.set_cons_zero, List.set_cons_succ]
      refine wa_iload_n (pc := 18) (y := mJ20_numberOfLeadingZeros) dJ20_numberOfLeadingZeros_18 rfl ?_
      refine wa_ldcw (pc := 19) (y := mJ20_numberOfLeadingZeros) dJ20_numberOfLeadingZeros_19 q997 ?_
      refine wa_icmp_lt (pc := 22) 33 dJ20_numberOfLeadingZeros_22 rfl (fun hb22 => ?_) (fun hb22 => absurd ((iN_lt (b := 65536) (by omega) (by omega)).mpr (by omega)) hb22)
      refine wa_iload_n (pc := 33) (y := mJ20_numberOfLeadingZeros) dJ20_numberOfLeadingZeros_33 rfl ?_
      refine wa_sipush (pc := 34) (y := mJ20_numberOfLeadingZeros) (Int32.ofNat 256) dJ20_numberOfLeadingZeros_34 rfl ?_
      refine wa_icmp_lt (pc := 37) 48 dJ20_numberOfLeadingZeros_37 rfl (fun hb37 => ?_) (fun hb37 => absurd ((iN_lt (b := 256) (by omega) (by omega)).mpr (by omega)) hb37)
      refine wa_iload_n (pc := 48) (y := mJ20_numberOfLeadingZeros) dJ20_numberOfLeadingZeros_48 rfl ?_
      refine wa_bipush (pc := 49) (y := mJ20_numberOfLeadingZeros) (Int32.ofNat 16) dJ20_numberOfLeadingZeros_49 rfl ?_
      refine wa_icmp_lt (pc := 51) 61 dJ20_numberOfLeadingZeros_51 rfl (fun hb51 => absurd ((iN_lt (b := 16) (by omega) (by omega)).mp hb51) (by omega)) (fun hb51 => ?_)
      refine wa_iinc (pc := 54) (y := mJ20_numberOfLeadingZeros) (-4) dJ20_numberOfLeadingZeros_54 rfl rfl (Nat.le_of_ble_eq_true rfl) rfl ?_
      simp only [List.set_cons_zero, List.set_cons_succ]
      refine wa_iload_n (pc := 57) (y := mJ20_numberOfLeadingZeros) dJ20_numberOfLeadingZeros_57 rfl ?_
      refine wa_iconst (pc := 58) (y := mJ20_numberOfLeadingZeros) (Int32.ofNat 4) dJ20_numberOfLeadingZeros_58 rfl ?_
      refine wa_iushr (pc := 59) (y := mJ20_numberOfLeadingZeros) dJ20_numberOfLeadingZeros_59 ?_
      rw [iN_ushr (by omega) (by decide)]
      refine wa_istore_n (pc := 60) (y := mJ20_numberOfLeadingZeros) dJ20_numberOfLeadingZeros_60 (Nat.le_of_ble_eq_true rfl) (by first | rfl | (simp [okst, rf_cat] <;> assumption)) ?_
      change WA _ _ _ _ (List.set _ 0 _) _ _ _
      simp only [List.set_cons_zero, List.set_cons_succ]
      refine wa_iload_n (pc := 61) (y := mJ20_numberOfLeadingZeros) dJ20_numberOfLeadingZeros_61 rfl ?_
      refine wa_iconst (pc := 62) (y := mJ20_numberOfLeadingZeros) (Int32.ofNat 4) dJ20_numberOfLeadingZeros_62 rfl ?_
      refine wa_icmp_lt (pc := 63) 73 dJ20_numberOfLeadingZeros_63 rfl (fun hb63 => absurd ((iN_lt (b := 4) (by omega) (by omega)).mp hb63) (by omega)) (fun hb63 => ?_)
      refine wa_iinc (pc := 66) (y := mJ20_numberOfLeadingZeros) (-2) dJ20_numberOfLeadingZeros_66 rfl rfl (Nat.le_of_ble_eq_true rfl) rfl ?_
      simp only [List.set_cons_zero, List.set_cons_succ]
      refine wa_iload_n (pc := 69) (y := mJ20_numberOfLeadingZeros) dJ20_numberOfLeadingZeros_69 rfl ?_
      refine wa_iconst (pc := 70) (y := mJ20_numberOfLeadingZeros) (Int32.ofNat 2) dJ20_numberOfLeadingZeros_70 rfl ?_
      refine wa_iushr (pc := 71) (y := mJ20_numberOfLeadingZeros) dJ20_numberOfLeadingZeros_71 ?_
      rw [iN_ushr (by omega) (by decide)]
      refine wa_istore_n (pc := 72) (y := mJ20_numberOfLeadingZeros) dJ20_numberOfLeadingZeros_72 (Nat.le_of_ble_eq_true rfl) (by first | rfl | (simp [okst, rf_cat] <;> assumption)) ?_
      change WA _ _ _ _ (List.set _ 0 _) _ _ _
      simp only [List.set_cons_zero, List.set_cons_succ]
      refine wa_iload_n (pc := 73) (y := mJ20_numberOfLeadingZeros) dJ20_numberOfLeadingZeros_73 rfl ?_
      refine wa_iload_n (pc := 74) (y := mJ20_numberOfLeadingZeros) dJ20_numberOfLeadingZeros_74 rfl ?_
      refine wa_iconst (pc := 75) (y := mJ20_numberOfLeadingZeros) (Int32.ofNat 1) dJ20_numberOfLeadingZeros_75 rfl ?_
      refine wa_iushr (pc := 76) (y := mJ20_numberOfLeadingZeros) dJ20_numberOfLeadingZeros_76 ?_
      rw [iN_ushr (by omega) (by decide)]
      refine wa_isub (pc := 77) (y := mJ20_numberOfLeadingZeros) dJ20_numberOfLeadingZeros_77 ?_
      refine wa_ireturn (pc := 78) (y := mJ20_numberOfLeadingZeros) .int dJ20_numberOfLeadingZeros_78 rfl rfl ?_
      have e : x / 2 ^ 4 / 2 ^ 2 / 2 ^ 1 = 0 := by omega
      rw [e]
      exact fin _ 7 (by decide) (by decide) (by decide)
theorem s_J4_tableSizeFor (hd : 1 ≤ d) (hx : 2 ≤ x ∧ x ≤ 128) : MA G d mJ4_tableSizeFor [.int (Int32.ofNat x)] h0 (fun r h' => ∃ j, 1 ≤ j ∧ j ≤ 7 ∧ r = .inl (some (.int (Int32.ofNat (2 ^ j)))) ∧ h' = h0) := by
  have hj7 : ∀ j, 1 ≤ j → j ≤ 7 → j = 1 ∨ j = 2 ∨ j = 3 ∨ j = 4 ∨ j = 5 ∨ j = 6 ∨ j = 7 := fun j h1 h2 => by omega
  change WA G d mJ4_tableSizeFor 0 [.int (Int32.ofNat x), .retAddr 0] [] _ _
  refine wa_iconst (pc := 0) (y := mJ4_tableSizeFor) (-1) dJ4_tableSizeFor_0 rfl ?_
  refine wa_iload_n (pc := 1) (y := mJ4_tableSizeFor) dJ4_tableSizeFor_1 rfl ?_
  refine wa_iconst (pc := 2) (y := mJ4_tableSizeFor) (Int32.ofNat 1) dJ4_tableSizeFor_2 rfl ?_
  refine wa_isub (pc := 3) (y := mJ4_tableSizeFor) dJ4_tableSizeFor_3 ?_
  rw [iN_sub (by omega)]
  refine wa_callS (pc := 4) (s_J20_numberOfLeadingZeros (d := d - 1) (x := x - 1) (by omega)) dJ4_tableSizeFor_4 okJ20_numberOfLeadingZeros q1276 q995 rfl rfl (Nat.le_of_ble_eq_true rfl) (Nat.le_of_ble_eq_true rfl) (by omega) ?_
  rintro _ _ - - ⟨j, j1, j2, rfl, rfl⟩
  refine aft_v (pc2 := 7) ?_ rfl
  refine wa_iushr (pc := 7) (y := mJ4_tableSizeFor) dJ4_tableSizeFor_7 ?_
  rw [show (((-1 : Int32).toUInt32 >>> ((Int32.ofNat (32 - j)).toUInt32 &&& Int32.toUInt32 31)).toInt32) = Int32.ofNat (2 ^ j - 1) by rcases hj7 j j1 j2 with rfl | rfl | rfl | rfl | rfl | rfl | rfl <;> decide +kernel]
  have hp : 2 ^ j ≤ 2 ^ 7 := Nat.pow_le_pow_right (by decide) j2
  have hp0 : 0 < 2 ^ j := Nat.two_pow_pos j
  refine wa_istore_n (pc := 8) (y := mJ4_tableSizeFor) dJ4_tableSizeFor_8 (Nat.le_of_ble_eq_true rfl) (by first | rfl | (simp [okst, rf_cat] <;> assumption)) ?_
  change WA _ _ _ _ (List.set _ 1 _) _ _ _
  simp only [List.set_cons_zero, List.set_cons_succ]
  refine wa_iload_n (pc := 9) (y := mJ4_tableSizeFor) dJ4_tableSizeFor_9 rfl ?_
  refine wa_if_ge (pc := 10) 17 dJ4_tableSizeFor_10 rfl (fun hb10 => ?_) (fun hb10 => absurd (iN_ge0 (by omega)) hb10)
  refine wa_iload_n (pc := 17) (y := mJ4_tableSizeFor) dJ4_tableSizeFor_17 rfl ?_
  refine wa_ldc (pc := 18) (y := mJ4_tableSizeFor) dJ4_tableSizeFor_18 q1272 ?_
  refine wa_icmp_lt (pc := 20) 28 dJ4_tableSizeFor_20 rfl (fun hb20 => ?_) (fun hb20 => absurd ((iN_lt (b := 1073741824) (by omega) (by omega)).mpr (by omega)) hb20)
  refine wa_iload_n (pc := 28) (y := mJ4_tableSizeFor) dJ4_tableSizeFor_28 rfl ?_
  refine wa_iconst (pc := 29) (y := mJ4_tableSizeFor) (Int32.ofNat 1) dJ4_tableSizeFor_29 rfl ?_
  first | with_reducible refine wa_iaddN (pc := 30) (y := mJ4_tableSizeFor) dJ4_tableSizeFor_30 ?_ | refine wa_iadd (pc := 30) (y := mJ4_tableSizeFor) dJ4_tableSizeFor_30 ?_
  refine wa_ireturn (pc := 31) (y := mJ4_tableSizeFor) .int dJ4_tableSizeFor_31 rfl rfl ⟨j, j1, j2, by rw [Nat.sub_add_cancel hp0], rfl⟩
end CEIL
