/-! ===== CueStackModel: its calls, fifth part ===== -/
section MTOP5
variable {G : GG} {d : Nat} {h : AH} {m : Nat} {f : Nat → Int32} {σ : MS}
theorem s_X6_chain {cue : Int32} (hd : 3 ≤ d) (hI : Inv f) : MA G d mX6_chain [.ref m, .int cue] (mH h m f σ) (fun r h' => r = .inl (some (.int (O_chain f σ cue).2.1)) ∧ h' = mH h m (O_chain f σ cue).2.2.1 (O_chain f σ cue).2.2.2) := by
  have hn := hI.1
  show WA _ _ _ 0 [.ref m, .int _, .retAddr 0, .retAddr 0] [] _ _
  cases hp : pl f cue with
  | none =>
    rw [show O_chain f σ cue = oX f σ 1 by unfold O_chain; rw [hp]]
    first | refine wa_aload_n (pc := 0) (y := mX6_chain) dX6_chain_0 rfl ?_ | refine wa_aload_nN (pc := 0) (y := mX6_chain) dX6_chain_0 rfl ?_ | refine wa_aload_nq (pc := 0) (y := mX6_chain) dX6_chain_0 rfl ?_
    first | refine wa_aload_n (pc := 1) (y := mX6_chain) dX6_chain_1 rfl ?_ | refine wa_aload_nN (pc := 1) (y := mX6_chain) dX6_chain_1 rfl ?_ | refine wa_aload_nq (pc := 1) (y := mX6_chain) dX6_chain_1 rfl ?_
    refine wa_iload_n (pc := 2) (y := mX6_chain) dX6_chain_2 rfl ?_
    refine wa_callV (pc := 3) (s_X6_isCue (d := d - 1) (by omega) hI) dX6_chain_3 okX6_isCue q2719 q2721 qs41 mH_o rfl rfl rfl (Nat.le_of_ble_eq_true rfl) (Nat.le_of_ble_eq_true rfl) (by omega) ?_
    rintro _ _ - - ⟨rfl, rfl⟩
    refine aft_v (pc2 := 6) ?_ rfl
    rw [isC_none hp]
    refine wa_if_eq (pc := 6) 13 dX6_chain_6 rfl (fun hb6 => ?_) (fun hb6 => absurd rfl hb6)
    refine wa_iconst (pc := 13) (y := mX6_chain) (Int32.ofNat 1) dX6_chain_13 rfl ?_
    refine wa_putf (pc := 14) (y := mX6_chain) (k := 5) 7 .int dX6_chain_14 mH_o rfl q2650 (Or.inl rfl) (Nat.le_of_ble_eq_true rfl) rfl (by decide +kernel) rfl rfl ?_
    rw [mW_o7]
    refine wa_iconst (pc := 17) (y := mX6_chain) (Int32.ofNat 0) dX6_chain_17 rfl ?_
    refine wa_istore_n (pc := 18) (y := mX6_chain) dX6_chain_18 (Nat.le_of_ble_eq_true rfl) rfl ?_
    change WA _ _ _ _ (List.set _ 2 _) _ _ _
    simp only [List.set_cons_zero, List.set_cons_succ]
    refine wa_iload_n (pc := 19) (y := mX6_chain) dX6_chain_19 rfl ?_
    refine wa_istore_n (pc := 20) (y := mX6_chain) dX6_chain_20 (Nat.le_of_ble_eq_true rfl) rfl ?_
    change WA _ _ _ _ (List.set _ 3 _) _ _ _
    simp only [List.set_cons_zero, List.set_cons_succ]
    first | refine wa_aload_n (pc := 21) (y := mX6_chain) dX6_chain_21 rfl ?_ | refine wa_aload_nN (pc := 21) (y := mX6_chain) dX6_chain_21 rfl ?_ | refine wa_aload_nq (pc := 21) (y := mX6_chain) dX6_chain_21 rfl ?_
    refine wa_getf (pc := 22) (y := mX6_chain) (k := 5) 7 dX6_chain_22 mH_o rfl q2650 (Or.inl rfl) (Nat.le_of_ble_eq_true rfl) (by rfl) ?_
    rw [mV_s]
    show WA _ _ _ _ _ (.int (Int32.ofNat 1) :: _) _ _
    refine wa_if_ne (pc := 25) 81 dX6_chain_25 rfl (fun hb25 => ?_) (fun hb25 => absurd hb25 (by decide))
    clear hb25
    refine wa_iload_n (pc := 81) (y := mX6_chain) dX6_chain_81 rfl ?_
    exact wa_ireturn (pc := 82) (y := mX6_chain) .int dX6_chain_82 rfl rfl ⟨rfl, rfl⟩
  | some p =>
    have hps := pl_some hp
    rw [show O_chain f σ cue = oR f σ (chG f 12 p 0) by unfold O_chain; rw [hp]]
    have lp : ∀ t p a, p < u (f 0) → u (f 0) ≤ p + t → WA G d mX6_chain 21 [.ref m, .int cue, .int a, .int (f (18 + 12 * p))] [] (mH h m f (mV σ 7 (Int32.ofNat 0))) (fun r h' => r = .inl (some (.int (chG f t p a))) ∧ h' = mH h m f (mV σ 7 (Int32.ofNat 0))) := by
      intro t
      induction t with
      | zero =>
        intro p a h1 h2
        replace h2 : u (f 0) ≤ p + 0 := h2
        omega
      | succ t ih =>
        intro p a h1 h2
        have e1 := pl_at hI h1
        have e2 := nx_at hI h1
        unfold chG
        by_cases x1 : 0 < f (18 + 12 * p + 1)
        · by_cases x2 : p + 1 < u (f 0)
          · rw [if_pos x2] at e2
            rw [if_pos ⟨x1, x2⟩]
            first | refine wa_aload_n (pc := 21) (y := mX6_chain) dX6_chain_21 rfl ?_ | refine wa_aload_nN (pc := 21) (y := mX6_chain) dX6_chain_21 rfl ?_ | refine wa_aload_nq (pc := 21) (y := mX6_chain) dX6_chain_21 rfl ?_
            refine wa_getf (pc := 22) (y := mX6_chain) (k := 5) 7 dX6_chain_22 mH_o rfl q2650 (Or.inl rfl) (Nat.le_of_ble_eq_true rfl) (by rfl) ?_
            rw [mV_s]
            refine wa_if_ne (pc := 25) 81 dX6_chain_25 rfl (fun hb25 => absurd rfl hb25) (fun hb25 => ?_)
            first | refine wa_aload_n (pc := 28) (y := mX6_chain) dX6_chain_28 rfl ?_ | refine wa_aload_nN (pc := 28) (y := mX6_chain) dX6_chain_28 rfl ?_ | refine wa_aload_nq (pc := 28) (y := mX6_chain) dX6_chain_28 rfl ?_
            refine wa_getf (pc := 29) (y := mX6_chain) (k := 5) 0 dX6_chain_29 mH_o rfl q2643 (Or.inl rfl) (Nat.le_of_ble_eq_true rfl) (by rfl) ?_
            first | refine wa_aload_n (pc := 32) (y := mX6_chain) dX6_chain_32 rfl ?_ | refine wa_aload_nN (pc := 32) (y := mX6_chain) dX6_chain_32 rfl ?_ | refine wa_aload_nq (pc := 32) (y := mX6_chain) dX6_chain_32 rfl ?_
            refine wa_iload_n (pc := 33) (y := mX6_chain) dX6_chain_33 rfl ?_
            refine wa_callV (pc := 34) (s_X6_placeOf (d := d - 1) (by omega) hI) dX6_chain_34 okX6_placeOf q2723 q2725 qs42 mH_o rfl rfl rfl (Nat.le_of_ble_eq_true rfl) (Nat.le_of_ble_eq_true rfl) (by omega) ?_
            rintro _ _ - - ⟨rfl, rfl⟩
            refine aft_v (pc2 := 37) ?_ rfl
            rw [e1, oI_some]
            refine wa_callS (pc := 37) (s_X6_at (d := d - 1)) dX6_chain_37 okX6_at q2727 q2728 rfl rfl (Nat.le_of_ble_eq_true rfl) (Nat.le_of_ble_eq_true rfl) (by omega) ?_
            rintro _ _ - - ⟨rfl, rfl⟩
            refine aft_v (pc2 := 40) ?_ rfl
            refine wa_iconst (pc := 40) (y := mX6_chain) (Int32.ofNat 1) dX6_chain_40 rfl ?_
            first | with_reducible refine wa_iaddN (pc := 41) (y := mX6_chain) dX6_chain_41 ?_ | refine wa_iadd (pc := 41) (y := mX6_chain) dX6_chain_41 ?_
            refine wa_ialoadN (pc := 42) (y := mX6_chain) dX6_chain_42 mH_1 (by omega) ?_
            refine wa_if_le (pc := 43) 81 dX6_chain_43 rfl (fun hb43 => absurd hb43 (Int32.not_le.mpr x1)) (fun hb43 => ?_)
            first | refine wa_aload_n (pc := 46) (y := mX6_chain) dX6_chain_46 rfl ?_ | refine wa_aload_nN (pc := 46) (y := mX6_chain) dX6_chain_46 rfl ?_ | refine wa_aload_nq (pc := 46) (y := mX6_chain) dX6_chain_46 rfl ?_
            refine wa_iload_n (pc := 47) (y := mX6_chain) dX6_chain_47 rfl ?_
            refine wa_callV (pc := 48) (s_X6_nextCue (d := d - 1) (by omega) hI) dX6_chain_48 okX6_nextCue q2914 q2916 qs67 mH_o rfl rfl rfl (Nat.le_of_ble_eq_true rfl) (Nat.le_of_ble_eq_true rfl) (by omega) ?_
            rintro _ _ - - ⟨rfl, rfl⟩
            refine aft_v (pc2 := 51) ?_ rfl
            rw [e2]
            refine wa_if_le (pc := 51) 81 dX6_chain_51 rfl (fun hb51 => absurd hb51 (Int32.not_le.mpr (num_pos hI x2))) (fun hb51 => ?_)
            refine wa_iload_n (pc := 54) (y := mX6_chain) dX6_chain_54 rfl ?_
            first | refine wa_aload_n (pc := 55) (y := mX6_chain) dX6_chain_55 rfl ?_ | refine wa_aload_nN (pc := 55) (y := mX6_chain) dX6_chain_55 rfl ?_ | refine wa_aload_nq (pc := 55) (y := mX6_chain) dX6_chain_55 rfl ?_
            refine wa_getf (pc := 56) (y := mX6_chain) (k := 5) 0 dX6_chain_56 mH_o rfl q2643 (Or.inl rfl) (Nat.le_of_ble_eq_true rfl) (by rfl) ?_
            first | refine wa_aload_n (pc := 59) (y := mX6_chain) dX6_chain_59 rfl ?_ | refine wa_aload_nN (pc := 59) (y := mX6_chain) dX6_chain_59 rfl ?_ | refine wa_aload_nq (pc := 59) (y := mX6_chain) dX6_chain_59 rfl ?_
            refine wa_iload_n (pc := 60) (y := mX6_chain) dX6_chain_60 rfl ?_
            refine wa_callV (pc := 61) (s_X6_placeOf (d := d - 1) (by omega) hI) dX6_chain_61 okX6_placeOf q2723 q2725 qs42 mH_o rfl rfl rfl (Nat.le_of_ble_eq_true rfl) (Nat.le_of_ble_eq_true rfl) (by omega) ?_
            rintro _ _ - - ⟨rfl, rfl⟩
            refine aft_v (pc2 := 64) ?_ rfl
            rw [e1, oI_some]
            refine wa_callS (pc := 64) (s_X6_at (d := d - 1)) dX6_chain_64 okX6_at q2727 q2728 rfl rfl (Nat.le_of_ble_eq_true rfl) (Nat.le_of_ble_eq_true rfl) (by omega) ?_
            rintro _ _ - - ⟨rfl, rfl⟩
            refine aft_v (pc2 := 67) ?_ rfl
            refine wa_iconst (pc := 67) (y := mX6_chain) (Int32.ofNat 1) dX6_chain_67 rfl ?_
            first | with_reducible refine wa_iaddN (pc := 68) (y := mX6_chain) dX6_chain_68 ?_ | refine wa_iadd (pc := 68) (y := mX6_chain) dX6_chain_68 ?_
            refine wa_ialoadN (pc := 69) (y := mX6_chain) dX6_chain_69 mH_1 (by omega) ?_
            first | with_reducible refine wa_iaddN (pc := 70) (y := mX6_chain) dX6_chain_70 ?_ | refine wa_iadd (pc := 70) (y := mX6_chain) dX6_chain_70 ?_
            refine wa_istore_n (pc := 71) (y := mX6_chain) dX6_chain_71 (Nat.le_of_ble_eq_true rfl) rfl ?_
            change WA _ _ _ _ (List.set _ 2 _) _ _ _
            simp only [List.set_cons_zero, List.set_cons_succ]
            first | refine wa_aload_n (pc := 72) (y := mX6_chain) dX6_chain_72 rfl ?_ | refine wa_aload_nN (pc := 72) (y := mX6_chain) dX6_chain_72 rfl ?_ | refine wa_aload_nq (pc := 72) (y := mX6_chain) dX6_chain_72 rfl ?_
            refine wa_iload_n (pc := 73) (y := mX6_chain) dX6_chain_73 rfl ?_
            refine wa_callV (pc := 74) (s_X6_nextCue (d := d - 1) (by omega) hI) dX6_chain_74 okX6_nextCue q2914 q2916 qs67 mH_o rfl rfl rfl (Nat.le_of_ble_eq_true rfl) (Nat.le_of_ble_eq_true rfl) (by omega) ?_
            rintro _ _ - - ⟨rfl, rfl⟩
            refine aft_v (pc2 := 77) ?_ rfl
            rw [e2]
            refine wa_istore_n (pc := 77) (y := mX6_chain) dX6_chain_77 (Nat.le_of_ble_eq_true rfl) rfl ?_
            change WA _ _ _ _ (List.set _ 3 _) _ _ _
            simp only [List.set_cons_zero, List.set_cons_succ]
            refine wa_goto (pc := 78) (y := mX6_chain) 21 dX6_chain_78 rfl ?_
            exact ih (p + 1) _ x2 (by omega)
          · rw [if_neg x2] at e2
            rw [if_neg (fun q => x2 q.2)]
            first | refine wa_aload_n (pc := 21) (y := mX6_chain) dX6_chain_21 rfl ?_ | refine wa_aload_nN (pc := 21) (y := mX6_chain) dX6_chain_21 rfl ?_ | refine wa_aload_nq (pc := 21) (y := mX6_chain) dX6_chain_21 rfl ?_
            refine wa_getf (pc := 22) (y := mX6_chain) (k := 5) 7 dX6_chain_22 mH_o rfl q2650 (Or.inl rfl) (Nat.le_of_ble_eq_true rfl) (by rfl) ?_
            rw [mV_s]
            refine wa_if_ne (pc := 25) 81 dX6_chain_25 rfl (fun hb25 => absurd rfl hb25) (fun hb25 => ?_)
            first | refine wa_aload_n (pc := 28) (y := mX6_chain) dX6_chain_28 rfl ?_ | refine wa_aload_nN (pc := 28) (y := mX6_chain) dX6_chain_28 rfl ?_ | refine wa_aload_nq (pc := 28) (y := mX6_chain) dX6_chain_28 rfl ?_
            refine wa_getf (pc := 29) (y := mX6_chain) (k := 5) 0 dX6_chain_29 mH_o rfl q2643 (Or.inl rfl) (Nat.le_of_ble_eq_true rfl) (by rfl) ?_
            first | refine wa_aload_n (pc := 32) (y := mX6_chain) dX6_chain_32 rfl ?_ | refine wa_aload_nN (pc := 32) (y := mX6_chain) dX6_chain_32 rfl ?_ | refine wa_aload_nq (pc := 32) (y := mX6_chain) dX6_chain_32 rfl ?_
            refine wa_iload_n (pc := 33) (y := mX6_chain) dX6_chain_33 rfl ?_
            refine wa_callV (pc := 34) (s_X6_placeOf (d := d - 1) (by omega) hI) dX6_chain_34 okX6_placeOf q2723 q2725 qs42 mH_o rfl rfl rfl (Nat.le_of_ble_eq_true rfl) (Nat.le_of_ble_eq_true rfl) (by omega) ?_
            rintro _ _ - - ⟨rfl, rfl⟩
            refine aft_v (pc2 := 37) ?_ rfl
            rw [e1, oI_some]
            refine wa_callS (pc := 37) (s_X6_at (d := d - 1)) dX6_chain_37 okX6_at q2727 q2728 rfl rfl (Nat.le_of_ble_eq_true rfl) (Nat.le_of_ble_eq_true rfl) (by omega) ?_
            rintro _ _ - - ⟨rfl, rfl⟩
            refine aft_v (pc2 := 40) ?_ rfl
            refine wa_iconst (pc := 40) (y := mX6_chain) (Int32.ofNat 1) dX6_chain_40 rfl ?_
            first | with_reducible refine wa_iaddN (pc := 41) (y := mX6_chain) dX6_chain_41 ?_ | refine wa_iadd (pc := 41) (y := mX6_chain) dX6_chain_41 ?_
            refine wa_ialoadN (pc := 42) (y := mX6_chain) dX6_chain_42 mH_1 (by omega) ?_
            refine wa_if_le (pc := 43) 81 dX6_chain_43 rfl (fun hb43 => absurd hb43 (Int32.not_le.mpr x1)) (fun hb43 => ?_)
            first | refine wa_aload_n (pc := 46) (y := mX6_chain) dX6_chain_46 rfl ?_ | refine wa_aload_nN (pc := 46) (y := mX6_chain) dX6_chain_46 rfl ?_ | refine wa_aload_nq (pc := 46) (y := mX6_chain) dX6_chain_46 rfl ?_
            refine wa_iload_n (pc := 47) (y := mX6_chain) dX6_chain_47 rfl ?_
            refine wa_callV (pc := 48) (s_X6_nextCue (d := d - 1) (by omega) hI) dX6_chain_48 okX6_nextCue q2914 q2916 qs67 mH_o rfl rfl rfl (Nat.le_of_ble_eq_true rfl) (Nat.le_of_ble_eq_true rfl) (by omega) ?_
            rintro _ _ - - ⟨rfl, rfl⟩
            refine aft_v (pc2 := 51) ?_ rfl
            rw [e2]
            refine wa_if_le (pc := 51) 81 dX6_chain_51 rfl (fun hb51 => ?_) (fun hb51 => absurd (by decide) hb51)
            refine wa_iload_n (pc := 81) (y := mX6_chain) dX6_chain_81 rfl ?_
            exact wa_ireturn (pc := 82) (y := mX6_chain) .int dX6_chain_82 rfl rfl ⟨rfl, rfl⟩
        · rw [if_neg (fun q => x1 q.1)]
          first | refine wa_aload_n (pc := 21) (y := mX6_chain) dX6_chain_21 rfl ?_ | refine wa_aload_nN (pc := 21) (y := mX6_chain) dX6_chain_21 rfl ?_ | refine wa_aload_nq (pc := 21) (y := mX6_chain) dX6_chain_21 rfl ?_
          refine wa_getf (pc := 22) (y := mX6_chain) (k := 5) 7 dX6_chain_22 mH_o rfl q2650 (Or.inl rfl) (Nat.le_of_ble_eq_true rfl) (by rfl) ?_
          rw [mV_s]
          refine wa_if_ne (pc := 25) 81 dX6_chain_25 rfl (fun hb25 => absurd rfl hb25) (fun hb25 => ?_)
          first | refine wa_aload_n (pc := 28) (y := mX6_chain) dX6_chain_28 rfl ?_ | refine wa_aload_nN (pc := 28) (y := mX6_chain) dX6_chain_28 rfl ?_ | refine wa_aload_nq (pc := 28) (y := mX6_chain) dX6_chain_28 rfl ?_
          refine wa_getf (pc := 29) (y := mX6_chain) (k := 5) 0 dX6_chain_29 mH_o rfl q2643 (Or.inl rfl) (Nat.le_of_ble_eq_true rfl) (by rfl) ?_
          first | refine wa_aload_n (pc := 32) (y := mX6_chain) dX6_chain_32 rfl ?_ | refine wa_aload_nN (pc := 32) (y := mX6_chain) dX6_chain_32 rfl ?_ | refine wa_aload_nq (pc := 32) (y := mX6_chain) dX6_chain_32 rfl ?_
          refine wa_iload_n (pc := 33) (y := mX6_chain) dX6_chain_33 rfl ?_
          refine wa_callV (pc := 34) (s_X6_placeOf (d := d - 1) (by omega) hI) dX6_chain_34 okX6_placeOf q2723 q2725 qs42 mH_o rfl rfl rfl (Nat.le_of_ble_eq_true rfl) (Nat.le_of_ble_eq_true rfl) (by omega) ?_
          rintro _ _ - - ⟨rfl, rfl⟩
          refine aft_v (pc2 := 37) ?_ rfl
          rw [e1, oI_some]
          refine wa_callS (pc := 37) (s_X6_at (d := d - 1)) dX6_chain_37 okX6_at q2727 q2728 rfl rfl (Nat.le_of_ble_eq_true rfl) (Nat.le_of_ble_eq_true rfl) (by omega) ?_
          rintro _ _ - - ⟨rfl, rfl⟩
          refine aft_v (pc2 := 40) ?_ rfl
          refine wa_iconst (pc := 40) (y := mX6_chain) (Int32.ofNat 1) dX6_chain_40 rfl ?_
          first | with_reducible refine wa_iaddN (pc := 41) (y := mX6_chain) dX6_chain_41 ?_ | refine wa_iadd (pc := 41) (y := mX6_chain) dX6_chain_41 ?_
          refine wa_ialoadN (pc := 42) (y := mX6_chain) dX6_chain_42 mH_1 (by omega) ?_
          refine wa_if_le (pc := 43) 81 dX6_chain_43 rfl (fun hb43 => ?_) (fun hb43 => absurd (Int32.not_lt.mp x1) hb43)
          refine wa_iload_n (pc := 81) (y := mX6_chain) dX6_chain_81 rfl ?_
          exact wa_ireturn (pc := 82) (y := mX6_chain) .int dX6_chain_82 rfl rfl ⟨rfl, rfl⟩
    have l0 := lp 12 p 0 hps.1 (by omega)
    rw [hps.2] at l0
    first | refine wa_aload_n (pc := 0) (y := mX6_chain) dX6_chain_0 rfl ?_ | refine wa_aload_nN (pc := 0) (y := mX6_chain) dX6_chain_0 rfl ?_ | refine wa_aload_nq (pc := 0) (y := mX6_chain) dX6_chain_0 rfl ?_
    first | refine wa_aload_n (pc := 1) (y := mX6_chain) dX6_chain_1 rfl ?_ | refine wa_aload_nN (pc := 1) (y := mX6_chain) dX6_chain_1 rfl ?_ | refine wa_aload_nq (pc := 1) (y := mX6_chain) dX6_chain_1 rfl ?_
    refine wa_iload_n (pc := 2) (y := mX6_chain) dX6_chain_2 rfl ?_
    refine wa_callV (pc := 3) (s_X6_isCue (d := d - 1) (by omega) hI) dX6_chain_3 okX6_isCue q2719 q2721 qs41 mH_o rfl rfl rfl (Nat.le_of_ble_eq_true rfl) (Nat.le_of_ble_eq_true rfl) (by omega) ?_
    rintro _ _ - - ⟨rfl, rfl⟩
    refine aft_v (pc2 := 6) ?_ rfl
    rw [isC_some hp]
    refine wa_if_eq (pc := 6) 13 dX6_chain_6 rfl (fun hb6 => absurd hb6 (by decide)) (fun hb6 => ?_)
    refine wa_iconst (pc := 9) (y := mX6_chain) (Int32.ofNat 0) dX6_chain_9 rfl ?_
    refine wa_goto (pc := 10) (y := mX6_chain) 14 dX6_chain_10 rfl ?_
    refine wa_putf (pc := 14) (y := mX6_chain) (k := 5) 7 .int dX6_chain_14 mH_o rfl q2650 (Or.inl rfl) (Nat.le_of_ble_eq_true rfl) rfl (by decide +kernel) rfl rfl ?_
    rw [mW_o7]
    refine wa_iconst (pc := 17) (y := mX6_chain) (Int32.ofNat 0) dX6_chain_17 rfl ?_
    refine wa_istore_n (pc := 18) (y := mX6_chain) dX6_chain_18 (Nat.le_of_ble_eq_true rfl) rfl ?_
    change WA _ _ _ _ (List.set _ 2 _) _ _ _
    simp only [List.set_cons_zero, List.set_cons_succ]
    refine wa_iload_n (pc := 19) (y := mX6_chain) dX6_chain_19 rfl ?_
    refine wa_istore_n (pc := 20) (y := mX6_chain) dX6_chain_20 (Nat.le_of_ble_eq_true rfl) rfl ?_
    change WA _ _ _ _ (List.set _ 3 _) _ _ _
    simp only [List.set_cons_zero, List.set_cons_succ]
    exact l0
theorem s_X6_sum {cue : Int32} (hd : 3 ≤ d) (hI : Inv f) : MA G d mX6_sum [.ref m, .int cue] (mH h m f σ) (fun r h' => r = .inl (some (.int (O_sum f σ cue).2.1)) ∧ h' = mH h m (O_sum f σ cue).2.2.1 (O_sum f σ cue).2.2.2) := by
  have hn := hI.1
  show WA _ _ _ 0 [.ref m, .int _, .retAddr 0, .retAddr 0] [] _ _
  cases hp : pl f cue with
  | none =>
    rw [show O_sum f σ cue = oX f σ 1 by unfold O_sum; rw [hp]]
    first | refine wa_aload_n (pc := 0) (y := mX6_sum) dX6_sum_0 rfl ?_ | refine wa_aload_nN (pc := 0) (y := mX6_sum) dX6_sum_0 rfl ?_ | refine wa_aload_nq (pc := 0) (y := mX6_sum) dX6_sum_0 rfl ?_
    first | refine wa_aload_n (pc := 1) (y := mX6_sum) dX6_sum_1 rfl ?_ | refine wa_aload_nN (pc := 1) (y := mX6_sum) dX6_sum_1 rfl ?_ | refine wa_aload_nq (pc := 1) (y := mX6_sum) dX6_sum_1 rfl ?_
    refine wa_iload_n (pc := 2) (y := mX6_sum) dX6_sum_2 rfl ?_
    refine wa_callV (pc := 3) (s_X6_isCue (d := d - 1) (by omega) hI) dX6_sum_3 okX6_isCue q2719 q2721 qs41 mH_o rfl rfl rfl (Nat.le_of_ble_eq_true rfl) (Nat.le_of_ble_eq_true rfl) (by omega) ?_
    rintro _ _ - - ⟨rfl, rfl⟩
    refine aft_v (pc2 := 6) ?_ rfl
    rw [isC_none hp]
    refine wa_if_eq (pc := 6) 13 dX6_sum_6 rfl (fun hb6 => ?_) (fun hb6 => absurd rfl hb6)
    refine wa_iconst (pc := 13) (y := mX6_sum) (Int32.ofNat 1) dX6_sum_13 rfl ?_
    refine wa_putf (pc := 14) (y := mX6_sum) (k := 5) 7 .int dX6_sum_14 mH_o rfl q2650 (Or.inl rfl) (Nat.le_of_ble_eq_true rfl) rfl (by decide +kernel) rfl rfl ?_
    rw [mW_o7]
    refine wa_iconst (pc := 17) (y := mX6_sum) (Int32.ofNat 0) dX6_sum_17 rfl ?_
    refine wa_istore_n (pc := 18) (y := mX6_sum) dX6_sum_18 (Nat.le_of_ble_eq_true rfl) rfl ?_
    change WA _ _ _ _ (List.set _ 2 _) _ _ _
    simp only [List.set_cons_zero, List.set_cons_succ]
    refine wa_iconst (pc := 19) (y := mX6_sum) (Int32.ofNat 0) dX6_sum_19 rfl ?_
    refine wa_istore_n (pc := 20) (y := mX6_sum) dX6_sum_20 (Nat.le_of_ble_eq_true rfl) rfl ?_
    change WA _ _ _ _ (List.set _ 3 _) _ _ _
    simp only [List.set_cons_zero, List.set_cons_succ]
    refine wa_iload_n (pc := 21) (y := mX6_sum) dX6_sum_21 rfl ?_
    refine wa_bipush (pc := 22) (y := mX6_sum) (Int32.ofNat 12) dX6_sum_22 rfl ?_
    refine wa_icmp_ge (pc := 24) 53 dX6_sum_24 rfl (fun hb24 => absurd hb24 (by decide)) (fun hb24 => ?_)
    first | refine wa_aload_n (pc := 27) (y := mX6_sum) dX6_sum_27 rfl ?_ | refine wa_aload_nN (pc := 27) (y := mX6_sum) dX6_sum_27 rfl ?_ | refine wa_aload_nq (pc := 27) (y := mX6_sum) dX6_sum_27 rfl ?_
    refine wa_getf (pc := 28) (y := mX6_sum) (k := 5) 7 dX6_sum_28 mH_o rfl q2650 (Or.inl rfl) (Nat.le_of_ble_eq_true rfl) (by rfl) ?_
    rw [mV_s]
    show WA _ _ _ _ _ (.int (Int32.ofNat 1) :: _) _ _
    refine wa_if_ne (pc := 31) 53 dX6_sum_31 rfl (fun hb31 => ?_) (fun hb31 => absurd hb31 (by decide))
    clear hb31
    refine wa_iload_n (pc := 53) (y := mX6_sum) dX6_sum_53 rfl ?_
    exact wa_ireturn (pc := 54) (y := mX6_sum) .int dX6_sum_54 rfl rfl ⟨rfl, rfl⟩
  | some p =>
    have hps := pl_some hp
    rw [show O_sum f σ cue = oR f σ (smN (fun c => lvN f c (p + 1)) 12) by unfold O_sum; rw [hp]]
    have lp : ∀ t c, c + t = 12 → WA G d mX6_sum 21 [.ref m, .int cue, .int (smN (fun c => lvN f c (p + 1)) c), .int (Int32.ofNat c)] [] (mH h m f (mV σ 7 (Int32.ofNat 0))) (fun r h' => r = .inl (some (.int (smN (fun c => lvN f c (p + 1)) 12))) ∧ h' = mH h m f (mV σ 7 (Int32.ofNat 0))) := by
      intro t
      induction t with
      | zero =>
        intro c hc
        obtain rfl : c = 12 := hc
        refine wa_iload_n (pc := 21) (y := mX6_sum) dX6_sum_21 rfl ?_
        refine wa_bipush (pc := 22) (y := mX6_sum) (Int32.ofNat 12) dX6_sum_22 rfl ?_
        refine wa_icmp_ge (pc := 24) 53 dX6_sum_24 rfl (fun hb24 => ?_) (fun hb24 => absurd ((iN_le (by omega) (by omega)).mpr (by omega)) hb24)
        refine wa_iload_n (pc := 53) (y := mX6_sum) dX6_sum_53 rfl ?_
        exact wa_ireturn (pc := 54) (y := mX6_sum) .int dX6_sum_54 rfl rfl ⟨rfl, rfl⟩
      | succ t ih =>
        intro c hc
        refine wa_iload_n (pc := 21) (y := mX6_sum) dX6_sum_21 rfl ?_
        refine wa_bipush (pc := 22) (y := mX6_sum) (Int32.ofNat 12) dX6_sum_22 rfl ?_
        refine wa_icmp_ge (pc := 24) 53 dX6_sum_24 rfl (fun hb24 => absurd ((iN_le (by omega) (by omega)).mp hb24) (by omega)) (fun hb24 => ?_)
        first | refine wa_aload_n (pc := 27) (y := mX6_sum) dX6_sum_27 rfl ?_ | refine wa_aload_nN (pc := 27) (y := mX6_sum) dX6_sum_27 rfl ?_ | refine wa_aload_nq (pc := 27) (y := mX6_sum) dX6_sum_27 rfl ?_
        refine wa_getf (pc := 28) (y := mX6_sum) (k := 5) 7 dX6_sum_28 mH_o rfl q2650 (Or.inl rfl) (Nat.le_of_ble_eq_true rfl) (by rfl) ?_
        rw [mV_s]
        refine wa_if_ne (pc := 31) 53 dX6_sum_31 rfl (fun hb31 => absurd rfl hb31) (fun hb31 => ?_)
        refine wa_iload_n (pc := 34) (y := mX6_sum) dX6_sum_34 rfl ?_
        first | refine wa_aload_n (pc := 35) (y := mX6_sum) dX6_sum_35 rfl ?_ | refine wa_aload_nN (pc := 35) (y := mX6_sum) dX6_sum_35 rfl ?_ | refine wa_aload_nq (pc := 35) (y := mX6_sum) dX6_sum_35 rfl ?_
        first | refine wa_aload_n (pc := 36) (y := mX6_sum) dX6_sum_36 rfl ?_ | refine wa_aload_nN (pc := 36) (y := mX6_sum) dX6_sum_36 rfl ?_ | refine wa_aload_nq (pc := 36) (y := mX6_sum) dX6_sum_36 rfl ?_
        refine wa_iload_n (pc := 37) (y := mX6_sum) dX6_sum_37 rfl ?_
        refine wa_callV (pc := 38) (s_X6_placeOf (d := d - 1) (by omega) hI) dX6_sum_38 okX6_placeOf q2723 q2725 qs42 mH_o rfl rfl rfl (Nat.le_of_ble_eq_true rfl) (Nat.le_of_ble_eq_true rfl) (by omega) ?_
        rintro _ _ - - ⟨rfl, rfl⟩
        refine aft_v (pc2 := 41) ?_ rfl
        rw [hp, oI_some]
        refine wa_iload_n (pc := 41) (y := mX6_sum) dX6_sum_41 rfl ?_
        refine wa_callV (pc := 42) (s_X6_levelIn (d := d - 1) (by omega) hI hps.1 (by omega)) dX6_sum_42 okX6_levelIn q2754 q2756 qs46 mH_o rfl rfl rfl (Nat.le_of_ble_eq_true rfl) (Nat.le_of_ble_eq_true rfl) (by omega) ?_
        rintro _ _ - - ⟨rfl, rfl⟩
        refine aft_v (pc2 := 45) ?_ rfl
        first | with_reducible refine wa_iaddN (pc := 45) (y := mX6_sum) dX6_sum_45 ?_ | refine wa_iadd (pc := 45) (y := mX6_sum) dX6_sum_45 ?_
        refine wa_istore_n (pc := 46) (y := mX6_sum) dX6_sum_46 (Nat.le_of_ble_eq_true rfl) rfl ?_
        change WA _ _ _ _ (List.set _ 2 _) _ _ _
        simp only [List.set_cons_zero, List.set_cons_succ]
        first | with_reducible refine wa_iincN (pc := 47) (y := mX6_sum) dX6_sum_47 rfl (Nat.le_of_ble_eq_true rfl) rfl ?_ | refine wa_iinc (pc := 47) (y := mX6_sum) (1) dX6_sum_47 rfl rfl (Nat.le_of_ble_eq_true rfl) rfl ?_
        simp only [List.set_cons_zero, List.set_cons_succ]
        refine wa_goto (pc := 50) (y := mX6_sum) 21 dX6_sum_50 rfl ?_
        exact ih (c + 1) (by omega)
    first | refine wa_aload_n (pc := 0) (y := mX6_sum) dX6_sum_0 rfl ?_ | refine wa_aload_nN (pc := 0) (y := mX6_sum) dX6_sum_0 rfl ?_ | refine wa_aload_nq (pc := 0) (y := mX6_sum) dX6_sum_0 rfl ?_
    first | refine wa_aload_n (pc := 1) (y := mX6_sum) dX6_sum_1 rfl ?_ | refine wa_aload_nN (pc := 1) (y := mX6_sum) dX6_sum_1 rfl ?_ | refine wa_aload_nq (pc := 1) (y := mX6_sum) dX6_sum_1 rfl ?_
    refine wa_iload_n (pc := 2) (y := mX6_sum) dX6_sum_2 rfl ?_
    refine wa_callV (pc := 3) (s_X6_isCue (d := d - 1) (by omega) hI) dX6_sum_3 okX6_isCue q2719 q2721 qs41 mH_o rfl rfl rfl (Nat.le_of_ble_eq_true rfl) (Nat.le_of_ble_eq_true rfl) (by omega) ?_
    rintro _ _ - - ⟨rfl, rfl⟩
    refine aft_v (pc2 := 6) ?_ rfl
    rw [isC_some hp]
    refine wa_if_eq (pc := 6) 13 dX6_sum_6 rfl (fun hb6 => absurd hb6 (by decide)) (fun hb6 => ?_)
    refine wa_iconst (pc := 9) (y := mX6_sum) (Int32.ofNat 0) dX6_sum_9 rfl ?_
    refine wa_goto (pc := 10) (y := mX6_sum) 14 dX6_sum_10 rfl ?_
    refine wa_putf (pc := 14) (y := mX6_sum) (k := 5) 7 .int dX6_sum_14 mH_o rfl q2650 (Or.inl rfl) (Nat.le_of_ble_eq_true rfl) rfl (by decide +kernel) rfl rfl ?_
    rw [mW_o7]
    refine wa_iconst (pc := 17) (y := mX6_sum) (Int32.ofNat 0) dX6_sum_17 rfl ?_
    refine wa_istore_n (pc := 18) (y := mX6_sum) dX6_sum_18 (Nat.le_of_ble_eq_true rfl) rfl ?_
    change WA _ _ _ _ (List.set _ 2 _) _ _ _
    simp only [List.set_cons_zero, List.set_cons_succ]
    refine wa_iconst (pc := 19) (y := mX6_sum) (Int32.ofNat 0) dX6_sum_19 rfl ?_
    refine wa_istore_n (pc := 20) (y := mX6_sum) dX6_sum_20 (Nat.le_of_ble_eq_true rfl) rfl ?_
    change WA _ _ _ _ (List.set _ 3 _) _ _ _
    simp only [List.set_cons_zero, List.set_cons_succ]
    exact lp 12 0 (by omega)
theorem s_X6_apart {cue cue2 : Int32} (hd : 3 ≤ d) (hI : Inv f) : MA G d mX6_apart [.ref m, .int cue, .int cue2] (mH h m f σ) (fun r h' => r = .inl (some (.int (O_apart f σ cue cue2).2.1)) ∧ h' = mH h m (O_apart f σ cue cue2).2.2.1 (O_apart f σ cue cue2).2.2.2) := by
  have hn := hI.1
  show WA _ _ _ 0 [.ref m, .int _, .int _, .retAddr 0, .retAddr 0] [] _ _
  cases hp : pl f cue with
  | none =>
    rw [show O_apart f σ cue cue2 = oX f σ 1 by unfold O_apart; rw [hp]]
    first | refine wa_aload_n (pc := 0) (y := mX6_apart) dX6_apart_0 rfl ?_ | refine wa_aload_nN (pc := 0) (y := mX6_apart) dX6_apart_0 rfl ?_ | refine wa_aload_nq (pc := 0) (y := mX6_apart) dX6_apart_0 rfl ?_
    first | refine wa_aload_n (pc := 1) (y := mX6_apart) dX6_apart_1 rfl ?_ | refine wa_aload_nN (pc := 1) (y := mX6_apart) dX6_apart_1 rfl ?_ | refine wa_aload_nq (pc := 1) (y := mX6_apart) dX6_apart_1 rfl ?_
    refine wa_iload_n (pc := 2) (y := mX6_apart) dX6_apart_2 rfl ?_
    refine wa_callV (pc := 3) (s_X6_isCue (d := d - 1) (by omega) hI) dX6_apart_3 okX6_isCue q2719 q2721 qs41 mH_o rfl rfl rfl (Nat.le_of_ble_eq_true rfl) (Nat.le_of_ble_eq_true rfl) (by omega) ?_
    rintro _ _ - - ⟨rfl, rfl⟩
    refine aft_v (pc2 := 6) ?_ rfl
    rw [isC_none hp]
    refine wa_if_eq (pc := 6) 21 dX6_apart_6 rfl (fun hb6 => ?_) (fun hb6 => absurd rfl hb6)
    refine wa_iconst (pc := 21) (y := mX6_apart) (Int32.ofNat 1) dX6_apart_21 rfl ?_
    refine wa_putf (pc := 22) (y := mX6_apart) (k := 5) 7 .int dX6_apart_22 mH_o rfl q2650 (Or.inl rfl) (Nat.le_of_ble_eq_true rfl) rfl (by decide +kernel) rfl rfl ?_
    rw [mW_o7]
    refine wa_iconst (pc := 25) (y := mX6_apart) (Int32.ofNat 0) dX6_apart_25 rfl ?_
    refine wa_istore_n (pc := 26) (y := mX6_apart) dX6_apart_26 (Nat.le_of_ble_eq_true rfl) rfl ?_
    change WA _ _ _ _ (List.set _ 3 _) _ _ _
    simp only [List.set_cons_zero, List.set_cons_succ]
    refine wa_iconst (pc := 27) (y := mX6_apart) (Int32.ofNat 0) dX6_apart_27 rfl ?_
    refine wa_istore (pc := 28) (y := mX6_apart) dX6_apart_28 (Nat.le_of_ble_eq_true rfl) rfl ?_
    simp only [List.set_cons_zero, List.set_cons_succ]
    refine wa_iload (pc := 30) (y := mX6_apart) dX6_apart_30 rfl ?_
    refine wa_bipush (pc := 32) (y := mX6_apart) (Int32.ofNat 12) dX6_apart_32 rfl ?_
    refine wa_icmp_ge (pc := 34) 83 dX6_apart_34 rfl (fun hb34 => absurd hb34 (by decide)) (fun hb34 => ?_)
    first | refine wa_aload_n (pc := 37) (y := mX6_apart) dX6_apart_37 rfl ?_ | refine wa_aload_nN (pc := 37) (y := mX6_apart) dX6_apart_37 rfl ?_ | refine wa_aload_nq (pc := 37) (y := mX6_apart) dX6_apart_37 rfl ?_
    refine wa_getf (pc := 38) (y := mX6_apart) (k := 5) 7 dX6_apart_38 mH_o rfl q2650 (Or.inl rfl) (Nat.le_of_ble_eq_true rfl) (by rfl) ?_
    rw [mV_s]
    show WA _ _ _ _ _ (.int (Int32.ofNat 1) :: _) _ _
    refine wa_if_ne (pc := 41) 83 dX6_apart_41 rfl (fun hb41 => ?_) (fun hb41 => absurd hb41 (by decide))
    clear hb41
    refine wa_iload_n (pc := 83) (y := mX6_apart) dX6_apart_83 rfl ?_
    exact wa_ireturn (pc := 84) (y := mX6_apart) .int dX6_apart_84 rfl rfl ⟨rfl, rfl⟩
  | some p =>
    have hps := pl_some hp
    cases hq : pl f cue2 with
    | none =>
      rw [show O_apart f σ cue cue2 = oX f σ 1 by unfold O_apart; rw [hp]; show (match pl f cue2 with | none => _ | some q => _) = _; rw [hq]]
      first | refine wa_aload_n (pc := 0) (y := mX6_apart) dX6_apart_0 rfl ?_ | refine wa_aload_nN (pc := 0) (y := mX6_apart) dX6_apart_0 rfl ?_ | refine wa_aload_nq (pc := 0) (y := mX6_apart) dX6_apart_0 rfl ?_
      first | refine wa_aload_n (pc := 1) (y := mX6_apart) dX6_apart_1 rfl ?_ | refine wa_aload_nN (pc := 1) (y := mX6_apart) dX6_apart_1 rfl ?_ | refine wa_aload_nq (pc := 1) (y := mX6_apart) dX6_apart_1 rfl ?_
      refine wa_iload_n (pc := 2) (y := mX6_apart) dX6_apart_2 rfl ?_
      refine wa_callV (pc := 3) (s_X6_isCue (d := d - 1) (by omega) hI) dX6_apart_3 okX6_isCue q2719 q2721 qs41 mH_o rfl rfl rfl (Nat.le_of_ble_eq_true rfl) (Nat.le_of_ble_eq_true rfl) (by omega) ?_
      rintro _ _ - - ⟨rfl, rfl⟩
      refine aft_v (pc2 := 6) ?_ rfl
      rw [isC_some hp]
      refine wa_if_eq (pc := 6) 21 dX6_apart_6 rfl (fun hb6 => absurd hb6 (by decide)) (fun hb6 => ?_)
      first | refine wa_aload_n (pc := 9) (y := mX6_apart) dX6_apart_9 rfl ?_ | refine wa_aload_nN (pc := 9) (y := mX6_apart) dX6_apart_9 rfl ?_ | refine wa_aload_nq (pc := 9) (y := mX6_apart) dX6_apart_9 rfl ?_
      refine wa_iload_n (pc := 10) (y := mX6_apart) dX6_apart_10 rfl ?_
      refine wa_callV (pc := 11) (s_X6_isCue (d := d - 1) (by omega) hI) dX6_apart_11 okX6_isCue q2719 q2721 qs41 mH_o rfl rfl rfl (Nat.le_of_ble_eq_true rfl) (Nat.le_of_ble_eq_true rfl) (by omega) ?_
      rintro _ _ - - ⟨rfl, rfl⟩
      refine aft_v (pc2 := 14) ?_ rfl
      rw [isC_none hq]
      refine wa_if_eq (pc := 14) 21 dX6_apart_14 rfl (fun hb14 => ?_) (fun hb14 => absurd rfl hb14)
      refine wa_iconst (pc := 21) (y := mX6_apart) (Int32.ofNat 1) dX6_apart_21 rfl ?_
      refine wa_putf (pc := 22) (y := mX6_apart) (k := 5) 7 .int dX6_apart_22 mH_o rfl q2650 (Or.inl rfl) (Nat.le_of_ble_eq_true rfl) rfl (by decide +kernel) rfl rfl ?_
      rw [mW_o7]
      refine wa_iconst (pc := 25) (y := mX6_apart) (Int32.ofNat 0) dX6_apart_25 rfl ?_
      refine wa_istore_n (pc := 26) (y := mX6_apart) dX6_apart_26 (Nat.le_of_ble_eq_true rfl) rfl ?_
      change WA _ _ _ _ (List.set _ 3 _) _ _ _
      simp only [List.set_cons_zero, List.set_cons_succ]
      refine wa_iconst (pc := 27) (y := mX6_apart) (Int32.ofNat 0) dX6_apart_27 rfl ?_
      refine wa_istore (pc := 28) (y := mX6_apart) dX6_apart_28 (Nat.le_of_ble_eq_true rfl) rfl ?_
      simp only [List.set_cons_zero, List.set_cons_succ]
      refine wa_iload (pc := 30) (y := mX6_apart) dX6_apart_30 rfl ?_
      refine wa_bipush (pc := 32) (y := mX6_apart) (Int32.ofNat 12) dX6_apart_32 rfl ?_
      refine wa_icmp_ge (pc := 34) 83 dX6_apart_34 rfl (fun hb34 => absurd hb34 (by decide)) (fun hb34 => ?_)
      first | refine wa_aload_n (pc := 37) (y := mX6_apart) dX6_apart_37 rfl ?_ | refine wa_aload_nN (pc := 37) (y := mX6_apart) dX6_apart_37 rfl ?_ | refine wa_aload_nq (pc := 37) (y := mX6_apart) dX6_apart_37 rfl ?_
      refine wa_getf (pc := 38) (y := mX6_apart) (k := 5) 7 dX6_apart_38 mH_o rfl q2650 (Or.inl rfl) (Nat.le_of_ble_eq_true rfl) (by rfl) ?_
      rw [mV_s]
      show WA _ _ _ _ _ (.int (Int32.ofNat 1) :: _) _ _
      refine wa_if_ne (pc := 41) 83 dX6_apart_41 rfl (fun hb41 => ?_) (fun hb41 => absurd hb41 (by decide))
      clear hb41
      refine wa_iload_n (pc := 83) (y := mX6_apart) dX6_apart_83 rfl ?_
      exact wa_ireturn (pc := 84) (y := mX6_apart) .int dX6_apart_84 rfl rfl ⟨rfl, rfl⟩
    | some q =>
      have hqs := pl_some hq
      rw [show O_apart f σ cue cue2 = oR f σ (smN (apG f p q) 12) by unfold O_apart; rw [hp]; show (match pl f cue2 with | none => _ | some q => _) = _; rw [hq]]
      have lp : ∀ t c, c + t = 12 → WA G d mX6_apart 30 [.ref m, .int cue, .int cue2, .int (smN (apG f p q) c), .int (Int32.ofNat c)] [] (mH h m f (mV σ 7 (Int32.ofNat 0))) (fun r h' => r = .inl (some (.int (smN (apG f p q) 12))) ∧ h' = mH h m f (mV σ 7 (Int32.ofNat 0))) := by
        intro t
        induction t with
        | zero =>
          intro c hc
          obtain rfl : c = 12 := hc
          refine wa_iload (pc := 30) (y := mX6_apart) dX6_apart_30 rfl ?_
          refine wa_bipush (pc := 32) (y := mX6_apart) (Int32.ofNat 12) dX6_apart_32 rfl ?_
          refine wa_icmp_ge (pc := 34) 83 dX6_apart_34 rfl (fun hb34 => ?_) (fun hb34 => absurd ((iN_le (by omega) (by omega)).mpr (by omega)) hb34)
          refine wa_iload_n (pc := 83) (y := mX6_apart) dX6_apart_83 rfl ?_
          exact wa_ireturn (pc := 84) (y := mX6_apart) .int dX6_apart_84 rfl rfl ⟨rfl, rfl⟩
        | succ t ih =>
          intro c hc
          refine wa_iload (pc := 30) (y := mX6_apart) dX6_apart_30 rfl ?_
          refine wa_bipush (pc := 32) (y := mX6_apart) (Int32.ofNat 12) dX6_apart_32 rfl ?_
          refine wa_icmp_ge (pc := 34) 83 dX6_apart_34 rfl (fun hb34 => absurd ((iN_le (by omega) (by omega)).mp hb34) (by omega)) (fun hb34 => ?_)
          first | refine wa_aload_n (pc := 37) (y := mX6_apart) dX6_apart_37 rfl ?_ | refine wa_aload_nN (pc := 37) (y := mX6_apart) dX6_apart_37 rfl ?_ | refine wa_aload_nq (pc := 37) (y := mX6_apart) dX6_apart_37 rfl ?_
          refine wa_getf (pc := 38) (y := mX6_apart) (k := 5) 7 dX6_apart_38 mH_o rfl q2650 (Or.inl rfl) (Nat.le_of_ble_eq_true rfl) (by rfl) ?_
          rw [mV_s]
          refine wa_if_ne (pc := 41) 83 dX6_apart_41 rfl (fun hb41 => absurd rfl hb41) (fun hb41 => ?_)
          refine wa_iload_n (pc := 44) (y := mX6_apart) dX6_apart_44 rfl ?_
          first | refine wa_aload_n (pc := 45) (y := mX6_apart) dX6_apart_45 rfl ?_ | refine wa_aload_nN (pc := 45) (y := mX6_apart) dX6_apart_45 rfl ?_ | refine wa_aload_nq (pc := 45) (y := mX6_apart) dX6_apart_45 rfl ?_
          first | refine wa_aload_n (pc := 46) (y := mX6_apart) dX6_apart_46 rfl ?_ | refine wa_aload_nN (pc := 46) (y := mX6_apart) dX6_apart_46 rfl ?_ | refine wa_aload_nq (pc := 46) (y := mX6_apart) dX6_apart_46 rfl ?_
          refine wa_iload_n (pc := 47) (y := mX6_apart) dX6_apart_47 rfl ?_
          refine wa_callV (pc := 48) (s_X6_placeOf (d := d - 1) (by omega) hI) dX6_apart_48 okX6_placeOf q2723 q2725 qs42 mH_o rfl rfl rfl (Nat.le_of_ble_eq_true rfl) (Nat.le_of_ble_eq_true rfl) (by omega) ?_
          rintro _ _ - - ⟨rfl, rfl⟩
          refine aft_v (pc2 := 51) ?_ rfl
          rw [hp, oI_some]
          refine wa_iload (pc := 51) (y := mX6_apart) dX6_apart_51 rfl ?_
          refine wa_callV (pc := 53) (s_X6_levelIn (d := d - 1) (by omega) hI hps.1 (by omega)) dX6_apart_53 okX6_levelIn q2754 q2756 qs46 mH_o rfl rfl rfl (Nat.le_of_ble_eq_true rfl) (Nat.le_of_ble_eq_true rfl) (by omega) ?_
          rintro _ _ - - ⟨rfl, rfl⟩
          refine aft_v (pc2 := 56) ?_ rfl
          first | refine wa_aload_n (pc := 56) (y := mX6_apart) dX6_apart_56 rfl ?_ | refine wa_aload_nN (pc := 56) (y := mX6_apart) dX6_apart_56 rfl ?_ | refine wa_aload_nq (pc := 56) (y := mX6_apart) dX6_apart_56 rfl ?_
          first | refine wa_aload_n (pc := 57) (y := mX6_apart) dX6_apart_57 rfl ?_ | refine wa_aload_nN (pc := 57) (y := mX6_apart) dX6_apart_57 rfl ?_ | refine wa_aload_nq (pc := 57) (y := mX6_apart) dX6_apart_57 rfl ?_
          refine wa_iload_n (pc := 58) (y := mX6_apart) dX6_apart_58 rfl ?_
          refine wa_callV (pc := 59) (s_X6_placeOf (d := d - 1) (by omega) hI) dX6_apart_59 okX6_placeOf q2723 q2725 qs42 mH_o rfl rfl rfl (Nat.le_of_ble_eq_true rfl) (Nat.le_of_ble_eq_true rfl) (by omega) ?_
          rintro _ _ - - ⟨rfl, rfl⟩
          refine aft_v (pc2 := 62) ?_ rfl
          rw [hq, oI_some]
          refine wa_iload (pc := 62) (y := mX6_apart) dX6_apart_62 rfl ?_
          refine wa_callV (pc := 64) (s_X6_levelIn (d := d - 1) (by omega) hI hqs.1 (by omega)) dX6_apart_64 okX6_levelIn q2754 q2756 qs46 mH_o rfl rfl rfl (Nat.le_of_ble_eq_true rfl) (Nat.le_of_ble_eq_true rfl) (by omega) ?_
          rintro _ _ - - ⟨rfl, rfl⟩
          refine aft_v (pc2 := 67) ?_ rfl
          refine wa_icmp_eq (pc := 67) 74 dX6_apart_67 rfl (fun hb67 => ?_) (fun hb67 => ?_)
          · have e : apG f p q c = Int32.ofNat 0 := if_pos hb67
            refine wa_iconst (pc := 74) (y := mX6_apart) (Int32.ofNat 0) dX6_apart_74 rfl ?_
            first | with_reducible refine wa_iaddN (pc := 75) (y := mX6_apart) dX6_apart_75 ?_ | refine wa_iadd (pc := 75) (y := mX6_apart) dX6_apart_75 ?_
            rw [smN_s e]
            refine wa_istore_n (pc := 76) (y := mX6_apart) dX6_apart_76 (Nat.le_of_ble_eq_true rfl) rfl ?_
            change WA _ _ _ _ (List.set _ 3 _) _ _ _
            simp only [List.set_cons_zero, List.set_cons_succ]
            first | with_reducible refine wa_iincN (pc := 77) (y := mX6_apart) dX6_apart_77 rfl (Nat.le_of_ble_eq_true rfl) rfl ?_ | refine wa_iinc (pc := 77) (y := mX6_apart) (1) dX6_apart_77 rfl rfl (Nat.le_of_ble_eq_true rfl) rfl ?_
            simp only [List.set_cons_zero, List.set_cons_succ]
            refine wa_goto (pc := 80) (y := mX6_apart) 30 dX6_apart_80 rfl ?_
            exact ih (c + 1) (by omega)
          · have e : apG f p q c = Int32.ofNat 1 := if_neg hb67
            refine wa_iconst (pc := 70) (y := mX6_apart) (Int32.ofNat 1) dX6_apart_70 rfl ?_
            refine wa_goto (pc := 71) (y := mX6_apart) 75 dX6_apart_71 rfl ?_
            first | with_reducible refine wa_iaddN (pc := 75) (y := mX6_apart) dX6_apart_75 ?_ | refine wa_iadd (pc := 75) (y := mX6_apart) dX6_apart_75 ?_
            rw [smN_s e]
            refine wa_istore_n (pc := 76) (y := mX6_apart) dX6_apart_76 (Nat.le_of_ble_eq_true rfl) rfl ?_
            change WA _ _ _ _ (List.set _ 3 _) _ _ _
            simp only [List.set_cons_zero, List.set_cons_succ]
            first | with_reducible refine wa_iincN (pc := 77) (y := mX6_apart) dX6_apart_77 rfl (Nat.le_of_ble_eq_true rfl) rfl ?_ | refine wa_iinc (pc := 77) (y := mX6_apart) (1) dX6_apart_77 rfl rfl (Nat.le_of_ble_eq_true rfl) rfl ?_
            simp only [List.set_cons_zero, List.set_cons_succ]
            refine wa_goto (pc := 80) (y := mX6_apart) 30 dX6_apart_80 rfl ?_
            exact ih (c + 1) (by omega)
      first | refine wa_aload_n (pc := 0) (y := mX6_apart) dX6_apart_0 rfl ?_ | refine wa_aload_nN (pc := 0) (y := mX6_apart) dX6_apart_0 rfl ?_ | refine wa_aload_nq (pc := 0) (y := mX6_apart) dX6_apart_0 rfl ?_
      first | refine wa_aload_n (pc := 1) (y := mX6_apart) dX6_apart_1 rfl ?_ | refine wa_aload_nN (pc := 1) (y := mX6_apart) dX6_apart_1 rfl ?_ | refine wa_aload_nq (pc := 1) (y := mX6_apart) dX6_apart_1 rfl ?_
      refine wa_iload_n (pc := 2) (y := mX6_apart) dX6_apart_2 rfl ?_
      refine wa_callV (pc := 3) (s_X6_isCue (d := d - 1) (by omega) hI) dX6_apart_3 okX6_isCue q2719 q2721 qs41 mH_o rfl rfl rfl (Nat.le_of_ble_eq_true rfl) (Nat.le_of_ble_eq_true rfl) (by omega) ?_
      rintro _ _ - - ⟨rfl, rfl⟩
      refine aft_v (pc2 := 6) ?_ rfl
      rw [isC_some hp]
      refine wa_if_eq (pc := 6) 21 dX6_apart_6 rfl (fun hb6 => absurd hb6 (by decide)) (fun hb6 => ?_)
      first | refine wa_aload_n (pc := 9) (y := mX6_apart) dX6_apart_9 rfl ?_ | refine wa_aload_nN (pc := 9) (y := mX6_apart) dX6_apart_9 rfl ?_ | refine wa_aload_nq (pc := 9) (y := mX6_apart) dX6_apart_9 rfl ?_
      refine wa_iload_n (pc := 10) (y := mX6_apart) dX6_apart_10 rfl ?_
      refine wa_callV (pc := 11) (s_X6_isCue (d := d - 1) (by omega) hI) dX6_apart_11 okX6_isCue q2719 q2721 qs41 mH_o rfl rfl rfl (Nat.le_of_ble_eq_true rfl) (Nat.le_of_ble_eq_true rfl) (by omega) ?_
      rintro _ _ - - ⟨rfl, rfl⟩
      refine aft_v (pc2 := 14) ?_ rfl
      rw [isC_some hq]
      refine wa_if_eq (pc := 14) 21 dX6_apart_14 rfl (fun hb14 => absurd hb14 (by decide)) (fun hb14 => ?_)
      refine wa_iconst (pc := 17) (y := mX6_apart) (Int32.ofNat 0) dX6_apart_17 rfl ?_
      refine wa_goto (pc := 18) (y := mX6_apart) 22 dX6_apart_18 rfl ?_
      refine wa_putf (pc := 22) (y := mX6_apart) (k := 5) 7 .int dX6_apart_22 mH_o rfl q2650 (Or.inl rfl) (Nat.le_of_ble_eq_true rfl) rfl (by decide +kernel) rfl rfl ?_
      rw [mW_o7]
      refine wa_iconst (pc := 25) (y := mX6_apart) (Int32.ofNat 0) dX6_apart_25 rfl ?_
      refine wa_istore_n (pc := 26) (y := mX6_apart) dX6_apart_26 (Nat.le_of_ble_eq_true rfl) rfl ?_
      change WA _ _ _ _ (List.set _ 3 _) _ _ _
      simp only [List.set_cons_zero, List.set_cons_succ]
      refine wa_iconst (pc := 27) (y := mX6_apart) (Int32.ofNat 0) dX6_apart_27 rfl ?_
      refine wa_istore (pc := 28) (y := mX6_apart) dX6_apart_28 (Nat.le_of_ble_eq_true rfl) rfl ?_
      simp only [List.set_cons_zero, List.set_cons_succ]
      exact lp 12 0 (by omega)
theorem s_X6_errorPosition : MA G d mX6_errorPosition [.ref m] (mH h m f σ) (fun r h' => r = .inl (some (.int (O_errorPosition f σ).2.1)) ∧ h' = mH h m (O_errorPosition f σ).2.2.1 (O_errorPosition f σ).2.2.2) := by
  show WA _ _ _ 0 [.ref m] [] _ _
  by_cases e : σ.2 13 < 0
  · rw [show O_errorPosition f σ = _ from if_pos e]
    first | refine wa_aload_n (pc := 0) (y := mX6_errorPosition) dX6_errorPosition_0 rfl ?_ | refine wa_aload_nN (pc := 0) (y := mX6_errorPosition) dX6_errorPosition_0 rfl ?_ | refine wa_aload_nq (pc := 0) (y := mX6_errorPosition) dX6_errorPosition_0 rfl ?_
    first | refine wa_aload_n (pc := 1) (y := mX6_errorPosition) dX6_errorPosition_1 rfl ?_ | refine wa_aload_nN (pc := 1) (y := mX6_errorPosition) dX6_errorPosition_1 rfl ?_ | refine wa_aload_nq (pc := 1) (y := mX6_errorPosition) dX6_errorPosition_1 rfl ?_
    refine wa_getf (pc := 2) (y := mX6_errorPosition) (k := 5) 13 dX6_errorPosition_2 mH_o rfl q2656 (Or.inl rfl) (Nat.le_of_ble_eq_true rfl) (by rfl) ?_
    refine wa_if_ge (pc := 5) 12 dX6_errorPosition_5 rfl (fun hb5 => absurd hb5 (Int32.not_le.mpr e)) (fun hb5 => ?_)
    refine wa_iconst (pc := 8) (y := mX6_errorPosition) (Int32.ofNat 1) dX6_errorPosition_8 rfl ?_
    refine wa_goto (pc := 9) (y := mX6_errorPosition) 13 dX6_errorPosition_9 rfl ?_
    refine wa_putf (pc := 13) (y := mX6_errorPosition) (k := 5) 7 .int dX6_errorPosition_13 mH_o rfl q2650 (Or.inl rfl) (Nat.le_of_ble_eq_true rfl) rfl (by decide +kernel) rfl rfl ?_
    rw [mW_o7]
    first | refine wa_aload_n (pc := 16) (y := mX6_errorPosition) dX6_errorPosition_16 rfl ?_ | refine wa_aload_nN (pc := 16) (y := mX6_errorPosition) dX6_errorPosition_16 rfl ?_ | refine wa_aload_nq (pc := 16) (y := mX6_errorPosition) dX6_errorPosition_16 rfl ?_
    refine wa_getf (pc := 17) (y := mX6_errorPosition) (k := 5) 7 dX6_errorPosition_17 mH_o rfl q2650 (Or.inl rfl) (Nat.le_of_ble_eq_true rfl) (by rfl) ?_
    show WA _ _ _ _ _ (.int (Int32.ofNat 1) :: _) _ _
    refine wa_if_le (pc := 20) 27 dX6_errorPosition_20 rfl (fun hb20 => absurd hb20 (by decide)) (fun hb20 => ?_)
    clear hb20
    refine wa_iconst (pc := 23) (y := mX6_errorPosition) (Int32.ofNat 0) dX6_errorPosition_23 rfl ?_
    refine wa_goto (pc := 24) (y := mX6_errorPosition) 31 dX6_errorPosition_24 rfl ?_
    exact wa_ireturn (pc := 31) (y := mX6_errorPosition) .int dX6_errorPosition_31 rfl rfl ⟨rfl, rfl⟩
  · rw [show O_errorPosition f σ = _ from if_neg e]
    first | refine wa_aload_n (pc := 0) (y := mX6_errorPosition) dX6_errorPosition_0 rfl ?_ | refine wa_aload_nN (pc := 0) (y := mX6_errorPosition) dX6_errorPosition_0 rfl ?_ | refine wa_aload_nq (pc := 0) (y := mX6_errorPosition) dX6_errorPosition_0 rfl ?_
    first | refine wa_aload_n (pc := 1) (y := mX6_errorPosition) dX6_errorPosition_1 rfl ?_ | refine wa_aload_nN (pc := 1) (y := mX6_errorPosition) dX6_errorPosition_1 rfl ?_ | refine wa_aload_nq (pc := 1) (y := mX6_errorPosition) dX6_errorPosition_1 rfl ?_
    refine wa_getf (pc := 2) (y := mX6_errorPosition) (k := 5) 13 dX6_errorPosition_2 mH_o rfl q2656 (Or.inl rfl) (Nat.le_of_ble_eq_true rfl) (by rfl) ?_
    refine wa_if_ge (pc := 5) 12 dX6_errorPosition_5 rfl (fun hb5 => ?_) (fun hb5 => absurd (Int32.not_lt.mp e) hb5)
    refine wa_iconst (pc := 12) (y := mX6_errorPosition) (Int32.ofNat 0) dX6_errorPosition_12 rfl ?_
    refine wa_putf (pc := 13) (y := mX6_errorPosition) (k := 5) 7 .int dX6_errorPosition_13 mH_o rfl q2650 (Or.inl rfl) (Nat.le_of_ble_eq_true rfl) rfl (by decide +kernel) rfl rfl ?_
    rw [mW_o7]
    first | refine wa_aload_n (pc := 16) (y := mX6_errorPosition) dX6_errorPosition_16 rfl ?_ | refine wa_aload_nN (pc := 16) (y := mX6_errorPosition) dX6_errorPosition_16 rfl ?_ | refine wa_aload_nq (pc := 16) (y := mX6_errorPosition) dX6_errorPosition_16 rfl ?_
    refine wa_getf (pc := 17) (y := mX6_errorPosition) (k := 5) 7 dX6_errorPosition_17 mH_o rfl q2650 (Or.inl rfl) (Nat.le_of_ble_eq_true rfl) (by rfl) ?_
    show WA _ _ _ _ _ (.int (Int32.ofNat 0) :: _) _ _
    refine wa_if_le (pc := 20) 27 dX6_errorPosition_20 rfl (fun hb20 => ?_) (fun hb20 => absurd hb20 (by decide))
    clear hb20
    first | refine wa_aload_n (pc := 27) (y := mX6_errorPosition) dX6_errorPosition_27 rfl ?_ | refine wa_aload_nN (pc := 27) (y := mX6_errorPosition) dX6_errorPosition_27 rfl ?_ | refine wa_aload_nq (pc := 27) (y := mX6_errorPosition) dX6_errorPosition_27 rfl ?_
    refine wa_getf (pc := 28) (y := mX6_errorPosition) (k := 5) 13 dX6_errorPosition_28 mH_o rfl q2656 (Or.inl rfl) (Nat.le_of_ble_eq_true rfl) (by rfl) ?_
    exact wa_ireturn (pc := 31) (y := mX6_errorPosition) .int dX6_errorPosition_31 rfl rfl ⟨rfl, rfl⟩
theorem s_X6_undo (hd : 1 ≤ d) (hpm : u (σ.2 5) ≤ 6) : MA G d mX6_undo [.ref m] (mH h m f σ) (fun r h' => r = .inl (some (.int (O_undo f σ).2.1)) ∧ h' = mH h m (O_undo f σ).2.2.1 (O_undo f σ).2.2.2) := by
  show WA _ _ _ 0 [.ref m] [] _ _
  by_cases e : u (σ.2 5) = 0
  · rw [show O_undo f σ = _ from if_pos e]
    first | refine wa_aload_n (pc := 0) (y := mX6_undo) dX6_undo_0 rfl ?_ | refine wa_aload_nN (pc := 0) (y := mX6_undo) dX6_undo_0 rfl ?_ | refine wa_aload_nq (pc := 0) (y := mX6_undo) dX6_undo_0 rfl ?_
    first | refine wa_aload_n (pc := 1) (y := mX6_undo) dX6_undo_1 rfl ?_ | refine wa_aload_nN (pc := 1) (y := mX6_undo) dX6_undo_1 rfl ?_ | refine wa_aload_nq (pc := 1) (y := mX6_undo) dX6_undo_1 rfl ?_
    refine wa_getf (pc := 2) (y := mX6_undo) (k := 5) 5 dX6_undo_2 mH_o rfl q2648 (Or.inl rfl) (Nat.le_of_ble_eq_true rfl) (by rfl) ?_
    rw [← u_self (σ.2 5), e]
    refine wa_if_ne (pc := 5) 12 dX6_undo_5 rfl (fun hb5 => absurd rfl hb5) (fun hb5 => ?_)
    refine wa_iconst (pc := 8) (y := mX6_undo) (Int32.ofNat 1) dX6_undo_8 rfl ?_
    refine wa_goto (pc := 9) (y := mX6_undo) 13 dX6_undo_9 rfl ?_
    refine wa_putf (pc := 13) (y := mX6_undo) (k := 5) 7 .int dX6_undo_13 mH_o rfl q2650 (Or.inl rfl) (Nat.le_of_ble_eq_true rfl) rfl (by decide +kernel) rfl rfl ?_
    rw [mW_o7]
    first | refine wa_aload_n (pc := 16) (y := mX6_undo) dX6_undo_16 rfl ?_ | refine wa_aload_nN (pc := 16) (y := mX6_undo) dX6_undo_16 rfl ?_ | refine wa_aload_nq (pc := 16) (y := mX6_undo) dX6_undo_16 rfl ?_
    refine wa_getf (pc := 17) (y := mX6_undo) (k := 5) 7 dX6_undo_17 mH_o rfl q2650 (Or.inl rfl) (Nat.le_of_ble_eq_true rfl) (by rfl) ?_
    show WA _ _ _ _ _ (.int (Int32.ofNat 1) :: _) _ _
    refine wa_if_le (pc := 20) 25 dX6_undo_20 rfl (fun hb20 => absurd hb20 (by decide)) (fun hb20 => ?_)
    clear hb20
    refine wa_iconst (pc := 23) (y := mX6_undo) (Int32.ofNat 0) dX6_undo_23 rfl ?_
    exact wa_ireturn (pc := 24) (y := mX6_undo) .int dX6_undo_24 rfl rfl ⟨rfl, rfl⟩
  · rw [show O_undo f σ = _ from if_neg e]
    dsimp only
    first | refine wa_aload_n (pc := 0) (y := mX6_undo) dX6_undo_0 rfl ?_ | refine wa_aload_nN (pc := 0) (y := mX6_undo) dX6_undo_0 rfl ?_ | refine wa_aload_nq (pc := 0) (y := mX6_undo) dX6_undo_0 rfl ?_
    first | refine wa_aload_n (pc := 1) (y := mX6_undo) dX6_undo_1 rfl ?_ | refine wa_aload_nN (pc := 1) (y := mX6_undo) dX6_undo_1 rfl ?_ | refine wa_aload_nq (pc := 1) (y := mX6_undo) dX6_undo_1 rfl ?_
    refine wa_getf (pc := 2) (y := mX6_undo) (k := 5) 5 dX6_undo_2 mH_o rfl q2648 (Or.inl rfl) (Nat.le_of_ble_eq_true rfl) (by rfl) ?_
    rw [show σ.2 5 = Int32.ofNat (u (σ.2 5)) from (u_self _).symm]
    refine wa_if_ne (pc := 5) 12 dX6_undo_5 rfl (fun hb5 => ?_) (fun hb5 => absurd ((iN_eq (b := 0) (by omega) (by omega)).mp hb5) e)
    refine wa_iconst (pc := 12) (y := mX6_undo) (Int32.ofNat 0) dX6_undo_12 rfl ?_
    refine wa_putf (pc := 13) (y := mX6_undo) (k := 5) 7 .int dX6_undo_13 mH_o rfl q2650 (Or.inl rfl) (Nat.le_of_ble_eq_true rfl) rfl (by decide +kernel) rfl rfl ?_
    rw [mW_o7]
    first | refine wa_aload_n (pc := 16) (y := mX6_undo) dX6_undo_16 rfl ?_ | refine wa_aload_nN (pc := 16) (y := mX6_undo) dX6_undo_16 rfl ?_ | refine wa_aload_nq (pc := 16) (y := mX6_undo) dX6_undo_16 rfl ?_
    refine wa_getf (pc := 17) (y := mX6_undo) (k := 5) 7 dX6_undo_17 mH_o rfl q2650 (Or.inl rfl) (Nat.le_of_ble_eq_true rfl) (by rfl) ?_
    show WA _ _ _ _ _ (.int (Int32.ofNat 0) :: _) _ _
    refine wa_if_le (pc := 20) 25 dX6_undo_20 rfl (fun hb20 => ?_) (fun hb20 => absurd hb20 (by decide))
    clear hb20
    first | refine wa_aload_n (pc := 25) (y := mX6_undo) dX6_undo_25 rfl ?_ | refine wa_aload_nN (pc := 25) (y := mX6_undo) dX6_undo_25 rfl ?_ | refine wa_aload_nq (pc := 25) (y := mX6_undo) dX6_undo_25 rfl ?_
    refine wa_dup (pc := 26) (y := mX6_undo) dX6_undo_26 rfl ?_
    refine wa_getf (pc := 27) (y := mX6_undo) (k := 5) 5 dX6_undo_27 mH_o rfl q2648 (Or.inl rfl) (Nat.le_of_ble_eq_true rfl) (by rfl) ?_
    rw [show (mV σ 7 (Int32.ofNat 0)).2 5 = Int32.ofNat (u (σ.2 5)) from (u_self _).symm]
    refine wa_iconst (pc := 30) (y := mX6_undo) (Int32.ofNat 1) dX6_undo_30 rfl ?_
    refine wa_isubN (pc := 31) (y := mX6_undo) dX6_undo_31 (by omega) ?_
    refine wa_putf (pc := 32) (y := mX6_undo) (k := 5) 5 .int dX6_undo_32 mH_o rfl q2648 (Or.inl rfl) (Nat.le_of_ble_eq_true rfl) rfl (by decide +kernel) rfl rfl ?_
    rw [mW_o5]
    first | refine wa_aload_n (pc := 35) (y := mX6_undo) dX6_undo_35 rfl ?_ | refine wa_aload_nN (pc := 35) (y := mX6_undo) dX6_undo_35 rfl ?_ | refine wa_aload_nq (pc := 35) (y := mX6_undo) dX6_undo_35 rfl ?_
    refine wa_getf (pc := 36) (y := mX6_undo) (k := 5) 4 dX6_undo_36 mH_o rfl q2647 (Or.inl rfl) (Nat.le_of_ble_eq_true rfl) (by rfl) ?_
    refine wa_sipush (pc := 39) (y := mX6_undo) (Int32.ofNat 462) dX6_undo_39 rfl ?_
    first | refine wa_aload_n (pc := 42) (y := mX6_undo) dX6_undo_42 rfl ?_ | refine wa_aload_nN (pc := 42) (y := mX6_undo) dX6_undo_42 rfl ?_ | refine wa_aload_nq (pc := 42) (y := mX6_undo) dX6_undo_42 rfl ?_
    refine wa_getf (pc := 43) (y := mX6_undo) (k := 5) 5 dX6_undo_43 mH_o rfl q2648 (Or.inl rfl) (Nat.le_of_ble_eq_true rfl) (by rfl) ?_
    rw [mV_s]
    first | with_reducible refine wa_imulN (pc := 46) (y := mX6_undo) dX6_undo_46 ?_ | refine wa_imul (pc := 46) (y := mX6_undo) dX6_undo_46 ?_
    first | refine wa_aload_n (pc := 47) (y := mX6_undo) dX6_undo_47 rfl ?_ | refine wa_aload_nN (pc := 47) (y := mX6_undo) dX6_undo_47 rfl ?_ | refine wa_aload_nq (pc := 47) (y := mX6_undo) dX6_undo_47 rfl ?_
    refine wa_getf (pc := 48) (y := mX6_undo) (k := 5) 0 dX6_undo_48 mH_o rfl q2643 (Or.inl rfl) (Nat.le_of_ble_eq_true rfl) (by rfl) ?_
    refine wa_iconst (pc := 51) (y := mX6_undo) (Int32.ofNat 0) dX6_undo_51 rfl ?_
    refine wa_sipush (pc := 52) (y := mX6_undo) (Int32.ofNat 462) dX6_undo_52 rfl ?_
    refine wa_copyN (pc := 55) dX6_undo_55 q2711 q352 q351 q96 mH_4 mH_1 (by omega) (Nat.le_of_ble_eq_true rfl) (by omega) ?_
    rw [mW_1]
    rw [mH_cg (g := fun j => σ.1 4 (462 * (u (σ.2 5) - 1) + j)) (fun j hj => by unfold cpF; rw [if_pos (by omega)]; rfl)]
    first | refine wa_aload_n (pc := 58) (y := mX6_undo) dX6_undo_58 rfl ?_ | refine wa_aload_nN (pc := 58) (y := mX6_undo) dX6_undo_58 rfl ?_ | refine wa_aload_nq (pc := 58) (y := mX6_undo) dX6_undo_58 rfl ?_
    refine wa_getf (pc := 59) (y := mX6_undo) (k := 5) 5 dX6_undo_59 mH_o rfl q2648 (Or.inl rfl) (Nat.le_of_ble_eq_true rfl) (by rfl) ?_
    exact wa_ireturn (pc := 62) (y := mX6_undo) .int dX6_undo_62 rfl rfl ⟨by rw [mV_s, u_of (by omega)], by rw [u_of (by omega)]⟩
theorem s_X6_save (hd : 1 ≤ d) : MA G d mX6_save [.ref m] (mH h m f σ) (fun r h' => r = .inl (some (.int (O_save f σ).2.1)) ∧ h' = mH h m (O_save f σ).2.2.1 (O_save f σ).2.2.2) := by
  show WA _ _ _ 0 [.ref m] [] _ _
  first | refine wa_aload_n (pc := 0) (y := mX6_save) dX6_save_0 rfl ?_ | refine wa_aload_nN (pc := 0) (y := mX6_save) dX6_save_0 rfl ?_ | refine wa_aload_nq (pc := 0) (y := mX6_save) dX6_save_0 rfl ?_
  refine wa_iconst (pc := 1) (y := mX6_save) (Int32.ofNat 0) dX6_save_1 rfl ?_
  refine wa_putf (pc := 2) (y := mX6_save) (k := 5) 7 .int dX6_save_2 mH_o rfl q2650 (Or.inl rfl) (Nat.le_of_ble_eq_true rfl) rfl (by decide +kernel) rfl rfl ?_
  rw [mW_o7]
  first | refine wa_aload_n (pc := 5) (y := mX6_save) dX6_save_5 rfl ?_ | refine wa_aload_nN (pc := 5) (y := mX6_save) dX6_save_5 rfl ?_ | refine wa_aload_nq (pc := 5) (y := mX6_save) dX6_save_5 rfl ?_
  refine wa_getf (pc := 6) (y := mX6_save) (k := 5) 0 dX6_save_6 mH_o rfl q2643 (Or.inl rfl) (Nat.le_of_ble_eq_true rfl) (by rfl) ?_
  refine wa_iconst (pc := 9) (y := mX6_save) (Int32.ofNat 0) dX6_save_9 rfl ?_
  first | refine wa_aload_n (pc := 10) (y := mX6_save) dX6_save_10 rfl ?_ | refine wa_aload_nN (pc := 10) (y := mX6_save) dX6_save_10 rfl ?_ | refine wa_aload_nq (pc := 10) (y := mX6_save) dX6_save_10 rfl ?_
  refine wa_getf (pc := 11) (y := mX6_save) (k := 5) 2 dX6_save_11 mH_o rfl q2645 (Or.inl rfl) (Nat.le_of_ble_eq_true rfl) (by rfl) ?_
  refine wa_iconst (pc := 14) (y := mX6_save) (Int32.ofNat 0) dX6_save_14 rfl ?_
  refine wa_sipush (pc := 15) (y := mX6_save) (Int32.ofNat 462) dX6_save_15 rfl ?_
  refine wa_copyN (pc := 18) dX6_save_18 q2711 q352 q351 q96 mH_1 mH_3 (by omega) (Nat.le_of_ble_eq_true rfl) (by omega) ?_
  rw [mW_3]
  rw [mH_cA (g2 := f) (Or.inr (Or.inl ⟨rfl, rfl⟩)) (fun j hj => cpF_all hj)]
  first | refine wa_aload_n (pc := 21) (y := mX6_save) dX6_save_21 rfl ?_ | refine wa_aload_nN (pc := 21) (y := mX6_save) dX6_save_21 rfl ?_ | refine wa_aload_nq (pc := 21) (y := mX6_save) dX6_save_21 rfl ?_
  refine wa_iconst (pc := 22) (y := mX6_save) (Int32.ofNat 1) dX6_save_22 rfl ?_
  refine wa_putf (pc := 23) (y := mX6_save) (k := 5) 3 .boolean dX6_save_23 mH_o rfl q2646 (Or.inl rfl) (Nat.le_of_ble_eq_true rfl) rfl (by decide +kernel) rfl rfl ?_
  rw [mW_o3]
  first | refine wa_aload_n (pc := 26) (y := mX6_save) dX6_save_26 rfl ?_ | refine wa_aload_nN (pc := 26) (y := mX6_save) dX6_save_26 rfl ?_ | refine wa_aload_nq (pc := 26) (y := mX6_save) dX6_save_26 rfl ?_
  refine wa_getf (pc := 27) (y := mX6_save) (k := 5) 0 dX6_save_27 mH_o rfl q2643 (Or.inl rfl) (Nat.le_of_ble_eq_true rfl) (by rfl) ?_
  refine wa_iconst (pc := 30) (y := mX6_save) (Int32.ofNat 0) dX6_save_30 rfl ?_
  refine wa_ialoadN (pc := 31) (y := mX6_save) dX6_save_31 mH_1 (by omega) ?_
  exact wa_ireturn (pc := 32) (y := mX6_save) .int dX6_save_32 rfl rfl ⟨rfl, rfl⟩
theorem s_X6_restore (hd : 1 ≤ d) : MA G d mX6_restore [.ref m] (mH h m f σ) (fun r h' => r = .inl (some (.int (O_restore f σ).2.1)) ∧ h' = mH h m (O_restore f σ).2.2.1 (O_restore f σ).2.2.2) := by
  show WA _ _ _ 0 [.ref m] [] _ _
  by_cases e : σ.2 3 = 0
  · rw [show O_restore f σ = _ from if_pos e]
    first | refine wa_aload_n (pc := 0) (y := mX6_restore) dX6_restore_0 rfl ?_ | refine wa_aload_nN (pc := 0) (y := mX6_restore) dX6_restore_0 rfl ?_ | refine wa_aload_nq (pc := 0) (y := mX6_restore) dX6_restore_0 rfl ?_
    first | refine wa_aload_n (pc := 1) (y := mX6_restore) dX6_restore_1 rfl ?_ | refine wa_aload_nN (pc := 1) (y := mX6_restore) dX6_restore_1 rfl ?_ | refine wa_aload_nq (pc := 1) (y := mX6_restore) dX6_restore_1 rfl ?_
    refine wa_getf (pc := 2) (y := mX6_restore) (k := 5) 3 dX6_restore_2 mH_o rfl q2646 (Or.inl rfl) (Nat.le_of_ble_eq_true rfl) (by rfl) ?_
    refine wa_if_eq (pc := 5) 12 dX6_restore_5 rfl (fun hb5 => ?_) (fun hb5 => absurd e hb5)
    refine wa_iconst (pc := 12) (y := mX6_restore) (Int32.ofNat 1) dX6_restore_12 rfl ?_
    refine wa_putf (pc := 13) (y := mX6_restore) (k := 5) 7 .int dX6_restore_13 mH_o rfl q2650 (Or.inl rfl) (Nat.le_of_ble_eq_true rfl) rfl (by decide +kernel) rfl rfl ?_
    rw [mW_o7]
    first | refine wa_aload_n (pc := 16) (y := mX6_restore) dX6_restore_16 rfl ?_ | refine wa_aload_nN (pc := 16) (y := mX6_restore) dX6_restore_16 rfl ?_ | refine wa_aload_nq (pc := 16) (y := mX6_restore) dX6_restore_16 rfl ?_
    refine wa_getf (pc := 17) (y := mX6_restore) (k := 5) 7 dX6_restore_17 mH_o rfl q2650 (Or.inl rfl) (Nat.le_of_ble_eq_true rfl) (by rfl) ?_
    show WA _ _ _ _ _ (.int (Int32.ofNat 1) :: _) _ _
    refine wa_if_le (pc := 20) 25 dX6_restore_20 rfl (fun hb20 => absurd hb20 (by decide)) (fun hb20 => ?_)
    clear hb20
    refine wa_iconst (pc := 23) (y := mX6_restore) (Int32.ofNat 0) dX6_restore_23 rfl ?_
    exact wa_ireturn (pc := 24) (y := mX6_restore) .int dX6_restore_24 rfl rfl ⟨rfl, rfl⟩
  · rw [show O_restore f σ = _ from if_neg e]
    first | refine wa_aload_n (pc := 0) (y := mX6_restore) dX6_restore_0 rfl ?_ | refine wa_aload_nN (pc := 0) (y := mX6_restore) dX6_restore_0 rfl ?_ | refine wa_aload_nq (pc := 0) (y := mX6_restore) dX6_restore_0 rfl ?_
    first | refine wa_aload_n (pc := 1) (y := mX6_restore) dX6_restore_1 rfl ?_ | refine wa_aload_nN (pc := 1) (y := mX6_restore) dX6_restore_1 rfl ?_ | refine wa_aload_nq (pc := 1) (y := mX6_restore) dX6_restore_1 rfl ?_
    refine wa_getf (pc := 2) (y := mX6_restore) (k := 5) 3 dX6_restore_2 mH_o rfl q2646 (Or.inl rfl) (Nat.le_of_ble_eq_true rfl) (by rfl) ?_
    refine wa_if_eq (pc := 5) 12 dX6_restore_5 rfl (fun hb5 => absurd hb5 e) (fun hb5 => ?_)
    refine wa_iconst (pc := 8) (y := mX6_restore) (Int32.ofNat 0) dX6_restore_8 rfl ?_
    refine wa_goto (pc := 9) (y := mX6_restore) 13 dX6_restore_9 rfl ?_
    refine wa_putf (pc := 13) (y := mX6_restore) (k := 5) 7 .int dX6_restore_13 mH_o rfl q2650 (Or.inl rfl) (Nat.le_of_ble_eq_true rfl) rfl (by decide +kernel) rfl rfl ?_
    rw [mW_o7]
    first | refine wa_aload_n (pc := 16) (y := mX6_restore) dX6_restore_16 rfl ?_ | refine wa_aload_nN (pc := 16) (y := mX6_restore) dX6_restore_16 rfl ?_ | refine wa_aload_nq (pc := 16) (y := mX6_restore) dX6_restore_16 rfl ?_
    refine wa_getf (pc := 17) (y := mX6_restore) (k := 5) 7 dX6_restore_17 mH_o rfl q2650 (Or.inl rfl) (Nat.le_of_ble_eq_true rfl) (by rfl) ?_
    show WA _ _ _ _ _ (.int (Int32.ofNat 0) :: _) _ _
    refine wa_if_le (pc := 20) 25 dX6_restore_20 rfl (fun hb20 => ?_) (fun hb20 => absurd hb20 (by decide))
    clear hb20
    first | refine wa_aload_n (pc := 25) (y := mX6_restore) dX6_restore_25 rfl ?_ | refine wa_aload_nN (pc := 25) (y := mX6_restore) dX6_restore_25 rfl ?_ | refine wa_aload_nq (pc := 25) (y := mX6_restore) dX6_restore_25 rfl ?_
    refine wa_getf (pc := 26) (y := mX6_restore) (k := 5) 2 dX6_restore_26 mH_o rfl q2645 (Or.inl rfl) (Nat.le_of_ble_eq_true rfl) (by rfl) ?_
    refine wa_iconst (pc := 29) (y := mX6_restore) (Int32.ofNat 0) dX6_restore_29 rfl ?_
    first | refine wa_aload_n (pc := 30) (y := mX6_restore) dX6_restore_30 rfl ?_ | refine wa_aload_nN (pc := 30) (y := mX6_restore) dX6_restore_30 rfl ?_ | refine wa_aload_nq (pc := 30) (y := mX6_restore) dX6_restore_30 rfl ?_
    refine wa_getf (pc := 31) (y := mX6_restore) (k := 5) 0 dX6_restore_31 mH_o rfl q2643 (Or.inl rfl) (Nat.le_of_ble_eq_true rfl) (by rfl) ?_
    refine wa_iconst (pc := 34) (y := mX6_restore) (Int32.ofNat 0) dX6_restore_34 rfl ?_
    refine wa_sipush (pc := 35) (y := mX6_restore) (Int32.ofNat 462) dX6_restore_35 rfl ?_
    refine wa_copyN (pc := 38) dX6_restore_38 q2711 q352 q351 q96 mH_3 mH_1 (by omega) (Nat.le_of_ble_eq_true rfl) (by omega) ?_
    rw [mW_1]
    rw [mV_1, mH_cg (g := σ.1 2) (fun j hj => cpF_all hj)]
    first | refine wa_aload_n (pc := 41) (y := mX6_restore) dX6_restore_41 rfl ?_ | refine wa_aload_nN (pc := 41) (y := mX6_restore) dX6_restore_41 rfl ?_ | refine wa_aload_nq (pc := 41) (y := mX6_restore) dX6_restore_41 rfl ?_
    refine wa_iconst (pc := 42) (y := mX6_restore) (Int32.ofNat 0) dX6_restore_42 rfl ?_
    refine wa_putf (pc := 43) (y := mX6_restore) (k := 5) 5 .int dX6_restore_43 mH_o rfl q2648 (Or.inl rfl) (Nat.le_of_ble_eq_true rfl) rfl (by decide +kernel) rfl rfl ?_
    rw [mW_o5]
    first | refine wa_aload_n (pc := 46) (y := mX6_restore) dX6_restore_46 rfl ?_ | refine wa_aload_nN (pc := 46) (y := mX6_restore) dX6_restore_46 rfl ?_ | refine wa_aload_nq (pc := 46) (y := mX6_restore) dX6_restore_46 rfl ?_
    refine wa_getf (pc := 47) (y := mX6_restore) (k := 5) 0 dX6_restore_47 mH_o rfl q2643 (Or.inl rfl) (Nat.le_of_ble_eq_true rfl) (by rfl) ?_
    refine wa_iconst (pc := 50) (y := mX6_restore) (Int32.ofNat 0) dX6_restore_50 rfl ?_
    refine wa_ialoadN (pc := 51) (y := mX6_restore) dX6_restore_51 mH_1 (by omega) ?_
    exact wa_ireturn (pc := 52) (y := mX6_restore) .int dX6_restore_52 rfl rfl ⟨rfl, rfl⟩
end MTOP5
