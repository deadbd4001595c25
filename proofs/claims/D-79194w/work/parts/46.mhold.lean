/-! ===== CueStackModel: hold, giveHeld, takeHeld, doRemove ===== -/
/-- hold, from a channel on: its answer, the state -/
def hdg (lev : Nat → Int32) (p was : Nat) : Nat → Nat → (Nat → Int32) → Nat × (Nat → Int32)
  | 0, _, f => (0, f)
  | t + 1, c, f => if gv f (f (18 + 12 * p)) (Int32.ofNat c) = none ∧ lvN f c (p + 1) ≠ lev (12 * was + c) then
      if f (18 + 12 * p + 3) = 1 then (1, f) else if u (f 1) = 60 then (2, f) else hdg lev p was t (c + 1) (giF f (f (18 + 12 * p)) (Int32.ofNat c) (lev (12 * was + c)) 0)
    else hdg lev p was t (c + 1) f
def hdF (lev : Nat → Int32) (p was : Nat) (f : Nat → Int32) : Nat × (Nat → Int32) := if p < u (f 0) ∧ isBl f p = false then hdg lev p was 12 0 f else (0, f)
/-- giveHeld: its answer, the state, whether the levels were kept -/
def gvH (f old : Nat → Int32) (cue : Int32) (p c : Nat) (lev part : Int32) (b : Bool) : Nat × (Nat → Int32) × (Nat → Int32) :=
  if f (18 + 12 * p + 3) = 1 then (1, f, old) else
  if u (f 1) = 60 ∧ gv f cue (Int32.ofNat c) = none then
    ((if b && (decide (p + 1 < u (f 0)) && decide (f (18 + 12 * (p + 1) + 3) = 1) && !isBl f (p + 1) && (gv f (f (18 + 12 * (p + 1))) (Int32.ofNat c)).isNone && decide ((if lev = -1 then f (6 + c) else lev) ≠ lvN f c (p + 1))) then 1 else 2), f, klF f old (12 * u (f 0)))
  else if b then ((hdF (klF f old (12 * u (f 0))) (p + 1) (p + 1) (giF f cue (Int32.ofNat c) lev part)).1, (hdF (klF f old (12 * u (f 0))) (p + 1) (p + 1) (giF f cue (Int32.ofNat c) lev part)).2, klF f old (12 * u (f 0)))
  else (0, giF f cue (Int32.ofNat c) lev part, klF f old (12 * u (f 0)))
section MHOLD
variable {G : GG} {d : Nat} {h : AH} {m : Nat} {f : Nat → Int32} {σ : MS}
theorem s_X6_hold {p was : Nat} (hd : 3 ≤ d) (hI : Inv f) (hp : p ≤ 12) (hw : p < u (f 0) → was < 12) : MA G d mX6_hold [.ref m, .int (Int32.ofNat p), .int (Int32.ofNat was)] (mH h m f σ) (fun r h' => r = .inl (some (.int (Int32.ofNat (hdF (σ.1 8) p was f).1))) ∧ h' = mH h m (hdF (σ.1 8) p was f).2 σ) := by
  have hn := hI.1
  show WA _ _ _ 0 [.ref m, .int _, .int _, .retAddr 0, .retAddr 0] [] _ _
  have hin : inb (Int32.ofNat p) (Int32.ofNat 0) (f 0 - Int32.ofNat 1) = decide (p < u (f 0)) := by
    unfold inb
    rw [decide_eq_true ((iN_le (by omega) (by omega)).mpr (Nat.zero_le p)), Bool.true_and]
    congr 1
    rcases Nat.eq_zero_or_pos (u (f 0)) with e | e
    · rw [e, show f 0 = Int32.ofNat 0 from (u_self (f 0)).symm.trans (by rw [e])]
      rw [show Int32.ofNat 0 - Int32.ofNat 1 = -1 from by decide]
      refine propext ⟨fun q => ?_, fun q => by omega⟩
      have := Int32.le_iff_toInt_le.mp q
      rw [iN_toInt (by omega), show (-1 : Int32).toInt = -1 from by decide] at this
      omega
    · rw [show f 0 - Int32.ofNat 1 = Int32.ofNat (u (f 0) - 1) by rw [← iN_sub e, u_self], iN_le (by omega) (by omega)]
      exact propext ⟨fun q => by omega, fun q => by omega⟩
  by_cases e1 : p < u (f 0)
  · have hw := hw e1
    cases e2 : isBl f p with
    | true =>
      have ed : hdF (σ.1 8) p was f = (0, f) := if_neg (by rw [e2]; simp)
      rw [ed]
      refine wa_iload_n (pc := 0) (y := mX6_hold) dX6_hold_0 rfl ?_
      refine wa_iconst (pc := 1) (y := mX6_hold) (Int32.ofNat 0) dX6_hold_1 rfl ?_
      first | refine wa_aload_n (pc := 2) (y := mX6_hold) dX6_hold_2 rfl ?_ | refine wa_aload_nN (pc := 2) (y := mX6_hold) dX6_hold_2 rfl ?_ | refine wa_aload_nq (pc := 2) (y := mX6_hold) dX6_hold_2 rfl ?_
      refine wa_getf (pc := 3) (y := mX6_hold) (k := 5) 0 dX6_hold_3 mH_o rfl q2643 (Or.inl rfl) (Nat.le_of_ble_eq_true rfl) (by rfl) ?_
      refine wa_iconst (pc := 6) (y := mX6_hold) (Int32.ofNat 0) dX6_hold_6 rfl ?_
      refine wa_ialoadN (pc := 7) (y := mX6_hold) dX6_hold_7 mH_1 (by omega) ?_
      refine wa_iconst (pc := 8) (y := mX6_hold) (Int32.ofNat 1) dX6_hold_8 rfl ?_
      refine wa_isub (pc := 9) (y := mX6_hold) dX6_hold_9 ?_
      refine wa_callS (pc := 10) (s_X6_in (d := d - 1)) dX6_hold_10 okX6_in q2716 q2717 rfl rfl (Nat.le_of_ble_eq_true rfl) (Nat.le_of_ble_eq_true rfl) (by omega) ?_
      rintro _ _ - - ⟨rfl, rfl⟩
      refine aft_v (pc2 := 13) ?_ rfl
      rw [hin, decide_eq_true e1]
      refine wa_if_eq (pc := 13) 24 dX6_hold_13 rfl (fun hb13 => absurd hb13 (by decide)) (fun hb13 => ?_)
      first | refine wa_aload_n (pc := 16) (y := mX6_hold) dX6_hold_16 rfl ?_ | refine wa_aload_nN (pc := 16) (y := mX6_hold) dX6_hold_16 rfl ?_ | refine wa_aload_nq (pc := 16) (y := mX6_hold) dX6_hold_16 rfl ?_
      refine wa_iload_n (pc := 17) (y := mX6_hold) dX6_hold_17 rfl ?_
      refine wa_callV (pc := 18) (s_X6_isBlock (d := d - 1) (by omega) (by omega)) dX6_hold_18 okX6_isBlock q2762 q2764 qs48 mH_o rfl rfl rfl (Nat.le_of_ble_eq_true rfl) (Nat.le_of_ble_eq_true rfl) (by omega) ?_
      rintro _ _ - - ⟨rfl, rfl⟩
      refine aft_v (pc2 := 21) ?_ rfl
      rw [e2]
      refine wa_if_eq (pc := 21) 26 dX6_hold_21 rfl (fun hb21 => absurd hb21 (by decide)) (fun hb21 => ?_)
      refine wa_iconst (pc := 24) (y := mX6_hold) (Int32.ofNat 0) dX6_hold_24 rfl ?_
      exact wa_ireturn (pc := 25) (y := mX6_hold) .int dX6_hold_25 rfl rfl ⟨rfl, rfl⟩
    | false =>
      have ed : hdF (σ.1 8) p was f = hdg (σ.1 8) p was 12 0 f := if_pos ⟨e1, e2⟩
      rw [ed]
      have key : ∀ t c g q, c + t = 12 → Inv g → g 0 = f 0 → WA G d mX6_hold 28 [.ref m, .int (Int32.ofNat p), .int (Int32.ofNat was), .int (Int32.ofNat c), q] [] (mH h m g σ) (fun r h' => r = .inl (some (.int (Int32.ofNat (hdg (σ.1 8) p was t c g).1))) ∧ h' = mH h m (hdg (σ.1 8) p was t c g).2 σ) := by
        intro t
        induction t with
        | zero =>
          intro c g q hc hI g0
          replace hc : c + 0 = 12 := hc
          refine wa_iload_n (pc := 28) (y := mX6_hold) dX6_hold_28 rfl ?_
          refine wa_bipush (pc := 29) (y := mX6_hold) (Int32.ofNat 12) dX6_hold_29 rfl ?_
          refine wa_icmp_ge (pc := 31) 128 dX6_hold_31 rfl (fun hb31 => ?_) (fun hb31 => absurd ((iN_le (by omega) (by omega)).mpr (by omega)) hb31)
          refine wa_iconst (pc := 128) (y := mX6_hold) (Int32.ofNat 0) dX6_hold_128 rfl ?_
          exact wa_ireturn (pc := 129) (y := mX6_hold) .int dX6_hold_129 rfl rfl ⟨rfl, rfl⟩
        | succ t ih =>
          intro c g q hc hI g0
          have hn2 := hI.1
          have hi := hI.2.1
          have e1 : p < u (g 0) := by rw [g0]; exact e1
          by_cases x1 : gv g (g (18 + 12 * p)) (Int32.ofNat c) = none
          · by_cases x2 : lvN g c (p + 1) = σ.1 8 (12 * was + c)
            · rw [show hdg (σ.1 8) p was (t + 1) c g = hdg (σ.1 8) p was t (c + 1) g from if_neg (fun q => q.2 x2)]
              refine wa_iload_n (pc := 28) (y := mX6_hold) dX6_hold_28 rfl ?_
              refine wa_bipush (pc := 29) (y := mX6_hold) (Int32.ofNat 12) dX6_hold_29 rfl ?_
              refine wa_icmp_ge (pc := 31) 128 dX6_hold_31 rfl (fun hb31 => absurd ((iN_le (by omega) (by omega)).mp hb31) (by omega)) (fun hb31 => ?_)
              first | refine wa_aload_n (pc := 34) (y := mX6_hold) dX6_hold_34 rfl ?_ | refine wa_aload_nN (pc := 34) (y := mX6_hold) dX6_hold_34 rfl ?_ | refine wa_aload_nq (pc := 34) (y := mX6_hold) dX6_hold_34 rfl ?_
              refine wa_getf (pc := 35) (y := mX6_hold) (k := 5) 8 dX6_hold_35 mH_o rfl q2651 (Or.inl rfl) (Nat.le_of_ble_eq_true rfl) (by rfl) ?_
              refine wa_bipush (pc := 38) (y := mX6_hold) (Int32.ofNat 12) dX6_hold_38 rfl ?_
              refine wa_iload_n (pc := 40) (y := mX6_hold) dX6_hold_40 rfl ?_
              first | with_reducible refine wa_imulN (pc := 41) (y := mX6_hold) dX6_hold_41 ?_ | refine wa_imul (pc := 41) (y := mX6_hold) dX6_hold_41 ?_
              refine wa_iload_n (pc := 42) (y := mX6_hold) dX6_hold_42 rfl ?_
              first | with_reducible refine wa_iaddN (pc := 43) (y := mX6_hold) dX6_hold_43 ?_ | refine wa_iadd (pc := 43) (y := mX6_hold) dX6_hold_43 ?_
              refine wa_ialoadN (pc := 44) (y := mX6_hold) dX6_hold_44 mH_5 (by omega) ?_
              refine wa_istore (pc := 45) (y := mX6_hold) dX6_hold_45 (Nat.le_of_ble_eq_true rfl) rfl ?_
              simp only [List.set_cons_zero, List.set_cons_succ]
              first | refine wa_aload_n (pc := 47) (y := mX6_hold) dX6_hold_47 rfl ?_ | refine wa_aload_nN (pc := 47) (y := mX6_hold) dX6_hold_47 rfl ?_ | refine wa_aload_nq (pc := 47) (y := mX6_hold) dX6_hold_47 rfl ?_
              first | refine wa_aload_n (pc := 48) (y := mX6_hold) dX6_hold_48 rfl ?_ | refine wa_aload_nN (pc := 48) (y := mX6_hold) dX6_hold_48 rfl ?_ | refine wa_aload_nq (pc := 48) (y := mX6_hold) dX6_hold_48 rfl ?_
              refine wa_getf (pc := 49) (y := mX6_hold) (k := 5) 0 dX6_hold_49 mH_o rfl q2643 (Or.inl rfl) (Nat.le_of_ble_eq_true rfl) (by rfl) ?_
              refine wa_iload_n (pc := 52) (y := mX6_hold) dX6_hold_52 rfl ?_
              refine wa_callS (pc := 53) (s_X6_at (d := d - 1)) dX6_hold_53 okX6_at q2727 q2728 rfl rfl (Nat.le_of_ble_eq_true rfl) (Nat.le_of_ble_eq_true rfl) (by omega) ?_
              rintro _ _ - - ⟨rfl, rfl⟩
              refine aft_v (pc2 := 56) ?_ rfl
              refine wa_ialoadN (pc := 56) (y := mX6_hold) dX6_hold_56 mH_1 (by omega) ?_
              refine wa_iload_n (pc := 57) (y := mX6_hold) dX6_hold_57 rfl ?_
              refine wa_callV (pc := 58) (s_X6_given (d := d - 1) hI) dX6_hold_58 okX6_given q2758 q2760 qs47 mH_o rfl rfl rfl (Nat.le_of_ble_eq_true rfl) (Nat.le_of_ble_eq_true rfl) (by omega) ?_
              rintro _ _ - - ⟨rfl, rfl⟩
              refine aft_v (pc2 := 61) ?_ rfl
              rw [x1, oI_none]
              refine wa_if_ge (pc := 61) 122 dX6_hold_61 rfl (fun hb61 => absurd hb61 (by decide)) (fun hb61 => ?_)
              first | refine wa_aload_n (pc := 64) (y := mX6_hold) dX6_hold_64 rfl ?_ | refine wa_aload_nN (pc := 64) (y := mX6_hold) dX6_hold_64 rfl ?_ | refine wa_aload_nq (pc := 64) (y := mX6_hold) dX6_hold_64 rfl ?_
              refine wa_iload_n (pc := 65) (y := mX6_hold) dX6_hold_65 rfl ?_
              refine wa_iload_n (pc := 66) (y := mX6_hold) dX6_hold_66 rfl ?_
              refine wa_callV (pc := 67) (s_X6_levelIn (d := d - 1) (by omega) hI e1 (by omega)) dX6_hold_67 okX6_levelIn q2754 q2756 qs46 mH_o rfl rfl rfl (Nat.le_of_ble_eq_true rfl) (Nat.le_of_ble_eq_true rfl) (by omega) ?_
              rintro _ _ - - ⟨rfl, rfl⟩
              refine aft_v (pc2 := 70) ?_ rfl
              refine wa_iload (pc := 70) (y := mX6_hold) dX6_hold_70 rfl ?_
              refine wa_icmp_eq (pc := 72) 122 dX6_hold_72 rfl (fun hb72 => ?_) (fun hb72 => absurd x2 hb72)
              first | with_reducible refine wa_iincN (pc := 122) (y := mX6_hold) dX6_hold_122 rfl (Nat.le_of_ble_eq_true rfl) rfl ?_ | refine wa_iinc (pc := 122) (y := mX6_hold) (1) dX6_hold_122 rfl rfl (Nat.le_of_ble_eq_true rfl) rfl ?_
              simp only [List.set_cons_zero, List.set_cons_succ]
              refine wa_goto (pc := 125) (y := mX6_hold) 28 dX6_hold_125 rfl ?_
              exact ih (c + 1) g _ (by omega) hI g0
            · by_cases x3 : g (18 + 12 * p + 3) = 1
              · rw [show hdg (σ.1 8) p was (t + 1) c g = (1, g) from (if_pos ⟨x1, x2⟩).trans (if_pos x3)]
                refine wa_iload_n (pc := 28) (y := mX6_hold) dX6_hold_28 rfl ?_
                refine wa_bipush (pc := 29) (y := mX6_hold) (Int32.ofNat 12) dX6_hold_29 rfl ?_
                refine wa_icmp_ge (pc := 31) 128 dX6_hold_31 rfl (fun hb31 => absurd ((iN_le (by omega) (by omega)).mp hb31) (by omega)) (fun hb31 => ?_)
                first | refine wa_aload_n (pc := 34) (y := mX6_hold) dX6_hold_34 rfl ?_ | refine wa_aload_nN (pc := 34) (y := mX6_hold) dX6_hold_34 rfl ?_ | refine wa_aload_nq (pc := 34) (y := mX6_hold) dX6_hold_34 rfl ?_
                refine wa_getf (pc := 35) (y := mX6_hold) (k := 5) 8 dX6_hold_35 mH_o rfl q2651 (Or.inl rfl) (Nat.le_of_ble_eq_true rfl) (by rfl) ?_
                refine wa_bipush (pc := 38) (y := mX6_hold) (Int32.ofNat 12) dX6_hold_38 rfl ?_
                refine wa_iload_n (pc := 40) (y := mX6_hold) dX6_hold_40 rfl ?_
                first | with_reducible refine wa_imulN (pc := 41) (y := mX6_hold) dX6_hold_41 ?_ | refine wa_imul (pc := 41) (y := mX6_hold) dX6_hold_41 ?_
                refine wa_iload_n (pc := 42) (y := mX6_hold) dX6_hold_42 rfl ?_
                first | with_reducible refine wa_iaddN (pc := 43) (y := mX6_hold) dX6_hold_43 ?_ | refine wa_iadd (pc := 43) (y := mX6_hold) dX6_hold_43 ?_
                refine wa_ialoadN (pc := 44) (y := mX6_hold) dX6_hold_44 mH_5 (by omega) ?_
                refine wa_istore (pc := 45) (y := mX6_hold) dX6_hold_45 (Nat.le_of_ble_eq_true rfl) rfl ?_
                simp only [List.set_cons_zero, List.set_cons_succ]
                first | refine wa_aload_n (pc := 47) (y := mX6_hold) dX6_hold_47 rfl ?_ | refine wa_aload_nN (pc := 47) (y := mX6_hold) dX6_hold_47 rfl ?_ | refine wa_aload_nq (pc := 47) (y := mX6_hold) dX6_hold_47 rfl ?_
                first | refine wa_aload_n (pc := 48) (y := mX6_hold) dX6_hold_48 rfl ?_ | refine wa_aload_nN (pc := 48) (y := mX6_hold) dX6_hold_48 rfl ?_ | refine wa_aload_nq (pc := 48) (y := mX6_hold) dX6_hold_48 rfl ?_
                refine wa_getf (pc := 49) (y := mX6_hold) (k := 5) 0 dX6_hold_49 mH_o rfl q2643 (Or.inl rfl) (Nat.le_of_ble_eq_true rfl) (by rfl) ?_
                refine wa_iload_n (pc := 52) (y := mX6_hold) dX6_hold_52 rfl ?_
                refine wa_callS (pc := 53) (s_X6_at (d := d - 1)) dX6_hold_53 okX6_at q2727 q2728 rfl rfl (Nat.le_of_ble_eq_true rfl) (Nat.le_of_ble_eq_true rfl) (by omega) ?_
                rintro _ _ - - ⟨rfl, rfl⟩
                refine aft_v (pc2 := 56) ?_ rfl
                refine wa_ialoadN (pc := 56) (y := mX6_hold) dX6_hold_56 mH_1 (by omega) ?_
                refine wa_iload_n (pc := 57) (y := mX6_hold) dX6_hold_57 rfl ?_
                refine wa_callV (pc := 58) (s_X6_given (d := d - 1) hI) dX6_hold_58 okX6_given q2758 q2760 qs47 mH_o rfl rfl rfl (Nat.le_of_ble_eq_true rfl) (Nat.le_of_ble_eq_true rfl) (by omega) ?_
                rintro _ _ - - ⟨rfl, rfl⟩
                refine aft_v (pc2 := 61) ?_ rfl
                rw [x1, oI_none]
                refine wa_if_ge (pc := 61) 122 dX6_hold_61 rfl (fun hb61 => absurd hb61 (by decide)) (fun hb61 => ?_)
                first | refine wa_aload_n (pc := 64) (y := mX6_hold) dX6_hold_64 rfl ?_ | refine wa_aload_nN (pc := 64) (y := mX6_hold) dX6_hold_64 rfl ?_ | refine wa_aload_nq (pc := 64) (y := mX6_hold) dX6_hold_64 rfl ?_
                refine wa_iload_n (pc := 65) (y := mX6_hold) dX6_hold_65 rfl ?_
                refine wa_iload_n (pc := 66) (y := mX6_hold) dX6_hold_66 rfl ?_
                refine wa_callV (pc := 67) (s_X6_levelIn (d := d - 1) (by omega) hI e1 (by omega)) dX6_hold_67 okX6_levelIn q2754 q2756 qs46 mH_o rfl rfl rfl (Nat.le_of_ble_eq_true rfl) (Nat.le_of_ble_eq_true rfl) (by omega) ?_
                rintro _ _ - - ⟨rfl, rfl⟩
                refine aft_v (pc2 := 70) ?_ rfl
                refine wa_iload (pc := 70) (y := mX6_hold) dX6_hold_70 rfl ?_
                refine wa_icmp_eq (pc := 72) 122 dX6_hold_72 rfl (fun hb72 => absurd hb72 x2) (fun hb72 => ?_)
                first | refine wa_aload_n (pc := 75) (y := mX6_hold) dX6_hold_75 rfl ?_ | refine wa_aload_nN (pc := 75) (y := mX6_hold) dX6_hold_75 rfl ?_ | refine wa_aload_nq (pc := 75) (y := mX6_hold) dX6_hold_75 rfl ?_
                refine wa_getf (pc := 76) (y := mX6_hold) (k := 5) 0 dX6_hold_76 mH_o rfl q2643 (Or.inl rfl) (Nat.le_of_ble_eq_true rfl) (by rfl) ?_
                refine wa_iload_n (pc := 79) (y := mX6_hold) dX6_hold_79 rfl ?_
                refine wa_callS (pc := 80) (s_X6_at (d := d - 1)) dX6_hold_80 okX6_at q2727 q2728 rfl rfl (Nat.le_of_ble_eq_true rfl) (Nat.le_of_ble_eq_true rfl) (by omega) ?_
                rintro _ _ - - ⟨rfl, rfl⟩
                refine aft_v (pc2 := 83) ?_ rfl
                refine wa_iconst (pc := 83) (y := mX6_hold) (Int32.ofNat 3) dX6_hold_83 rfl ?_
                first | with_reducible refine wa_iaddN (pc := 84) (y := mX6_hold) dX6_hold_84 ?_ | refine wa_iadd (pc := 84) (y := mX6_hold) dX6_hold_84 ?_
                refine wa_ialoadN (pc := 85) (y := mX6_hold) dX6_hold_85 mH_1 (by omega) ?_
                refine wa_iconst (pc := 86) (y := mX6_hold) (Int32.ofNat 1) dX6_hold_86 rfl ?_
                refine wa_icmp_ne (pc := 87) 92 dX6_hold_87 rfl (fun hb87 => absurd x3 hb87) (fun hb87 => ?_)
                refine wa_iconst (pc := 90) (y := mX6_hold) (Int32.ofNat 1) dX6_hold_90 rfl ?_
                exact wa_ireturn (pc := 91) (y := mX6_hold) .int dX6_hold_91 rfl rfl ⟨rfl, rfl⟩
              · by_cases x4 : u (g 1) = 60
                · rw [show hdg (σ.1 8) p was (t + 1) c g = (2, g) from (if_pos ⟨x1, x2⟩).trans ((if_neg x3).trans (if_pos x4))]
                  refine wa_iload_n (pc := 28) (y := mX6_hold) dX6_hold_28 rfl ?_
                  refine wa_bipush (pc := 29) (y := mX6_hold) (Int32.ofNat 12) dX6_hold_29 rfl ?_
                  refine wa_icmp_ge (pc := 31) 128 dX6_hold_31 rfl (fun hb31 => absurd ((iN_le (by omega) (by omega)).mp hb31) (by omega)) (fun hb31 => ?_)
                  first | refine wa_aload_n (pc := 34) (y := mX6_hold) dX6_hold_34 rfl ?_ | refine wa_aload_nN (pc := 34) (y := mX6_hold) dX6_hold_34 rfl ?_ | refine wa_aload_nq (pc := 34) (y := mX6_hold) dX6_hold_34 rfl ?_
                  refine wa_getf (pc := 35) (y := mX6_hold) (k := 5) 8 dX6_hold_35 mH_o rfl q2651 (Or.inl rfl) (Nat.le_of_ble_eq_true rfl) (by rfl) ?_
                  refine wa_bipush (pc := 38) (y := mX6_hold) (Int32.ofNat 12) dX6_hold_38 rfl ?_
                  refine wa_iload_n (pc := 40) (y := mX6_hold) dX6_hold_40 rfl ?_
                  first | with_reducible refine wa_imulN (pc := 41) (y := mX6_hold) dX6_hold_41 ?_ | refine wa_imul (pc := 41) (y := mX6_hold) dX6_hold_41 ?_
                  refine wa_iload_n (pc := 42) (y := mX6_hold) dX6_hold_42 rfl ?_
                  first | with_reducible refine wa_iaddN (pc := 43) (y := mX6_hold) dX6_hold_43 ?_ | refine wa_iadd (pc := 43) (y := mX6_hold) dX6_hold_43 ?_
                  refine wa_ialoadN (pc := 44) (y := mX6_hold) dX6_hold_44 mH_5 (by omega) ?_
                  refine wa_istore (pc := 45) (y := mX6_hold) dX6_hold_45 (Nat.le_of_ble_eq_true rfl) rfl ?_
                  simp only [List.set_cons_zero, List.set_cons_succ]
                  first | refine wa_aload_n (pc := 47) (y := mX6_hold) dX6_hold_47 rfl ?_ | refine wa_aload_nN (pc := 47) (y := mX6_hold) dX6_hold_47 rfl ?_ | refine wa_aload_nq (pc := 47) (y := mX6_hold) dX6_hold_47 rfl ?_
                  first | refine wa_aload_n (pc := 48) (y := mX6_hold) dX6_hold_48 rfl ?_ | refine wa_aload_nN (pc := 48) (y := mX6_hold) dX6_hold_48 rfl ?_ | refine wa_aload_nq (pc := 48) (y := mX6_hold) dX6_hold_48 rfl ?_
                  refine wa_getf (pc := 49) (y := mX6_hold) (k := 5) 0 dX6_hold_49 mH_o rfl q2643 (Or.inl rfl) (Nat.le_of_ble_eq_true rfl) (by rfl) ?_
                  refine wa_iload_n (pc := 52) (y := mX6_hold) dX6_hold_52 rfl ?_
                  refine wa_callS (pc := 53) (s_X6_at (d := d - 1)) dX6_hold_53 okX6_at q2727 q2728 rfl rfl (Nat.le_of_ble_eq_true rfl) (Nat.le_of_ble_eq_true rfl) (by omega) ?_
                  rintro _ _ - - ⟨rfl, rfl⟩
                  refine aft_v (pc2 := 56) ?_ rfl
                  refine wa_ialoadN (pc := 56) (y := mX6_hold) dX6_hold_56 mH_1 (by omega) ?_
                  refine wa_iload_n (pc := 57) (y := mX6_hold) dX6_hold_57 rfl ?_
                  refine wa_callV (pc := 58) (s_X6_given (d := d - 1) hI) dX6_hold_58 okX6_given q2758 q2760 qs47 mH_o rfl rfl rfl (Nat.le_of_ble_eq_true rfl) (Nat.le_of_ble_eq_true rfl) (by omega) ?_
                  rintro _ _ - - ⟨rfl, rfl⟩
                  refine aft_v (pc2 := 61) ?_ rfl
                  rw [x1, oI_none]
                  refine wa_if_ge (pc := 61) 122 dX6_hold_61 rfl (fun hb61 => absurd hb61 (by decide)) (fun hb61 => ?_)
                  first | refine wa_aload_n (pc := 64) (y := mX6_hold) dX6_hold_64 rfl ?_ | refine wa_aload_nN (pc := 64) (y := mX6_hold) dX6_hold_64 rfl ?_ | refine wa_aload_nq (pc := 64) (y := mX6_hold) dX6_hold_64 rfl ?_
                  refine wa_iload_n (pc := 65) (y := mX6_hold) dX6_hold_65 rfl ?_
                  refine wa_iload_n (pc := 66) (y := mX6_hold) dX6_hold_66 rfl ?_
                  refine wa_callV (pc := 67) (s_X6_levelIn (d := d - 1) (by omega) hI e1 (by omega)) dX6_hold_67 okX6_levelIn q2754 q2756 qs46 mH_o rfl rfl rfl (Nat.le_of_ble_eq_true rfl) (Nat.le_of_ble_eq_true rfl) (by omega) ?_
                  rintro _ _ - - ⟨rfl, rfl⟩
                  refine aft_v (pc2 := 70) ?_ rfl
                  refine wa_iload (pc := 70) (y := mX6_hold) dX6_hold_70 rfl ?_
                  refine wa_icmp_eq (pc := 72) 122 dX6_hold_72 rfl (fun hb72 => absurd hb72 x2) (fun hb72 => ?_)
                  first | refine wa_aload_n (pc := 75) (y := mX6_hold) dX6_hold_75 rfl ?_ | refine wa_aload_nN (pc := 75) (y := mX6_hold) dX6_hold_75 rfl ?_ | refine wa_aload_nq (pc := 75) (y := mX6_hold) dX6_hold_75 rfl ?_
                  refine wa_getf (pc := 76) (y := mX6_hold) (k := 5) 0 dX6_hold_76 mH_o rfl q2643 (Or.inl rfl) (Nat.le_of_ble_eq_true rfl) (by rfl) ?_
                  refine wa_iload_n (pc := 79) (y := mX6_hold) dX6_hold_79 rfl ?_
                  refine wa_callS (pc := 80) (s_X6_at (d := d - 1)) dX6_hold_80 okX6_at q2727 q2728 rfl rfl (Nat.le_of_ble_eq_true rfl) (Nat.le_of_ble_eq_true rfl) (by omega) ?_
                  rintro _ _ - - ⟨rfl, rfl⟩
                  refine aft_v (pc2 := 83) ?_ rfl
                  refine wa_iconst (pc := 83) (y := mX6_hold) (Int32.ofNat 3) dX6_hold_83 rfl ?_
                  first | with_reducible refine wa_iaddN (pc := 84) (y := mX6_hold) dX6_hold_84 ?_ | refine wa_iadd (pc := 84) (y := mX6_hold) dX6_hold_84 ?_
                  refine wa_ialoadN (pc := 85) (y := mX6_hold) dX6_hold_85 mH_1 (by omega) ?_
                  refine wa_iconst (pc := 86) (y := mX6_hold) (Int32.ofNat 1) dX6_hold_86 rfl ?_
                  refine wa_icmp_ne (pc := 87) 92 dX6_hold_87 rfl (fun hb87 => ?_) (fun hb87 => absurd hb87 x3)
                  first | refine wa_aload_n (pc := 92) (y := mX6_hold) dX6_hold_92 rfl ?_ | refine wa_aload_nN (pc := 92) (y := mX6_hold) dX6_hold_92 rfl ?_ | refine wa_aload_nq (pc := 92) (y := mX6_hold) dX6_hold_92 rfl ?_
                  refine wa_getf (pc := 93) (y := mX6_hold) (k := 5) 0 dX6_hold_93 mH_o rfl q2643 (Or.inl rfl) (Nat.le_of_ble_eq_true rfl) (by rfl) ?_
                  refine wa_iconst (pc := 96) (y := mX6_hold) (Int32.ofNat 1) dX6_hold_96 rfl ?_
                  refine wa_ialoadU (pc := 97) (y := mX6_hold) dX6_hold_97 mH_1 (by omega) ?_
                  refine wa_bipush (pc := 98) (y := mX6_hold) (Int32.ofNat 60) dX6_hold_98 rfl ?_
                  refine wa_icmp_ne (pc := 100) 105 dX6_hold_100 rfl (fun hb100 => absurd (by rw [x4]) hb100) (fun hb100 => ?_)
                  refine wa_iconst (pc := 103) (y := mX6_hold) (Int32.ofNat 2) dX6_hold_103 rfl ?_
                  exact wa_ireturn (pc := 104) (y := mX6_hold) .int dX6_hold_104 rfl rfl ⟨rfl, rfl⟩
                · rw [show hdg (σ.1 8) p was (t + 1) c g = hdg (σ.1 8) p was t (c + 1) (giF g (g (18 + 12 * p)) (Int32.ofNat c) (σ.1 8 (12 * was + c)) 0) from (if_pos ⟨x1, x2⟩).trans ((if_neg x3).trans (if_neg x4))]
                  have hI2 : Inv (giF g (g (18 + 12 * p)) (Int32.ofNat c) (σ.1 8 (12 * was + c)) 0) := inv_gi hI (by omega) (by decide) ⟨p, e1, rfl⟩ (fun _ => by omega)
                  refine wa_iload_n (pc := 28) (y := mX6_hold) dX6_hold_28 rfl ?_
                  refine wa_bipush (pc := 29) (y := mX6_hold) (Int32.ofNat 12) dX6_hold_29 rfl ?_
                  refine wa_icmp_ge (pc := 31) 128 dX6_hold_31 rfl (fun hb31 => absurd ((iN_le (by omega) (by omega)).mp hb31) (by omega)) (fun hb31 => ?_)
                  first | refine wa_aload_n (pc := 34) (y := mX6_hold) dX6_hold_34 rfl ?_ | refine wa_aload_nN (pc := 34) (y := mX6_hold) dX6_hold_34 rfl ?_ | refine wa_aload_nq (pc := 34) (y := mX6_hold) dX6_hold_34 rfl ?_
                  refine wa_getf (pc := 35) (y := mX6_hold) (k := 5) 8 dX6_hold_35 mH_o rfl q2651 (Or.inl rfl) (Nat.le_of_ble_eq_true rfl) (by rfl) ?_
                  refine wa_bipush (pc := 38) (y := mX6_hold) (Int32.ofNat 12) dX6_hold_38 rfl ?_
                  refine wa_iload_n (pc := 40) (y := mX6_hold) dX6_hold_40 rfl ?_
                  first | with_reducible refine wa_imulN (pc := 41) (y := mX6_hold) dX6_hold_41 ?_ | refine wa_imul (pc := 41) (y := mX6_hold) dX6_hold_41 ?_
                  refine wa_iload_n (pc := 42) (y := mX6_hold) dX6_hold_42 rfl ?_
                  first | with_reducible refine wa_iaddN (pc := 43) (y := mX6_hold) dX6_hold_43 ?_ | refine wa_iadd (pc := 43) (y := mX6_hold) dX6_hold_43 ?_
                  refine wa_ialoadN (pc := 44) (y := mX6_hold) dX6_hold_44 mH_5 (by omega) ?_
                  refine wa_istore (pc := 45) (y := mX6_hold) dX6_hold_45 (Nat.le_of_ble_eq_true rfl) rfl ?_
                  simp only [List.set_cons_zero, List.set_cons_succ]
                  first | refine wa_aload_n (pc := 47) (y := mX6_hold) dX6_hold_47 rfl ?_ | refine wa_aload_nN (pc := 47) (y := mX6_hold) dX6_hold_47 rfl ?_ | refine wa_aload_nq (pc := 47) (y := mX6_hold) dX6_hold_47 rfl ?_
                  first | refine wa_aload_n (pc := 48) (y := mX6_hold) dX6_hold_48 rfl ?_ | refine wa_aload_nN (pc := 48) (y := mX6_hold) dX6_hold_48 rfl ?_ | refine wa_aload_nq (pc := 48) (y := mX6_hold) dX6_hold_48 rfl ?_
                  refine wa_getf (pc := 49) (y := mX6_hold) (k := 5) 0 dX6_hold_49 mH_o rfl q2643 (Or.inl rfl) (Nat.le_of_ble_eq_true rfl) (by rfl) ?_
                  refine wa_iload_n (pc := 52) (y := mX6_hold) dX6_hold_52 rfl ?_
                  refine wa_callS (pc := 53) (s_X6_at (d := d - 1)) dX6_hold_53 okX6_at q2727 q2728 rfl rfl (Nat.le_of_ble_eq_true rfl) (Nat.le_of_ble_eq_true rfl) (by omega) ?_
                  rintro _ _ - - ⟨rfl, rfl⟩
                  refine aft_v (pc2 := 56) ?_ rfl
                  refine wa_ialoadN (pc := 56) (y := mX6_hold) dX6_hold_56 mH_1 (by omega) ?_
                  refine wa_iload_n (pc := 57) (y := mX6_hold) dX6_hold_57 rfl ?_
                  refine wa_callV (pc := 58) (s_X6_given (d := d - 1) hI) dX6_hold_58 okX6_given q2758 q2760 qs47 mH_o rfl rfl rfl (Nat.le_of_ble_eq_true rfl) (Nat.le_of_ble_eq_true rfl) (by omega) ?_
                  rintro _ _ - - ⟨rfl, rfl⟩
                  refine aft_v (pc2 := 61) ?_ rfl
                  rw [x1, oI_none]
                  refine wa_if_ge (pc := 61) 122 dX6_hold_61 rfl (fun hb61 => absurd hb61 (by decide)) (fun hb61 => ?_)
                  first | refine wa_aload_n (pc := 64) (y := mX6_hold) dX6_hold_64 rfl ?_ | refine wa_aload_nN (pc := 64) (y := mX6_hold) dX6_hold_64 rfl ?_ | refine wa_aload_nq (pc := 64) (y := mX6_hold) dX6_hold_64 rfl ?_
                  refine wa_iload_n (pc := 65) (y := mX6_hold) dX6_hold_65 rfl ?_
                  refine wa_iload_n (pc := 66) (y := mX6_hold) dX6_hold_66 rfl ?_
                  refine wa_callV (pc := 67) (s_X6_levelIn (d := d - 1) (by omega) hI e1 (by omega)) dX6_hold_67 okX6_levelIn q2754 q2756 qs46 mH_o rfl rfl rfl (Nat.le_of_ble_eq_true rfl) (Nat.le_of_ble_eq_true rfl) (by omega) ?_
                  rintro _ _ - - ⟨rfl, rfl⟩
                  refine aft_v (pc2 := 70) ?_ rfl
                  refine wa_iload (pc := 70) (y := mX6_hold) dX6_hold_70 rfl ?_
                  refine wa_icmp_eq (pc := 72) 122 dX6_hold_72 rfl (fun hb72 => absurd hb72 x2) (fun hb72 => ?_)
                  first | refine wa_aload_n (pc := 75) (y := mX6_hold) dX6_hold_75 rfl ?_ | refine wa_aload_nN (pc := 75) (y := mX6_hold) dX6_hold_75 rfl ?_ | refine wa_aload_nq (pc := 75) (y := mX6_hold) dX6_hold_75 rfl ?_
                  refine wa_getf (pc := 76) (y := mX6_hold) (k := 5) 0 dX6_hold_76 mH_o rfl q2643 (Or.inl rfl) (Nat.le_of_ble_eq_true rfl) (by rfl) ?_
                  refine wa_iload_n (pc := 79) (y := mX6_hold) dX6_hold_79 rfl ?_
                  refine wa_callS (pc := 80) (s_X6_at (d := d - 1)) dX6_hold_80 okX6_at q2727 q2728 rfl rfl (Nat.le_of_ble_eq_true rfl) (Nat.le_of_ble_eq_true rfl) (by omega) ?_
                  rintro _ _ - - ⟨rfl, rfl⟩
                  refine aft_v (pc2 := 83) ?_ rfl
                  refine wa_iconst (pc := 83) (y := mX6_hold) (Int32.ofNat 3) dX6_hold_83 rfl ?_
                  first | with_reducible refine wa_iaddN (pc := 84) (y := mX6_hold) dX6_hold_84 ?_ | refine wa_iadd (pc := 84) (y := mX6_hold) dX6_hold_84 ?_
                  refine wa_ialoadN (pc := 85) (y := mX6_hold) dX6_hold_85 mH_1 (by omega) ?_
                  refine wa_iconst (pc := 86) (y := mX6_hold) (Int32.ofNat 1) dX6_hold_86 rfl ?_
                  refine wa_icmp_ne (pc := 87) 92 dX6_hold_87 rfl (fun hb87 => ?_) (fun hb87 => absurd hb87 x3)
                  first | refine wa_aload_n (pc := 92) (y := mX6_hold) dX6_hold_92 rfl ?_ | refine wa_aload_nN (pc := 92) (y := mX6_hold) dX6_hold_92 rfl ?_ | refine wa_aload_nq (pc := 92) (y := mX6_hold) dX6_hold_92 rfl ?_
                  refine wa_getf (pc := 93) (y := mX6_hold) (k := 5) 0 dX6_hold_93 mH_o rfl q2643 (Or.inl rfl) (Nat.le_of_ble_eq_true rfl) (by rfl) ?_
                  refine wa_iconst (pc := 96) (y := mX6_hold) (Int32.ofNat 1) dX6_hold_96 rfl ?_
                  refine wa_ialoadU (pc := 97) (y := mX6_hold) dX6_hold_97 mH_1 (by omega) ?_
                  refine wa_bipush (pc := 98) (y := mX6_hold) (Int32.ofNat 60) dX6_hold_98 rfl ?_
                  refine wa_icmp_ne (pc := 100) 105 dX6_hold_100 rfl (fun hb100 => ?_) (fun hb100 => absurd ((iN_eq (by omega) (by omega)).mp hb100) x4)
                  first | refine wa_aload_n (pc := 105) (y := mX6_hold) dX6_hold_105 rfl ?_ | refine wa_aload_nN (pc := 105) (y := mX6_hold) dX6_hold_105 rfl ?_ | refine wa_aload_nq (pc := 105) (y := mX6_hold) dX6_hold_105 rfl ?_
                  first | refine wa_aload_n (pc := 106) (y := mX6_hold) dX6_hold_106 rfl ?_ | refine wa_aload_nN (pc := 106) (y := mX6_hold) dX6_hold_106 rfl ?_ | refine wa_aload_nq (pc := 106) (y := mX6_hold) dX6_hold_106 rfl ?_
                  refine wa_getf (pc := 107) (y := mX6_hold) (k := 5) 0 dX6_hold_107 mH_o rfl q2643 (Or.inl rfl) (Nat.le_of_ble_eq_true rfl) (by rfl) ?_
                  refine wa_iload_n (pc := 110) (y := mX6_hold) dX6_hold_110 rfl ?_
                  refine wa_callS (pc := 111) (s_X6_at (d := d - 1)) dX6_hold_111 okX6_at q2727 q2728 rfl rfl (Nat.le_of_ble_eq_true rfl) (Nat.le_of_ble_eq_true rfl) (by omega) ?_
                  rintro _ _ - - ⟨rfl, rfl⟩
                  refine aft_v (pc2 := 114) ?_ rfl
                  refine wa_ialoadN (pc := 114) (y := mX6_hold) dX6_hold_114 mH_1 (by omega) ?_
                  refine wa_iload_n (pc := 115) (y := mX6_hold) dX6_hold_115 rfl ?_
                  refine wa_iload (pc := 116) (y := mX6_hold) dX6_hold_116 rfl ?_
                  refine wa_iconst (pc := 118) (y := mX6_hold) (Int32.ofNat 0) dX6_hold_118 rfl ?_
                  refine wa_callV (pc := 119) (s_X6_give (d := d - 1) (by omega) hI (fun _ => by omega)) dX6_hold_119 okX6_give q2829 q2831 qs57 mH_o rfl rfl rfl (Nat.le_of_ble_eq_true rfl) (Nat.le_of_ble_eq_true rfl) (by omega) ?_
                  rintro _ _ - - ⟨rfl, rfl⟩
                  refine aft_0 (pc2 := 122) ?_ rfl
                  first | with_reducible refine wa_iincN (pc := 122) (y := mX6_hold) dX6_hold_122 rfl (Nat.le_of_ble_eq_true rfl) rfl ?_ | refine wa_iinc (pc := 122) (y := mX6_hold) (1) dX6_hold_122 rfl rfl (Nat.le_of_ble_eq_true rfl) rfl ?_
                  simp only [List.set_cons_zero, List.set_cons_succ]
                  refine wa_goto (pc := 125) (y := mX6_hold) 28 dX6_hold_125 rfl ?_
                  exact ih (c + 1) _ _ (by omega) hI2 ((giF_lo (by omega) (by omega)).trans g0)
          · obtain ⟨i, x5⟩ : ∃ i, gv g (g (18 + 12 * p)) (Int32.ofNat c) = some i := by
              cases e : gv g (g (18 + 12 * p)) (Int32.ofNat c) with
              | none => exact absurd e x1
              | some i => exact ⟨i, rfl⟩
            have x6 := (gv_some x5).1
            rw [show hdg (σ.1 8) p was (t + 1) c g = hdg (σ.1 8) p was t (c + 1) g from if_neg (fun q => x1 q.1)]
            refine wa_iload_n (pc := 28) (y := mX6_hold) dX6_hold_28 rfl ?_
            refine wa_bipush (pc := 29) (y := mX6_hold) (Int32.ofNat 12) dX6_hold_29 rfl ?_
            refine wa_icmp_ge (pc := 31) 128 dX6_hold_31 rfl (fun hb31 => absurd ((iN_le (by omega) (by omega)).mp hb31) (by omega)) (fun hb31 => ?_)
            first | refine wa_aload_n (pc := 34) (y := mX6_hold) dX6_hold_34 rfl ?_ | refine wa_aload_nN (pc := 34) (y := mX6_hold) dX6_hold_34 rfl ?_ | refine wa_aload_nq (pc := 34) (y := mX6_hold) dX6_hold_34 rfl ?_
            refine wa_getf (pc := 35) (y := mX6_hold) (k := 5) 8 dX6_hold_35 mH_o rfl q2651 (Or.inl rfl) (Nat.le_of_ble_eq_true rfl) (by rfl) ?_
            refine wa_bipush (pc := 38) (y := mX6_hold) (Int32.ofNat 12) dX6_hold_38 rfl ?_
            refine wa_iload_n (pc := 40) (y := mX6_hold) dX6_hold_40 rfl ?_
            first | with_reducible refine wa_imulN (pc := 41) (y := mX6_hold) dX6_hold_41 ?_ | refine wa_imul (pc := 41) (y := mX6_hold) dX6_hold_41 ?_
            refine wa_iload_n (pc := 42) (y := mX6_hold) dX6_hold_42 rfl ?_
            first | with_reducible refine wa_iaddN (pc := 43) (y := mX6_hold) dX6_hold_43 ?_ | refine wa_iadd (pc := 43) (y := mX6_hold) dX6_hold_43 ?_
            refine wa_ialoadN (pc := 44) (y := mX6_hold) dX6_hold_44 mH_5 (by omega) ?_
            refine wa_istore (pc := 45) (y := mX6_hold) dX6_hold_45 (Nat.le_of_ble_eq_true rfl) rfl ?_
            simp only [List.set_cons_zero, List.set_cons_succ]
            first | refine wa_aload_n (pc := 47) (y := mX6_hold) dX6_hold_47 rfl ?_ | refine wa_aload_nN (pc := 47) (y := mX6_hold) dX6_hold_47 rfl ?_ | refine wa_aload_nq (pc := 47) (y := mX6_hold) dX6_hold_47 rfl ?_
            first | refine wa_aload_n (pc := 48) (y := mX6_hold) dX6_hold_48 rfl ?_ | refine wa_aload_nN (pc := 48) (y := mX6_hold) dX6_hold_48 rfl ?_ | refine wa_aload_nq (pc := 48) (y := mX6_hold) dX6_hold_48 rfl ?_
            refine wa_getf (pc := 49) (y := mX6_hold) (k := 5) 0 dX6_hold_49 mH_o rfl q2643 (Or.inl rfl) (Nat.le_of_ble_eq_true rfl) (by rfl) ?_
            refine wa_iload_n (pc := 52) (y := mX6_hold) dX6_hold_52 rfl ?_
            refine wa_callS (pc := 53) (s_X6_at (d := d - 1)) dX6_hold_53 okX6_at q2727 q2728 rfl rfl (Nat.le_of_ble_eq_true rfl) (Nat.le_of_ble_eq_true rfl) (by omega) ?_
            rintro _ _ - - ⟨rfl, rfl⟩
            refine aft_v (pc2 := 56) ?_ rfl
            refine wa_ialoadN (pc := 56) (y := mX6_hold) dX6_hold_56 mH_1 (by omega) ?_
            refine wa_iload_n (pc := 57) (y := mX6_hold) dX6_hold_57 rfl ?_
            refine wa_callV (pc := 58) (s_X6_given (d := d - 1) hI) dX6_hold_58 okX6_given q2758 q2760 qs47 mH_o rfl rfl rfl (Nat.le_of_ble_eq_true rfl) (Nat.le_of_ble_eq_true rfl) (by omega) ?_
            rintro _ _ - - ⟨rfl, rfl⟩
            refine aft_v (pc2 := 61) ?_ rfl
            rw [x5, oI_some]
            refine wa_if_ge (pc := 61) 122 dX6_hold_61 rfl (fun hb61 => ?_) (fun hb61 => absurd ((iN_le (a := 0) (by omega) (by omega)).mpr (by omega)) hb61)
            first | with_reducible refine wa_iincN (pc := 122) (y := mX6_hold) dX6_hold_122 rfl (Nat.le_of_ble_eq_true rfl) rfl ?_ | refine wa_iinc (pc := 122) (y := mX6_hold) (1) dX6_hold_122 rfl rfl (Nat.le_of_ble_eq_true rfl) rfl ?_
            simp only [List.set_cons_zero, List.set_cons_succ]
            refine wa_goto (pc := 125) (y := mX6_hold) 28 dX6_hold_125 rfl ?_
            exact ih (c + 1) g _ (by omega) hI g0
      refine wa_iload_n (pc := 0) (y := mX6_hold) dX6_hold_0 rfl ?_
      refine wa_iconst (pc := 1) (y := mX6_hold) (Int32.ofNat 0) dX6_hold_1 rfl ?_
      first | refine wa_aload_n (pc := 2) (y := mX6_hold) dX6_hold_2 rfl ?_ | refine wa_aload_nN (pc := 2) (y := mX6_hold) dX6_hold_2 rfl ?_ | refine wa_aload_nq (pc := 2) (y := mX6_hold) dX6_hold_2 rfl ?_
      refine wa_getf (pc := 3) (y := mX6_hold) (k := 5) 0 dX6_hold_3 mH_o rfl q2643 (Or.inl rfl) (Nat.le_of_ble_eq_true rfl) (by rfl) ?_
      refine wa_iconst (pc := 6) (y := mX6_hold) (Int32.ofNat 0) dX6_hold_6 rfl ?_
      refine wa_ialoadN (pc := 7) (y := mX6_hold) dX6_hold_7 mH_1 (by omega) ?_
      refine wa_iconst (pc := 8) (y := mX6_hold) (Int32.ofNat 1) dX6_hold_8 rfl ?_
      refine wa_isub (pc := 9) (y := mX6_hold) dX6_hold_9 ?_
      refine wa_callS (pc := 10) (s_X6_in (d := d - 1)) dX6_hold_10 okX6_in q2716 q2717 rfl rfl (Nat.le_of_ble_eq_true rfl) (Nat.le_of_ble_eq_true rfl) (by omega) ?_
      rintro _ _ - - ⟨rfl, rfl⟩
      refine aft_v (pc2 := 13) ?_ rfl
      rw [hin, decide_eq_true e1]
      refine wa_if_eq (pc := 13) 24 dX6_hold_13 rfl (fun hb13 => absurd hb13 (by decide)) (fun hb13 => ?_)
      first | refine wa_aload_n (pc := 16) (y := mX6_hold) dX6_hold_16 rfl ?_ | refine wa_aload_nN (pc := 16) (y := mX6_hold) dX6_hold_16 rfl ?_ | refine wa_aload_nq (pc := 16) (y := mX6_hold) dX6_hold_16 rfl ?_
      refine wa_iload_n (pc := 17) (y := mX6_hold) dX6_hold_17 rfl ?_
      refine wa_callV (pc := 18) (s_X6_isBlock (d := d - 1) (by omega) (by omega)) dX6_hold_18 okX6_isBlock q2762 q2764 qs48 mH_o rfl rfl rfl (Nat.le_of_ble_eq_true rfl) (Nat.le_of_ble_eq_true rfl) (by omega) ?_
      rintro _ _ - - ⟨rfl, rfl⟩
      refine aft_v (pc2 := 21) ?_ rfl
      rw [e2]
      refine wa_if_eq (pc := 21) 26 dX6_hold_21 rfl (fun hb21 => ?_) (fun hb21 => absurd rfl hb21)
      refine wa_iconst (pc := 26) (y := mX6_hold) (Int32.ofNat 0) dX6_hold_26 rfl ?_
      refine wa_istore_n (pc := 27) (y := mX6_hold) dX6_hold_27 (Nat.le_of_ble_eq_true rfl) rfl ?_
      change WA _ _ _ _ (List.set _ 3 _) _ _ _
      simp only [List.set_cons_zero, List.set_cons_succ]
      exact key 12 0 f _ (by omega) hI rfl
  · have ed : hdF (σ.1 8) p was f = (0, f) := if_neg (fun q => e1 q.1)
    rw [ed]
    refine wa_iload_n (pc := 0) (y := mX6_hold) dX6_hold_0 rfl ?_
    refine wa_iconst (pc := 1) (y := mX6_hold) (Int32.ofNat 0) dX6_hold_1 rfl ?_
    first | refine wa_aload_n (pc := 2) (y := mX6_hold) dX6_hold_2 rfl ?_ | refine wa_aload_nN (pc := 2) (y := mX6_hold) dX6_hold_2 rfl ?_ | refine wa_aload_nq (pc := 2) (y := mX6_hold) dX6_hold_2 rfl ?_
    refine wa_getf (pc := 3) (y := mX6_hold) (k := 5) 0 dX6_hold_3 mH_o rfl q2643 (Or.inl rfl) (Nat.le_of_ble_eq_true rfl) (by rfl) ?_
    refine wa_iconst (pc := 6) (y := mX6_hold) (Int32.ofNat 0) dX6_hold_6 rfl ?_
    refine wa_ialoadN (pc := 7) (y := mX6_hold) dX6_hold_7 mH_1 (by omega) ?_
    refine wa_iconst (pc := 8) (y := mX6_hold) (Int32.ofNat 1) dX6_hold_8 rfl ?_
    refine wa_isub (pc := 9) (y := mX6_hold) dX6_hold_9 ?_
    refine wa_callS (pc := 10) (s_X6_in (d := d - 1)) dX6_hold_10 okX6_in q2716 q2717 rfl rfl (Nat.le_of_ble_eq_true rfl) (Nat.le_of_ble_eq_true rfl) (by omega) ?_
    rintro _ _ - - ⟨rfl, rfl⟩
    refine aft_v (pc2 := 13) ?_ rfl
    rw [hin, decide_eq_false e1]
    refine wa_if_eq (pc := 13) 24 dX6_hold_13 rfl (fun hb13 => ?_) (fun hb13 => absurd rfl hb13)
    refine wa_iconst (pc := 24) (y := mX6_hold) (Int32.ofNat 0) dX6_hold_24 rfl ?_
    exact wa_ireturn (pc := 25) (y := mX6_hold) .int dX6_hold_25 rfl rfl ⟨rfl, rfl⟩
theorem s_X6_giveHeld {cue lev part : Int32} {p c : Nat} {b : Bool} (hd : 4 ≤ d) (hI : Inv f) (hp : pl f cue = some p) (hc : c < 12) (hpt : u part < 4) : MA G d mX6_giveHeld [.ref m, .int cue, .int (Int32.ofNat c), .int lev, .int part, .int (bI b)] (mH h m f σ) (fun r h' => r = .inl (some (.int (Int32.ofNat (gvH f (σ.1 8) cue p c lev part b).1))) ∧ h' = mH h m (gvH f (σ.1 8) cue p c lev part b).2.1 (mA σ 8 (gvH f (σ.1 8) cue p c lev part b).2.2)) := by
  have hn := hI.1
  have hi := hI.2.1
  have hps := pl_some hp
  show WA _ _ _ 0 [.ref m, .int _, .int _, .int _, .int _, .int _, .retAddr 0, .retAddr 0] [] _ _
  by_cases e1 : f (18 + 12 * p + 3) = 1
  · rw [show gvH f (σ.1 8) cue p c lev part b = (1, f, σ.1 8) from if_pos e1, mA_id]
    first | refine wa_aload_n (pc := 0) (y := mX6_giveHeld) dX6_giveHeld_0 rfl ?_ | refine wa_aload_nN (pc := 0) (y := mX6_giveHeld) dX6_giveHeld_0 rfl ?_ | refine wa_aload_nq (pc := 0) (y := mX6_giveHeld) dX6_giveHeld_0 rfl ?_
    refine wa_iload_n (pc := 1) (y := mX6_giveHeld) dX6_giveHeld_1 rfl ?_
    refine wa_callV (pc := 2) (s_X6_placeOf (d := d - 1) (by omega) hI) dX6_giveHeld_2 okX6_placeOf q2723 q2725 qs42 mH_o rfl rfl rfl (Nat.le_of_ble_eq_true rfl) (Nat.le_of_ble_eq_true rfl) (by omega) ?_
    rintro _ _ - - ⟨rfl, rfl⟩
    refine aft_v (pc2 := 5) ?_ rfl
    rw [hp, oI_some]
    refine wa_istore (pc := 5) (y := mX6_giveHeld) dX6_giveHeld_5 (Nat.le_of_ble_eq_true rfl) rfl ?_
    simp only [List.set_cons_zero, List.set_cons_succ]
    first | refine wa_aload_n (pc := 7) (y := mX6_giveHeld) dX6_giveHeld_7 rfl ?_ | refine wa_aload_nN (pc := 7) (y := mX6_giveHeld) dX6_giveHeld_7 rfl ?_ | refine wa_aload_nq (pc := 7) (y := mX6_giveHeld) dX6_giveHeld_7 rfl ?_
    refine wa_getf (pc := 8) (y := mX6_giveHeld) (k := 5) 0 dX6_giveHeld_8 mH_o rfl q2643 (Or.inl rfl) (Nat.le_of_ble_eq_true rfl) (by rfl) ?_
    refine wa_iload (pc := 11) (y := mX6_giveHeld) dX6_giveHeld_11 rfl ?_
    refine wa_callS (pc := 13) (s_X6_at (d := d - 1)) dX6_giveHeld_13 okX6_at q2727 q2728 rfl rfl (Nat.le_of_ble_eq_true rfl) (Nat.le_of_ble_eq_true rfl) (by omega) ?_
    rintro _ _ - - ⟨rfl, rfl⟩
    refine aft_v (pc2 := 16) ?_ rfl
    refine wa_iconst (pc := 16) (y := mX6_giveHeld) (Int32.ofNat 3) dX6_giveHeld_16 rfl ?_
    first | with_reducible refine wa_iaddN (pc := 17) (y := mX6_giveHeld) dX6_giveHeld_17 ?_ | refine wa_iadd (pc := 17) (y := mX6_giveHeld) dX6_giveHeld_17 ?_
    refine wa_ialoadN (pc := 18) (y := mX6_giveHeld) dX6_giveHeld_18 mH_1 (by omega) ?_
    refine wa_iconst (pc := 19) (y := mX6_giveHeld) (Int32.ofNat 1) dX6_giveHeld_19 rfl ?_
    refine wa_icmp_ne (pc := 20) 25 dX6_giveHeld_20 rfl (fun hb20 => absurd e1 hb20) (fun hb20 => ?_)
    refine wa_iconst (pc := 23) (y := mX6_giveHeld) (Int32.ofNat 1) dX6_giveHeld_23 rfl ?_
    exact wa_ireturn (pc := 24) (y := mX6_giveHeld) .int dX6_giveHeld_24 rfl rfl ⟨rfl, rfl⟩
  · by_cases e2 : u (f 1) = 60 ∧ gv f cue (Int32.ofNat c) = none
    · have ed : gvH f (σ.1 8) cue p c lev part b = _ := (if_neg e1).trans (if_pos e2)
      rw [ed]
      cases b with
      | false =>
        first | refine wa_aload_n (pc := 0) (y := mX6_giveHeld) dX6_giveHeld_0 rfl ?_ | refine wa_aload_nN (pc := 0) (y := mX6_giveHeld) dX6_giveHeld_0 rfl ?_ | refine wa_aload_nq (pc := 0) (y := mX6_giveHeld) dX6_giveHeld_0 rfl ?_
        refine wa_iload_n (pc := 1) (y := mX6_giveHeld) dX6_giveHeld_1 rfl ?_
        refine wa_callV (pc := 2) (s_X6_placeOf (d := d - 1) (by omega) hI) dX6_giveHeld_2 okX6_placeOf q2723 q2725 qs42 mH_o rfl rfl rfl (Nat.le_of_ble_eq_true rfl) (Nat.le_of_ble_eq_true rfl) (by omega) ?_
        rintro _ _ - - ⟨rfl, rfl⟩
        refine aft_v (pc2 := 5) ?_ rfl
        rw [hp, oI_some]
        refine wa_istore (pc := 5) (y := mX6_giveHeld) dX6_giveHeld_5 (Nat.le_of_ble_eq_true rfl) rfl ?_
        simp only [List.set_cons_zero, List.set_cons_succ]
        first | refine wa_aload_n (pc := 7) (y := mX6_giveHeld) dX6_giveHeld_7 rfl ?_ | refine wa_aload_nN (pc := 7) (y := mX6_giveHeld) dX6_giveHeld_7 rfl ?_ | refine wa_aload_nq (pc := 7) (y := mX6_giveHeld) dX6_giveHeld_7 rfl ?_
        refine wa_getf (pc := 8) (y := mX6_giveHeld) (k := 5) 0 dX6_giveHeld_8 mH_o rfl q2643 (Or.inl rfl) (Nat.le_of_ble_eq_true rfl) (by rfl) ?_
        refine wa_iload (pc := 11) (y := mX6_giveHeld) dX6_giveHeld_11 rfl ?_
        refine wa_callS (pc := 13) (s_X6_at (d := d - 1)) dX6_giveHeld_13 okX6_at q2727 q2728 rfl rfl (Nat.le_of_ble_eq_true rfl) (Nat.le_of_ble_eq_true rfl) (by omega) ?_
        rintro _ _ - - ⟨rfl, rfl⟩
        refine aft_v (pc2 := 16) ?_ rfl
        refine wa_iconst (pc := 16) (y := mX6_giveHeld) (Int32.ofNat 3) dX6_giveHeld_16 rfl ?_
        first | with_reducible refine wa_iaddN (pc := 17) (y := mX6_giveHeld) dX6_giveHeld_17 ?_ | refine wa_iadd (pc := 17) (y := mX6_giveHeld) dX6_giveHeld_17 ?_
        refine wa_ialoadN (pc := 18) (y := mX6_giveHeld) dX6_giveHeld_18 mH_1 (by omega) ?_
        refine wa_iconst (pc := 19) (y := mX6_giveHeld) (Int32.ofNat 1) dX6_giveHeld_19 rfl ?_
        refine wa_icmp_ne (pc := 20) 25 dX6_giveHeld_20 rfl (fun hb20 => ?_) (fun hb20 => absurd hb20 e1)
        first | refine wa_aload_n (pc := 25) (y := mX6_giveHeld) dX6_giveHeld_25 rfl ?_ | refine wa_aload_nN (pc := 25) (y := mX6_giveHeld) dX6_giveHeld_25 rfl ?_ | refine wa_aload_nq (pc := 25) (y := mX6_giveHeld) dX6_giveHeld_25 rfl ?_
        refine wa_callV (pc := 26) (s_X6_keepLevels (d := d - 1) (by omega) hI) dX6_giveHeld_26 okX6_keepLevels q2750 q2752 qs45 mH_o rfl rfl rfl (Nat.le_of_ble_eq_true rfl) (Nat.le_of_ble_eq_true rfl) (by omega) ?_
        rintro _ _ - - ⟨rfl, rfl⟩
        refine aft_0 (pc2 := 29) ?_ rfl
        first | refine wa_aload_n (pc := 29) (y := mX6_giveHeld) dX6_giveHeld_29 rfl ?_ | refine wa_aload_nN (pc := 29) (y := mX6_giveHeld) dX6_giveHeld_29 rfl ?_ | refine wa_aload_nq (pc := 29) (y := mX6_giveHeld) dX6_giveHeld_29 rfl ?_
        refine wa_getf (pc := 30) (y := mX6_giveHeld) (k := 5) 0 dX6_giveHeld_30 mH_o rfl q2643 (Or.inl rfl) (Nat.le_of_ble_eq_true rfl) (by rfl) ?_
        refine wa_iconst (pc := 33) (y := mX6_giveHeld) (Int32.ofNat 1) dX6_giveHeld_33 rfl ?_
        refine wa_ialoadU (pc := 34) (y := mX6_giveHeld) dX6_giveHeld_34 mH_1 (by omega) ?_
        refine wa_bipush (pc := 35) (y := mX6_giveHeld) (Int32.ofNat 60) dX6_giveHeld_35 rfl ?_
        refine wa_icmp_ne (pc := 37) 53 dX6_giveHeld_37 rfl (fun hb37 => absurd (by rw [e2.1]) hb37) (fun hb37 => ?_)
        first | refine wa_aload_n (pc := 40) (y := mX6_giveHeld) dX6_giveHeld_40 rfl ?_ | refine wa_aload_nN (pc := 40) (y := mX6_giveHeld) dX6_giveHeld_40 rfl ?_ | refine wa_aload_nq (pc := 40) (y := mX6_giveHeld) dX6_giveHeld_40 rfl ?_
        refine wa_iload_n (pc := 41) (y := mX6_giveHeld) dX6_giveHeld_41 rfl ?_
        refine wa_iload_n (pc := 42) (y := mX6_giveHeld) dX6_giveHeld_42 rfl ?_
        refine wa_callV (pc := 43) (s_X6_given (d := d - 1) hI) dX6_giveHeld_43 okX6_given q2758 q2760 qs47 mH_o rfl rfl rfl (Nat.le_of_ble_eq_true rfl) (Nat.le_of_ble_eq_true rfl) (by omega) ?_
        rintro _ _ - - ⟨rfl, rfl⟩
        refine aft_v (pc2 := 46) ?_ rfl
        rw [e2.2, oI_none]
        refine wa_if_ge (pc := 46) 53 dX6_giveHeld_46 rfl (fun hb46 => absurd hb46 (by decide)) (fun hb46 => ?_)
        refine wa_iconst (pc := 49) (y := mX6_giveHeld) (Int32.ofNat 1) dX6_giveHeld_49 rfl ?_
        refine wa_goto (pc := 50) (y := mX6_giveHeld) 54 dX6_giveHeld_50 rfl ?_
        refine wa_istore (pc := 54) (y := mX6_giveHeld) dX6_giveHeld_54 (Nat.le_of_ble_eq_true rfl) rfl ?_
        simp only [List.set_cons_zero, List.set_cons_succ]
        refine wa_iload (pc := 56) (y := mX6_giveHeld) dX6_giveHeld_56 rfl ?_
        refine wa_if_eq (pc := 58) 83 dX6_giveHeld_58 rfl (fun hb58 => absurd hb58 (by decide)) (fun hb58 => ?_)
        refine wa_iload (pc := 61) (y := mX6_giveHeld) dX6_giveHeld_61 rfl ?_
        refine wa_if_eq (pc := 63) 81 dX6_giveHeld_63 rfl (fun hb63 => ?_) (fun hb63 => absurd rfl hb63)
        refine wa_iconst (pc := 81) (y := mX6_giveHeld) (Int32.ofNat 2) dX6_giveHeld_81 rfl ?_
        exact wa_ireturn (pc := 82) (y := mX6_giveHeld) .int dX6_giveHeld_82 rfl rfl ⟨rfl, rfl⟩
      | true =>
        rw [Bool.true_and]
        generalize ew : (decide (p + 1 < u (f 0)) && decide (f (18 + 12 * (p + 1) + 3) = 1) && !isBl f (p + 1) && (gv f (f (18 + 12 * (p + 1))) (Int32.ofNat c)).isNone && decide ((if lev = -1 then f (6 + c) else lev) ≠ lvN f c (p + 1))) = w
        first | refine wa_aload_n (pc := 0) (y := mX6_giveHeld) dX6_giveHeld_0 rfl ?_ | refine wa_aload_nN (pc := 0) (y := mX6_giveHeld) dX6_giveHeld_0 rfl ?_ | refine wa_aload_nq (pc := 0) (y := mX6_giveHeld) dX6_giveHeld_0 rfl ?_
        refine wa_iload_n (pc := 1) (y := mX6_giveHeld) dX6_giveHeld_1 rfl ?_
        refine wa_callV (pc := 2) (s_X6_placeOf (d := d - 1) (by omega) hI) dX6_giveHeld_2 okX6_placeOf q2723 q2725 qs42 mH_o rfl rfl rfl (Nat.le_of_ble_eq_true rfl) (Nat.le_of_ble_eq_true rfl) (by omega) ?_
        rintro _ _ - - ⟨rfl, rfl⟩
        refine aft_v (pc2 := 5) ?_ rfl
        rw [hp, oI_some]
        refine wa_istore (pc := 5) (y := mX6_giveHeld) dX6_giveHeld_5 (Nat.le_of_ble_eq_true rfl) rfl ?_
        simp only [List.set_cons_zero, List.set_cons_succ]
        first | refine wa_aload_n (pc := 7) (y := mX6_giveHeld) dX6_giveHeld_7 rfl ?_ | refine wa_aload_nN (pc := 7) (y := mX6_giveHeld) dX6_giveHeld_7 rfl ?_ | refine wa_aload_nq (pc := 7) (y := mX6_giveHeld) dX6_giveHeld_7 rfl ?_
        refine wa_getf (pc := 8) (y := mX6_giveHeld) (k := 5) 0 dX6_giveHeld_8 mH_o rfl q2643 (Or.inl rfl) (Nat.le_of_ble_eq_true rfl) (by rfl) ?_
        refine wa_iload (pc := 11) (y := mX6_giveHeld) dX6_giveHeld_11 rfl ?_
        refine wa_callS (pc := 13) (s_X6_at (d := d - 1)) dX6_giveHeld_13 okX6_at q2727 q2728 rfl rfl (Nat.le_of_ble_eq_true rfl) (Nat.le_of_ble_eq_true rfl) (by omega) ?_
        rintro _ _ - - ⟨rfl, rfl⟩
        refine aft_v (pc2 := 16) ?_ rfl
        refine wa_iconst (pc := 16) (y := mX6_giveHeld) (Int32.ofNat 3) dX6_giveHeld_16 rfl ?_
        first | with_reducible refine wa_iaddN (pc := 17) (y := mX6_giveHeld) dX6_giveHeld_17 ?_ | refine wa_iadd (pc := 17) (y := mX6_giveHeld) dX6_giveHeld_17 ?_
        refine wa_ialoadN (pc := 18) (y := mX6_giveHeld) dX6_giveHeld_18 mH_1 (by omega) ?_
        refine wa_iconst (pc := 19) (y := mX6_giveHeld) (Int32.ofNat 1) dX6_giveHeld_19 rfl ?_
        refine wa_icmp_ne (pc := 20) 25 dX6_giveHeld_20 rfl (fun hb20 => ?_) (fun hb20 => absurd hb20 e1)
        first | refine wa_aload_n (pc := 25) (y := mX6_giveHeld) dX6_giveHeld_25 rfl ?_ | refine wa_aload_nN (pc := 25) (y := mX6_giveHeld) dX6_giveHeld_25 rfl ?_ | refine wa_aload_nq (pc := 25) (y := mX6_giveHeld) dX6_giveHeld_25 rfl ?_
        refine wa_callV (pc := 26) (s_X6_keepLevels (d := d - 1) (by omega) hI) dX6_giveHeld_26 okX6_keepLevels q2750 q2752 qs45 mH_o rfl rfl rfl (Nat.le_of_ble_eq_true rfl) (Nat.le_of_ble_eq_true rfl) (by omega) ?_
        rintro _ _ - - ⟨rfl, rfl⟩
        refine aft_0 (pc2 := 29) ?_ rfl
        first | refine wa_aload_n (pc := 29) (y := mX6_giveHeld) dX6_giveHeld_29 rfl ?_ | refine wa_aload_nN (pc := 29) (y := mX6_giveHeld) dX6_giveHeld_29 rfl ?_ | refine wa_aload_nq (pc := 29) (y := mX6_giveHeld) dX6_giveHeld_29 rfl ?_
        refine wa_getf (pc := 30) (y := mX6_giveHeld) (k := 5) 0 dX6_giveHeld_30 mH_o rfl q2643 (Or.inl rfl) (Nat.le_of_ble_eq_true rfl) (by rfl) ?_
        refine wa_iconst (pc := 33) (y := mX6_giveHeld) (Int32.ofNat 1) dX6_giveHeld_33 rfl ?_
        refine wa_ialoadU (pc := 34) (y := mX6_giveHeld) dX6_giveHeld_34 mH_1 (by omega) ?_
        refine wa_bipush (pc := 35) (y := mX6_giveHeld) (Int32.ofNat 60) dX6_giveHeld_35 rfl ?_
        refine wa_icmp_ne (pc := 37) 53 dX6_giveHeld_37 rfl (fun hb37 => absurd (by rw [e2.1]) hb37) (fun hb37 => ?_)
        first | refine wa_aload_n (pc := 40) (y := mX6_giveHeld) dX6_giveHeld_40 rfl ?_ | refine wa_aload_nN (pc := 40) (y := mX6_giveHeld) dX6_giveHeld_40 rfl ?_ | refine wa_aload_nq (pc := 40) (y := mX6_giveHeld) dX6_giveHeld_40 rfl ?_
        refine wa_iload_n (pc := 41) (y := mX6_giveHeld) dX6_giveHeld_41 rfl ?_
        refine wa_iload_n (pc := 42) (y := mX6_giveHeld) dX6_giveHeld_42 rfl ?_
        refine wa_callV (pc := 43) (s_X6_given (d := d - 1) hI) dX6_giveHeld_43 okX6_given q2758 q2760 qs47 mH_o rfl rfl rfl (Nat.le_of_ble_eq_true rfl) (Nat.le_of_ble_eq_true rfl) (by omega) ?_
        rintro _ _ - - ⟨rfl, rfl⟩
        refine aft_v (pc2 := 46) ?_ rfl
        rw [e2.2, oI_none]
        refine wa_if_ge (pc := 46) 53 dX6_giveHeld_46 rfl (fun hb46 => absurd hb46 (by decide)) (fun hb46 => ?_)
        refine wa_iconst (pc := 49) (y := mX6_giveHeld) (Int32.ofNat 1) dX6_giveHeld_49 rfl ?_
        refine wa_goto (pc := 50) (y := mX6_giveHeld) 54 dX6_giveHeld_50 rfl ?_
        refine wa_istore (pc := 54) (y := mX6_giveHeld) dX6_giveHeld_54 (Nat.le_of_ble_eq_true rfl) rfl ?_
        simp only [List.set_cons_zero, List.set_cons_succ]
        refine wa_iload (pc := 56) (y := mX6_giveHeld) dX6_giveHeld_56 rfl ?_
        refine wa_if_eq (pc := 58) 83 dX6_giveHeld_58 rfl (fun hb58 => absurd hb58 (by decide)) (fun hb58 => ?_)
        refine wa_iload (pc := 61) (y := mX6_giveHeld) dX6_giveHeld_61 rfl ?_
        refine wa_if_eq (pc := 63) 81 dX6_giveHeld_63 rfl (fun hb63 => absurd hb63 (by decide)) (fun hb63 => ?_)
        first | refine wa_aload_n (pc := 66) (y := mX6_giveHeld) dX6_giveHeld_66 rfl ?_ | refine wa_aload_nN (pc := 66) (y := mX6_giveHeld) dX6_giveHeld_66 rfl ?_ | refine wa_aload_nq (pc := 66) (y := mX6_giveHeld) dX6_giveHeld_66 rfl ?_
        refine wa_iload (pc := 67) (y := mX6_giveHeld) dX6_giveHeld_67 rfl ?_
        refine wa_iload_n (pc := 69) (y := mX6_giveHeld) dX6_giveHeld_69 rfl ?_
        refine wa_iload_n (pc := 70) (y := mX6_giveHeld) dX6_giveHeld_70 rfl ?_
        refine wa_callV (pc := 71) (s_X6_wouldHoldProtected (d := d - 1) (by omega) hI hps.1 hc) dX6_giveHeld_71 okX6_wouldHoldProtected q2825 q2827 qs56 mH_o rfl rfl rfl (Nat.le_of_ble_eq_true rfl) (Nat.le_of_ble_eq_true rfl) (by omega) ?_
        rintro _ _ - - ⟨rfl, rfl⟩
        refine aft_v (pc2 := 74) ?_ rfl
        rw [ew]
        refine wa_if_eq (pc := 74) 81 dX6_giveHeld_74 rfl (fun hb74 => ?_) (fun hb74 => ?_)
        · rw [bI_0.mp hb74]
          refine wa_iconst (pc := 81) (y := mX6_giveHeld) (Int32.ofNat 2) dX6_giveHeld_81 rfl ?_
          exact wa_ireturn (pc := 82) (y := mX6_giveHeld) .int dX6_giveHeld_82 rfl rfl ⟨rfl, rfl⟩
        · rw [bI_n0 hb74]
          refine wa_iconst (pc := 77) (y := mX6_giveHeld) (Int32.ofNat 1) dX6_giveHeld_77 rfl ?_
          refine wa_goto (pc := 78) (y := mX6_giveHeld) 82 dX6_giveHeld_78 rfl ?_
          exact wa_ireturn (pc := 82) (y := mX6_giveHeld) .int dX6_giveHeld_82 rfl rfl ⟨rfl, rfl⟩
    · have hg : gv f cue (Int32.ofNat c) = none → u (f 1) < 60 := fun q => by
        have := mt (fun x => (⟨x, q⟩ : u (f 1) = 60 ∧ gv f cue (Int32.ofNat c) = none)) e2
        omega
      have hI2 : Inv (giF f cue (Int32.ofNat c) lev part) := inv_gi hI hc hpt ⟨p, hps⟩ hg
      have at83 : ∀ q, WA G d mX6_giveHeld 83 [.ref m, .int cue, .int (Int32.ofNat c), .int lev, .int part, .int (bI b), .int (Int32.ofNat p), q] [] (mH h m f (mA σ 8 (klF f (σ.1 8) (12 * u (f 0))))) (fun r h' => r = .inl (some (.int (Int32.ofNat (gvH f (σ.1 8) cue p c lev part b).1))) ∧ h' = mH h m (gvH f (σ.1 8) cue p c lev part b).2.1 (mA σ 8 (gvH f (σ.1 8) cue p c lev part b).2.2)) := by
        intro q
        cases b with
        | false =>
          rw [show gvH f (σ.1 8) cue p c lev part false = (0, giF f cue (Int32.ofNat c) lev part, klF f (σ.1 8) (12 * u (f 0))) from (if_neg e1).trans (if_neg e2)]
          first | refine wa_aload_n (pc := 83) (y := mX6_giveHeld) dX6_giveHeld_83 rfl ?_ | refine wa_aload_nN (pc := 83) (y := mX6_giveHeld) dX6_giveHeld_83 rfl ?_ | refine wa_aload_nq (pc := 83) (y := mX6_giveHeld) dX6_giveHeld_83 rfl ?_
          refine wa_iload_n (pc := 84) (y := mX6_giveHeld) dX6_giveHeld_84 rfl ?_
          refine wa_iload_n (pc := 85) (y := mX6_giveHeld) dX6_giveHeld_85 rfl ?_
          refine wa_iload_n (pc := 86) (y := mX6_giveHeld) dX6_giveHeld_86 rfl ?_
          refine wa_iload (pc := 87) (y := mX6_giveHeld) dX6_giveHeld_87 rfl ?_
          refine wa_callV (pc := 89) (s_X6_give (d := d - 1) (by omega) hI hg) dX6_giveHeld_89 okX6_give q2829 q2831 qs57 mH_o rfl rfl rfl (Nat.le_of_ble_eq_true rfl) (Nat.le_of_ble_eq_true rfl) (by omega) ?_
          rintro _ _ - - ⟨rfl, rfl⟩
          refine aft_0 (pc2 := 92) ?_ rfl
          refine wa_iload (pc := 92) (y := mX6_giveHeld) dX6_giveHeld_92 rfl ?_
          refine wa_if_eq (pc := 94) 112 dX6_giveHeld_94 rfl (fun hb94 => ?_) (fun hb94 => absurd rfl hb94)
          refine wa_iconst (pc := 112) (y := mX6_giveHeld) (Int32.ofNat 0) dX6_giveHeld_112 rfl ?_
          exact wa_ireturn (pc := 113) (y := mX6_giveHeld) .int dX6_giveHeld_113 rfl rfl ⟨rfl, rfl⟩
        | true =>
          rw [show gvH f (σ.1 8) cue p c lev part true = ((hdF (klF f (σ.1 8) (12 * u (f 0))) (p + 1) (p + 1) (giF f cue (Int32.ofNat c) lev part)).1, (hdF (klF f (σ.1 8) (12 * u (f 0))) (p + 1) (p + 1) (giF f cue (Int32.ofNat c) lev part)).2, klF f (σ.1 8) (12 * u (f 0))) from (if_neg e1).trans (if_neg e2)]
          first | refine wa_aload_n (pc := 83) (y := mX6_giveHeld) dX6_giveHeld_83 rfl ?_ | refine wa_aload_nN (pc := 83) (y := mX6_giveHeld) dX6_giveHeld_83 rfl ?_ | refine wa_aload_nq (pc := 83) (y := mX6_giveHeld) dX6_giveHeld_83 rfl ?_
          refine wa_iload_n (pc := 84) (y := mX6_giveHeld) dX6_giveHeld_84 rfl ?_
          refine wa_iload_n (pc := 85) (y := mX6_giveHeld) dX6_giveHeld_85 rfl ?_
          refine wa_iload_n (pc := 86) (y := mX6_giveHeld) dX6_giveHeld_86 rfl ?_
          refine wa_iload (pc := 87) (y := mX6_giveHeld) dX6_giveHeld_87 rfl ?_
          refine wa_callV (pc := 89) (s_X6_give (d := d - 1) (by omega) hI hg) dX6_giveHeld_89 okX6_give q2829 q2831 qs57 mH_o rfl rfl rfl (Nat.le_of_ble_eq_true rfl) (Nat.le_of_ble_eq_true rfl) (by omega) ?_
          rintro _ _ - - ⟨rfl, rfl⟩
          refine aft_0 (pc2 := 92) ?_ rfl
          refine wa_iload (pc := 92) (y := mX6_giveHeld) dX6_giveHeld_92 rfl ?_
          refine wa_if_eq (pc := 94) 112 dX6_giveHeld_94 rfl (fun hb94 => absurd hb94 (by decide)) (fun hb94 => ?_)
          first | refine wa_aload_n (pc := 97) (y := mX6_giveHeld) dX6_giveHeld_97 rfl ?_ | refine wa_aload_nN (pc := 97) (y := mX6_giveHeld) dX6_giveHeld_97 rfl ?_ | refine wa_aload_nq (pc := 97) (y := mX6_giveHeld) dX6_giveHeld_97 rfl ?_
          refine wa_iload (pc := 98) (y := mX6_giveHeld) dX6_giveHeld_98 rfl ?_
          refine wa_iconst (pc := 100) (y := mX6_giveHeld) (Int32.ofNat 1) dX6_giveHeld_100 rfl ?_
          first | with_reducible refine wa_iaddN (pc := 101) (y := mX6_giveHeld) dX6_giveHeld_101 ?_ | refine wa_iadd (pc := 101) (y := mX6_giveHeld) dX6_giveHeld_101 ?_
          refine wa_iload (pc := 102) (y := mX6_giveHeld) dX6_giveHeld_102 rfl ?_
          refine wa_iconst (pc := 104) (y := mX6_giveHeld) (Int32.ofNat 1) dX6_giveHeld_104 rfl ?_
          first | with_reducible refine wa_iaddN (pc := 105) (y := mX6_giveHeld) dX6_giveHeld_105 ?_ | refine wa_iadd (pc := 105) (y := mX6_giveHeld) dX6_giveHeld_105 ?_
          refine wa_callV (pc := 106) (s_X6_hold (d := d - 1) (by omega) hI2 (by omega) (fun q => by rw [giF_lo (by omega) (by omega)] at q; omega)) dX6_giveHeld_106 okX6_hold q2833 q2835 qs58 mH_o rfl rfl rfl (Nat.le_of_ble_eq_true rfl) (Nat.le_of_ble_eq_true rfl) (by omega) ?_
          rintro _ _ - - ⟨rfl, rfl⟩
          refine aft_v (pc2 := 109) ?_ rfl
          rw [mA_s]
          refine wa_goto (pc := 109) (y := mX6_giveHeld) 113 dX6_giveHeld_109 rfl ?_
          exact wa_ireturn (pc := 113) (y := mX6_giveHeld) .int dX6_giveHeld_113 rfl rfl ⟨rfl, rfl⟩
      by_cases e3 : u (f 1) = 60
      · obtain ⟨i, e4⟩ : ∃ i, gv f cue (Int32.ofNat c) = some i := by
          cases e : gv f cue (Int32.ofNat c) with
          | none => exact absurd ⟨e3, e⟩ e2
          | some i => exact ⟨i, rfl⟩
        have x6 := (gv_some e4).1
        first | refine wa_aload_n (pc := 0) (y := mX6_giveHeld) dX6_giveHeld_0 rfl ?_ | refine wa_aload_nN (pc := 0) (y := mX6_giveHeld) dX6_giveHeld_0 rfl ?_ | refine wa_aload_nq (pc := 0) (y := mX6_giveHeld) dX6_giveHeld_0 rfl ?_
        refine wa_iload_n (pc := 1) (y := mX6_giveHeld) dX6_giveHeld_1 rfl ?_
        refine wa_callV (pc := 2) (s_X6_placeOf (d := d - 1) (by omega) hI) dX6_giveHeld_2 okX6_placeOf q2723 q2725 qs42 mH_o rfl rfl rfl (Nat.le_of_ble_eq_true rfl) (Nat.le_of_ble_eq_true rfl) (by omega) ?_
        rintro _ _ - - ⟨rfl, rfl⟩
        refine aft_v (pc2 := 5) ?_ rfl
        rw [hp, oI_some]
        refine wa_istore (pc := 5) (y := mX6_giveHeld) dX6_giveHeld_5 (Nat.le_of_ble_eq_true rfl) rfl ?_
        simp only [List.set_cons_zero, List.set_cons_succ]
        first | refine wa_aload_n (pc := 7) (y := mX6_giveHeld) dX6_giveHeld_7 rfl ?_ | refine wa_aload_nN (pc := 7) (y := mX6_giveHeld) dX6_giveHeld_7 rfl ?_ | refine wa_aload_nq (pc := 7) (y := mX6_giveHeld) dX6_giveHeld_7 rfl ?_
        refine wa_getf (pc := 8) (y := mX6_giveHeld) (k := 5) 0 dX6_giveHeld_8 mH_o rfl q2643 (Or.inl rfl) (Nat.le_of_ble_eq_true rfl) (by rfl) ?_
        refine wa_iload (pc := 11) (y := mX6_giveHeld) dX6_giveHeld_11 rfl ?_
        refine wa_callS (pc := 13) (s_X6_at (d := d - 1)) dX6_giveHeld_13 okX6_at q2727 q2728 rfl rfl (Nat.le_of_ble_eq_true rfl) (Nat.le_of_ble_eq_true rfl) (by omega) ?_
        rintro _ _ - - ⟨rfl, rfl⟩
        refine aft_v (pc2 := 16) ?_ rfl
        refine wa_iconst (pc := 16) (y := mX6_giveHeld) (Int32.ofNat 3) dX6_giveHeld_16 rfl ?_
        first | with_reducible refine wa_iaddN (pc := 17) (y := mX6_giveHeld) dX6_giveHeld_17 ?_ | refine wa_iadd (pc := 17) (y := mX6_giveHeld) dX6_giveHeld_17 ?_
        refine wa_ialoadN (pc := 18) (y := mX6_giveHeld) dX6_giveHeld_18 mH_1 (by omega) ?_
        refine wa_iconst (pc := 19) (y := mX6_giveHeld) (Int32.ofNat 1) dX6_giveHeld_19 rfl ?_
        refine wa_icmp_ne (pc := 20) 25 dX6_giveHeld_20 rfl (fun hb20 => ?_) (fun hb20 => absurd hb20 e1)
        first | refine wa_aload_n (pc := 25) (y := mX6_giveHeld) dX6_giveHeld_25 rfl ?_ | refine wa_aload_nN (pc := 25) (y := mX6_giveHeld) dX6_giveHeld_25 rfl ?_ | refine wa_aload_nq (pc := 25) (y := mX6_giveHeld) dX6_giveHeld_25 rfl ?_
        refine wa_callV (pc := 26) (s_X6_keepLevels (d := d - 1) (by omega) hI) dX6_giveHeld_26 okX6_keepLevels q2750 q2752 qs45 mH_o rfl rfl rfl (Nat.le_of_ble_eq_true rfl) (Nat.le_of_ble_eq_true rfl) (by omega) ?_
        rintro _ _ - - ⟨rfl, rfl⟩
        refine aft_0 (pc2 := 29) ?_ rfl
        first | refine wa_aload_n (pc := 29) (y := mX6_giveHeld) dX6_giveHeld_29 rfl ?_ | refine wa_aload_nN (pc := 29) (y := mX6_giveHeld) dX6_giveHeld_29 rfl ?_ | refine wa_aload_nq (pc := 29) (y := mX6_giveHeld) dX6_giveHeld_29 rfl ?_
        refine wa_getf (pc := 30) (y := mX6_giveHeld) (k := 5) 0 dX6_giveHeld_30 mH_o rfl q2643 (Or.inl rfl) (Nat.le_of_ble_eq_true rfl) (by rfl) ?_
        refine wa_iconst (pc := 33) (y := mX6_giveHeld) (Int32.ofNat 1) dX6_giveHeld_33 rfl ?_
        refine wa_ialoadU (pc := 34) (y := mX6_giveHeld) dX6_giveHeld_34 mH_1 (by omega) ?_
        refine wa_bipush (pc := 35) (y := mX6_giveHeld) (Int32.ofNat 60) dX6_giveHeld_35 rfl ?_
        refine wa_icmp_ne (pc := 37) 53 dX6_giveHeld_37 rfl (fun hb37 => absurd (by rw [e3]) hb37) (fun hb37 => ?_)
        first | refine wa_aload_n (pc := 40) (y := mX6_giveHeld) dX6_giveHeld_40 rfl ?_ | refine wa_aload_nN (pc := 40) (y := mX6_giveHeld) dX6_giveHeld_40 rfl ?_ | refine wa_aload_nq (pc := 40) (y := mX6_giveHeld) dX6_giveHeld_40 rfl ?_
        refine wa_iload_n (pc := 41) (y := mX6_giveHeld) dX6_giveHeld_41 rfl ?_
        refine wa_iload_n (pc := 42) (y := mX6_giveHeld) dX6_giveHeld_42 rfl ?_
        refine wa_callV (pc := 43) (s_X6_given (d := d - 1) hI) dX6_giveHeld_43 okX6_given q2758 q2760 qs47 mH_o rfl rfl rfl (Nat.le_of_ble_eq_true rfl) (Nat.le_of_ble_eq_true rfl) (by omega) ?_
        rintro _ _ - - ⟨rfl, rfl⟩
        refine aft_v (pc2 := 46) ?_ rfl
        rw [e4, oI_some]
        refine wa_if_ge (pc := 46) 53 dX6_giveHeld_46 rfl (fun hb46 => ?_) (fun hb46 => absurd ((iN_le (a := 0) (by omega) (by omega)).mpr (by omega)) hb46)
        refine wa_iconst (pc := 53) (y := mX6_giveHeld) (Int32.ofNat 0) dX6_giveHeld_53 rfl ?_
        refine wa_istore (pc := 54) (y := mX6_giveHeld) dX6_giveHeld_54 (Nat.le_of_ble_eq_true rfl) rfl ?_
        simp only [List.set_cons_zero, List.set_cons_succ]
        refine wa_iload (pc := 56) (y := mX6_giveHeld) dX6_giveHeld_56 rfl ?_
        refine wa_if_eq (pc := 58) 83 dX6_giveHeld_58 rfl (fun hb58 => ?_) (fun hb58 => absurd rfl hb58)
        exact at83 _
      · first | refine wa_aload_n (pc := 0) (y := mX6_giveHeld) dX6_giveHeld_0 rfl ?_ | refine wa_aload_nN (pc := 0) (y := mX6_giveHeld) dX6_giveHeld_0 rfl ?_ | refine wa_aload_nq (pc := 0) (y := mX6_giveHeld) dX6_giveHeld_0 rfl ?_
        refine wa_iload_n (pc := 1) (y := mX6_giveHeld) dX6_giveHeld_1 rfl ?_
        refine wa_callV (pc := 2) (s_X6_placeOf (d := d - 1) (by omega) hI) dX6_giveHeld_2 okX6_placeOf q2723 q2725 qs42 mH_o rfl rfl rfl (Nat.le_of_ble_eq_true rfl) (Nat.le_of_ble_eq_true rfl) (by omega) ?_
        rintro _ _ - - ⟨rfl, rfl⟩
        refine aft_v (pc2 := 5) ?_ rfl
        rw [hp, oI_some]
        refine wa_istore (pc := 5) (y := mX6_giveHeld) dX6_giveHeld_5 (Nat.le_of_ble_eq_true rfl) rfl ?_
        simp only [List.set_cons_zero, List.set_cons_succ]
        first | refine wa_aload_n (pc := 7) (y := mX6_giveHeld) dX6_giveHeld_7 rfl ?_ | refine wa_aload_nN (pc := 7) (y := mX6_giveHeld) dX6_giveHeld_7 rfl ?_ | refine wa_aload_nq (pc := 7) (y := mX6_giveHeld) dX6_giveHeld_7 rfl ?_
        refine wa_getf (pc := 8) (y := mX6_giveHeld) (k := 5) 0 dX6_giveHeld_8 mH_o rfl q2643 (Or.inl rfl) (Nat.le_of_ble_eq_true rfl) (by rfl) ?_
        refine wa_iload (pc := 11) (y := mX6_giveHeld) dX6_giveHeld_11 rfl ?_
        refine wa_callS (pc := 13) (s_X6_at (d := d - 1)) dX6_giveHeld_13 okX6_at q2727 q2728 rfl rfl (Nat.le_of_ble_eq_true rfl) (Nat.le_of_ble_eq_true rfl) (by omega) ?_
        rintro _ _ - - ⟨rfl, rfl⟩
        refine aft_v (pc2 := 16) ?_ rfl
        refine wa_iconst (pc := 16) (y := mX6_giveHeld) (Int32.ofNat 3) dX6_giveHeld_16 rfl ?_
        first | with_reducible refine wa_iaddN (pc := 17) (y := mX6_giveHeld) dX6_giveHeld_17 ?_ | refine wa_iadd (pc := 17) (y := mX6_giveHeld) dX6_giveHeld_17 ?_
        refine wa_ialoadN (pc := 18) (y := mX6_giveHeld) dX6_giveHeld_18 mH_1 (by omega) ?_
        refine wa_iconst (pc := 19) (y := mX6_giveHeld) (Int32.ofNat 1) dX6_giveHeld_19 rfl ?_
        refine wa_icmp_ne (pc := 20) 25 dX6_giveHeld_20 rfl (fun hb20 => ?_) (fun hb20 => absurd hb20 e1)
        first | refine wa_aload_n (pc := 25) (y := mX6_giveHeld) dX6_giveHeld_25 rfl ?_ | refine wa_aload_nN (pc := 25) (y := mX6_giveHeld) dX6_giveHeld_25 rfl ?_ | refine wa_aload_nq (pc := 25) (y := mX6_giveHeld) dX6_giveHeld_25 rfl ?_
        refine wa_callV (pc := 26) (s_X6_keepLevels (d := d - 1) (by omega) hI) dX6_giveHeld_26 okX6_keepLevels q2750 q2752 qs45 mH_o rfl rfl rfl (Nat.le_of_ble_eq_true rfl) (Nat.le_of_ble_eq_true rfl) (by omega) ?_
        rintro _ _ - - ⟨rfl, rfl⟩
        refine aft_0 (pc2 := 29) ?_ rfl
        first | refine wa_aload_n (pc := 29) (y := mX6_giveHeld) dX6_giveHeld_29 rfl ?_ | refine wa_aload_nN (pc := 29) (y := mX6_giveHeld) dX6_giveHeld_29 rfl ?_ | refine wa_aload_nq (pc := 29) (y := mX6_giveHeld) dX6_giveHeld_29 rfl ?_
        refine wa_getf (pc := 30) (y := mX6_giveHeld) (k := 5) 0 dX6_giveHeld_30 mH_o rfl q2643 (Or.inl rfl) (Nat.le_of_ble_eq_true rfl) (by rfl) ?_
        refine wa_iconst (pc := 33) (y := mX6_giveHeld) (Int32.ofNat 1) dX6_giveHeld_33 rfl ?_
        refine wa_ialoadU (pc := 34) (y := mX6_giveHeld) dX6_giveHeld_34 mH_1 (by omega) ?_
        refine wa_bipush (pc := 35) (y := mX6_giveHeld) (Int32.ofNat 60) dX6_giveHeld_35 rfl ?_
        refine wa_icmp_ne (pc := 37) 53 dX6_giveHeld_37 rfl (fun hb37 => ?_) (fun hb37 => absurd ((iN_eq (by omega) (by omega)).mp hb37) e3)
        refine wa_iconst (pc := 53) (y := mX6_giveHeld) (Int32.ofNat 0) dX6_giveHeld_53 rfl ?_
        refine wa_istore (pc := 54) (y := mX6_giveHeld) dX6_giveHeld_54 (Nat.le_of_ble_eq_true rfl) rfl ?_
        simp only [List.set_cons_zero, List.set_cons_succ]
        refine wa_iload (pc := 56) (y := mX6_giveHeld) dX6_giveHeld_56 rfl ?_
        refine wa_if_eq (pc := 58) 83 dX6_giveHeld_58 rfl (fun hb58 => ?_) (fun hb58 => absurd rfl hb58)
        exact at83 _
end MHOLD
