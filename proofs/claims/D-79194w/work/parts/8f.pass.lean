/-! ===== a tenth passes ===== -/
section PASS
variable {G : GG} {d n : Nat} {h h2 : AH} {F F2 : Nat → Nat → Value} {s c k i j p q a : Nat} {A : SA} {f g : Nat → Int32} {O P : Nat → Prop} {x z v : Int32}
theorem sgN_cg (e : ∀ j, 402 ≤ j → f j = g j) : ∀ {c : Nat} {j : Nat}, 402 ≤ j → sgN f c j = sgN g c j
  | 0, j, hj => e j hj
  | c + 1, j, hj => by
    show upd _ _ _ j = upd _ _ _ j
    unfold upd
    rw [sgN_cg e hj, sgN_cg e (c := c) (j := 402 + 5 * c + 2) (by omega)]
theorem tk1_lo (h : j < 402) (h3 : j ≠ 3) (h5 : j ≠ 5) : tk1 f j = f j := by
  unfold tk1
  rw [sgN_lo h, upd_o _ _ h3, upd_o _ _ h5]
theorem tk1_inv (hI : Inv f) : Inv (tk1 f) := tk1_eqv.inv hI
/-- whether the next cue goes by itself -/
theorem goB_fo (hI : Inv f) : goB f = (!decide (foW f = -1) && decide (foW f ≤ f 3)) := by
  unfold goB flB foW
  cases e : pl f (f 2) with
  | none => simp
  | some p =>
    obtain ⟨p1, p2⟩ := pl_some e
    have n0 := (num_pos9 hI p1).2
    rw [p2] at n0
    have hfo := (hI.2.2.2.2.1 p p1).2.1
    have hnx := nx_nxI (f := f) (v := f 2)
    rw [nxI_pl (Srt.of hI) e] at hnx
    simp only [n0, decide_false, Bool.not_false, Bool.true_and]
    by_cases hl : p + 1 = u (f 0)
    · rw [if_neg (by omega)] at hnx
      rw [hnx]
      simp [hl]
    · rw [if_pos (by omega)] at hnx
      have hp := (num_pos9 hI (p := p + 1) (by omega)).1
      rw [hnx]
      simp only [hl, if_false, hp, decide_true, Bool.and_true]
      rcases hfo with h9 | h9
      · rw [h9]; simp
      · have h0 : (0 : Int32) < f (18 + 12 * p + 1) := Int32.lt_of_lt_of_le (by decide) h9
        have h1 : f (18 + 12 * p + 1) ≠ -1 := fun e9 => by rw [e9] at h0; exact absurd h0 (by decide)
        simp [h0, h1]
theorem goB_pl (hI : Inv f) (hb : goB f = true) : ∃ p, pl f (f 2) = some p ∧ p + 1 < u (f 0) ∧ tk2 f = goF f (f (18 + 12 * (p + 1))) (p + 1) := by
  have hb2 := hb
  rw [goB_fo hI] at hb
  unfold foW at hb
  cases e : pl f (f 2) with
  | none => rw [e] at hb; simp at hb
  | some p =>
    rw [e] at hb
    obtain ⟨p1, p2⟩ := pl_some e
    by_cases hl : p + 1 = u (f 0)
    · simp [hl] at hb
    · have hl2 : p + 1 < u (f 0) := by omega
      refine ⟨p, rfl, hl2, ?_⟩
      have hnx := nx_nxI (f := f) (v := f 2)
      rw [nxI_pl (Srt.of hI) e, if_pos hl2] at hnx
      unfold tk2 goX
      rw [if_pos hb2, hnx, pl_self hI hl2]
theorem s_X2_following (hd : 4 ≤ d) (S : ShowR G h F O s A f g) : MA G d mX2_following [.ref s] (sF h F) (fun r h' => r = .inl (some (.int (foW f))) ∧ h' = sF h F) := by
  have hn := S.nlt
  have hnc := S.nc
  have S_is := S.is; have S_0 := S.f0; have S_1 := S.f1; have S_2 := S.f2; have S_3 := S.f3; have S_4 := S.f4; have S_5 := S.f5; have S_6 := S.f6; have S_7 := S.f7; have S_h := S.hm; have S_c := S.cl.1; have S_l := S.fl.1; have S_m := S.im.1
  change WA G d mX2_following 0 [.ref s, .retAddr 0] [] _ _
  cases e : pl f (f 2) with
  | none =>
    refine wa_aloadV_n (pc := 0) (y := mX2_following) dX2_following_0 rfl (by first | exact rf_s _ | exact rf_n | exact rf_q _) ?_
    refine wa_aloadV_n (pc := 1) (y := mX2_following) dX2_following_1 rfl (by first | exact rf_s _ | exact rf_n | exact rf_q _) ?_
    refine wf_get (k := 1) (l := 8) 4 dX2_following_2 (by assumption) rfl q363 (Or.inl rfl) (Nat.le_of_ble_eq_true rfl) (Nat.le_of_ble_eq_true rfl) (by (repeat (first | exact updF_self _ _ _ _ | (apply updF_i; · decide) | (apply updF_a; · first | assumption | (apply Ne.symm; assumption) | omega) | (apply newF_a; · first | assumption | (apply Ne.symm; assumption) | omega) | exact newL_self (by rfl) | exact newF_self (by rfl) | (apply cpyF_a; · first | assumption | (apply Ne.symm; assumption) | omega))) <;> first | assumption | rfl) ?_
    refine wa_callV (pc := 5) (s_X2_indexOf (d := d - 1) (by omega) S) dX2_following_5 okX2_indexOf q1694 q1695 q1696 (sF_at (by assumption)) rfl rfl rfl (Nat.le_of_ble_eq_true rfl) (Nat.le_of_ble_eq_true rfl) (by omega) ?_
    rintro _ _ - - ⟨rfl, rfl⟩
    refine aft_v (pc2 := 8) ?_ rfl
    rw [e, oI_none]
    refine wa_istore_n (pc := 8) (y := mX2_following) dX2_following_8 (Nat.le_of_ble_eq_true rfl) (by first | rfl | (simp [okst, rf_cat] <;> assumption)) ?_
    change WA _ _ _ _ (List.set _ 1 _) _ _ _
    simp only [List.set_cons_zero, List.set_cons_succ]
    refine wa_iload_n (pc := 9) (y := mX2_following) dX2_following_9 rfl ?_
    refine wa_iconst (pc := 10) (y := mX2_following) (-1) dX2_following_10 rfl ?_
    refine wa_icmp_eq (pc := 11) 27 dX2_following_11 rfl (fun hb11 => ?_) (fun hb11 => absurd rfl hb11)
    refine wa_iconst (pc := 27) (y := mX2_following) (-1) dX2_following_27 rfl ?_
    refine wa_goto (pc := 28) (y := mX2_following) 45 dX2_following_28 rfl ?_
    refine wa_ireturn (pc := 45) (y := mX2_following) .int dX2_following_45 rfl rfl ⟨by unfold foW; rw [e], rfl⟩
  | some p =>
    have hp := (pl_some e).1
    have hp0 : Int32.ofNat p ≠ -1 := fun e9 => by have e8 := congrArg u e9; rw [u_of (by omega)] at e8; have : u (-1) = 4294967295 := (by decide); omega
    obtain ⟨a, ha⟩ := S.cu hp
    have C := S.cue p a ha
    have c1 := C.1
    have c3 := C.2.2.2.2.2.1
    refine wa_aloadV_n (pc := 0) (y := mX2_following) dX2_following_0 rfl (by first | exact rf_s _ | exact rf_n | exact rf_q _) ?_
    refine wa_aloadV_n (pc := 1) (y := mX2_following) dX2_following_1 rfl (by first | exact rf_s _ | exact rf_n | exact rf_q _) ?_
    refine wf_get (k := 1) (l := 8) 4 dX2_following_2 (by assumption) rfl q363 (Or.inl rfl) (Nat.le_of_ble_eq_true rfl) (Nat.le_of_ble_eq_true rfl) (by (repeat (first | exact updF_self _ _ _ _ | (apply updF_i; · decide) | (apply updF_a; · first | assumption | (apply Ne.symm; assumption) | omega) | (apply newF_a; · first | assumption | (apply Ne.symm; assumption) | omega) | exact newL_self (by rfl) | exact newF_self (by rfl) | (apply cpyF_a; · first | assumption | (apply Ne.symm; assumption) | omega))) <;> first | assumption | rfl) ?_
    refine wa_callV (pc := 5) (s_X2_indexOf (d := d - 1) (by omega) S) dX2_following_5 okX2_indexOf q1694 q1695 q1696 (sF_at (by assumption)) rfl rfl rfl (Nat.le_of_ble_eq_true rfl) (Nat.le_of_ble_eq_true rfl) (by omega) ?_
    rintro _ _ - - ⟨rfl, rfl⟩
    refine aft_v (pc2 := 8) ?_ rfl
    rw [e, oI_some]
    refine wa_istore_n (pc := 8) (y := mX2_following) dX2_following_8 (Nat.le_of_ble_eq_true rfl) (by first | rfl | (simp [okst, rf_cat] <;> assumption)) ?_
    change WA _ _ _ _ (List.set _ 1 _) _ _ _
    simp only [List.set_cons_zero, List.set_cons_succ]
    refine wa_iload_n (pc := 9) (y := mX2_following) dX2_following_9 rfl ?_
    refine wa_iconst (pc := 10) (y := mX2_following) (-1) dX2_following_10 rfl ?_
    refine wa_icmp_eq (pc := 11) 27 dX2_following_11 rfl (fun hb11 => absurd hb11 hp0) (fun hb11 => ?_)
    refine wa_iload_n (pc := 14) (y := mX2_following) dX2_following_14 rfl ?_
    refine wa_iconst (pc := 15) (y := mX2_following) (Int32.ofNat 1) dX2_following_15 rfl ?_
    first | with_reducible refine wa_iaddN (pc := 16) (y := mX2_following) dX2_following_16 ?_ | refine wa_iadd (pc := 16) (y := mX2_following) dX2_following_16 ?_
    refine wa_aloadV_n (pc := 17) (y := mX2_following) dX2_following_17 rfl (by first | exact rf_s _ | exact rf_n | exact rf_q _) ?_
    refine wf_get (k := 1) (l := 8) 0 dX2_following_18 (by assumption) rfl q355 (Or.inl rfl) (Nat.le_of_ble_eq_true rfl) (Nat.le_of_ble_eq_true rfl) (by (repeat (first | exact updF_self _ _ _ _ | (apply updF_i; · decide) | (apply updF_a; · first | assumption | (apply Ne.symm; assumption) | omega) | (apply newF_a; · first | assumption | (apply Ne.symm; assumption) | omega) | exact newL_self (by rfl) | exact newF_self (by rfl) | (apply cpyF_a; · first | assumption | (apply Ne.symm; assumption) | omega))) <;> first | assumption | rfl) ?_
    refine wa_callV (pc := 21) (s_J2_size (d := d - 1) S.cl) dX2_following_21 okJ2_size q1181 q1145 q1146 (sF_at (by assumption)) rfl rfl rfl (Nat.le_of_ble_eq_true rfl) (Nat.le_of_ble_eq_true rfl) (by omega) ?_
    rintro _ _ - - ⟨rfl, rfl⟩
    refine aft_v (pc2 := 24) ?_ rfl
    refine wa_icmp_ne (pc := 24) 31 dX2_following_24 rfl (fun hb24 => ?_) (fun hb24 => ?_)
    · have hl : ¬ p + 1 = A.cs.length := fun e => hb24 (by rw [e])
      refine wa_aloadV_n (pc := 31) (y := mX2_following) dX2_following_31 rfl (by first | exact rf_s _ | exact rf_n | exact rf_q _) ?_
      refine wf_get (k := 1) (l := 8) 0 dX2_following_32 (by assumption) rfl q355 (Or.inl rfl) (Nat.le_of_ble_eq_true rfl) (Nat.le_of_ble_eq_true rfl) (by (repeat (first | exact updF_self _ _ _ _ | (apply updF_i; · decide) | (apply updF_a; · first | assumption | (apply Ne.symm; assumption) | omega) | (apply newF_a; · first | assumption | (apply Ne.symm; assumption) | omega) | exact newL_self (by rfl) | exact newF_self (by rfl) | (apply cpyF_a; · first | assumption | (apply Ne.symm; assumption) | omega))) <;> first | assumption | rfl) ?_
      refine wa_iload_n (pc := 35) (y := mX2_following) dX2_following_35 rfl ?_
      refine wa_callV (pc := 36) (s_J2_get (d := d - 1) (by omega) S.cl ha) dX2_following_36 okJ2_get q416 q417 q418 (sF_at (by assumption)) rfl rfl rfl (Nat.le_of_ble_eq_true rfl) (Nat.le_of_ble_eq_true rfl) (by omega) ?_
      rintro _ _ - - ⟨rfl, rfl⟩
      refine aft_v (pc2 := 39) ?_ rfl
      refine wa_castS (pc := 39) (y := mX2_following) (k := 6) dX2_following_39 (sF_at (by assumption)) rfl q430 ?_
      refine wf_getN (k := 6) (l := 6) 3 dX2_following_42 (by assumption) rfl q1203 (Or.inl rfl) (Nat.le_of_ble_eq_true rfl) (Nat.le_of_ble_eq_true rfl) (by (repeat (first | exact updF_self _ _ _ _ | (apply updF_i; · decide) | (apply updF_a; · first | assumption | (apply Ne.symm; assumption) | omega) | (apply newF_a; · first | assumption | (apply Ne.symm; assumption) | omega) | exact newL_self (by rfl) | exact newF_self (by rfl) | (apply cpyF_a; · first | assumption | (apply Ne.symm; assumption) | omega))) <;> first | assumption | rfl) ?_
      refine wa_ireturn (pc := 45) (y := mX2_following) .int dX2_following_45 rfl rfl ⟨by unfold foW; rw [e]; simp only; first | rw [if_pos (show p + 1 = u (f 0) by omega)] | rw [if_neg (show ¬ p + 1 = u (f 0) by omega)], rfl⟩
    · have hl : p + 1 = A.cs.length := (iN_eq (by omega) (by omega)).mp hb24
      refine wa_iconst (pc := 27) (y := mX2_following) (-1) dX2_following_27 rfl ?_
      refine wa_goto (pc := 28) (y := mX2_following) 45 dX2_following_28 rfl ?_
      refine wa_ireturn (pc := 45) (y := mX2_following) .int dX2_following_45 rfl rfl ⟨by unfold foW; rw [e]; simp only; first | rw [if_pos (show p + 1 = u (f 0) by omega)] | rw [if_neg (show ¬ p + 1 = u (f 0) by omega)], rfl⟩
theorem s_X2_isTenthDone (hd : 20 ≤ d) (hI : Inv f) (hl0 : 0 ≤ f 2) (S : ShowN G h F O s A f) : MA G d mX2_isTenthDone [.ref s] (sF h F) (fun r h' => ∃ (h2 : AH) (F2 : Nat → Nat → Value), r = .inl (some (.int (bI (goB (tk1 f))))) ∧ h' = sF h2 F2 ∧ Fr (OP O h) h F h2 F2 ∧ Cst (if goB (tk1 f) then 156 else 0) h h2 ∧ ShowN G h2 F2 O s A (tk2 (tk1 f))) := by
  obtain ⟨h60, S⟩ := S
  have hsO := S.own s (Or.inl rfl)
  have hsP : OP O h s := ⟨hsO, fun hk9 => by rcases hk9 with e2 | e2 | e2 <;> exact absurd rfl (e2.ne S.is (by decide))⟩
  have key : ∀ (F2 : Nat → Nat → Value) (v2 : Value), v2.category = 1 → Fr (OP O h) h F h F2 → ShowR G h F2 O s A f (gz (sgN f 12)) →
      WA G d mX2_isTenthDone 34 [.ref s, .int (Int32.ofNat 12), v2] [] (sF h F2) (fun r h' => ∃ (h2 : AH) (F2 : Nat → Nat → Value), r = .inl (some (.int (bI (goB (tk1 f))))) ∧ h' = sF h2 F2 ∧ Fr (OP O h) h F h2 F2 ∧ Cst (if goB (tk1 f) then 156 else 0) h h2 ∧ ShowN G h2 F2 O s A (tk2 (tk1 f))) := by
    intro F2 v2 h9 fr S1
    have hI1 := tk1_inv hI
    have t2 : tk1 f 2 = f 2 := tk1_lo (by decide) (by decide) (by decide)
    have S1_is := S1.is; have S1_0 := S1.f0; have S1_1 := S1.f1; have S1_2 := S1.f2; have S1_3 := S1.f3; have S1_4 := S1.f4; have S1_5 := S1.f5; have S1_6 := S1.f6; have S1_7 := S1.f7; have S1_h := S1.hm; have S1_c := S1.cl.1; have S1_l := S1.fl.1; have S1_m := S1.im.1
    have key2 : ∀ (F3 : Nat → Nat → Value), Fr (OP O h) h F h F3 → ShowR G h F3 O s A (tk1 f) (gz (tk1 f)) →
        WA G d mX2_isTenthDone 65 [.ref s, .int (Int32.ofNat 12), v2] [] (sF h F3) (fun r h' => ∃ (h2 : AH) (F2 : Nat → Nat → Value), r = .inl (some (.int (bI (goB (tk1 f))))) ∧ h' = sF h2 F2 ∧ Fr (OP O h) h F h2 F2 ∧ Cst (if goB (tk1 f) then 156 else 0) h h2 ∧ ShowN G h2 F2 O s A (tk2 (tk1 f))) := by
      intro F3 fr3 S3
      have hS3 : ShowN G h F3 O s A (tk1 f) := ⟨hI1.2.1, S3⟩
      have S3_is := S3.is; have S3_0 := S3.f0; have S3_1 := S3.f1; have S3_2 := S3.f2; have S3_3 := S3.f3; have S3_4 := S3.f4; have S3_5 := S3.f5; have S3_6 := S3.f6; have S3_7 := S3.f7; have S3_h := S3.hm; have S3_c := S3.cl.1; have S3_l := S3.fl.1; have S3_m := S3.im.1
      have hg := goB_fo hI1
      cases hb : goB (tk1 f) with
      | false =>
        rw [hb] at hg
        have h2 : tk2 (tk1 f) = tk1 f := by unfold tk2; rw [if_neg (by rw [hb]; decide)]
        refine wa_aloadV_n (pc := 65) (y := mX2_isTenthDone) dX2_isTenthDone_65 rfl (by first | exact rf_s _ | exact rf_n | exact rf_q _) ?_
        refine wa_callV (pc := 66) (s_X2_following (d := d - 1) (by omega) S3) dX2_isTenthDone_66 okX2_following q2341 q2342 q2343 (sF_at (by assumption)) rfl rfl rfl (Nat.le_of_ble_eq_true rfl) (Nat.le_of_ble_eq_true rfl) (by omega) ?_
        rintro _ _ - - ⟨rfl, rfl⟩
        refine aft_v (pc2 := 69) ?_ rfl
        refine wa_iconst (pc := 69) (y := mX2_isTenthDone) (-1) dX2_isTenthDone_69 rfl ?_
        refine wa_icmp_eq (pc := 70) 88 dX2_isTenthDone_70 rfl (fun hb70 => ?_) (fun hb70 => ?_)
        · refine wa_iconst (pc := 88) (y := mX2_isTenthDone) (Int32.ofNat 0) dX2_isTenthDone_88 rfl ?_
          refine wa_istore_n (pc := 89) (y := mX2_isTenthDone) dX2_isTenthDone_89 (Nat.le_of_ble_eq_true rfl) (by first | rfl | (simp [okst, rf_cat] <;> assumption)) ?_
          change WA _ _ _ _ (List.set _ 1 _) _ _ _
          simp only [List.set_cons_zero, List.set_cons_succ]
          refine wa_iload_n (pc := 90) (y := mX2_isTenthDone) dX2_isTenthDone_90 rfl ?_
          refine wa_if_eq (pc := 91) 109 dX2_isTenthDone_91 rfl (fun hb91 => ?_) (fun hb91 => absurd hb91 (by decide))
          clear hb91
          refine wa_iconst (pc := 109) (y := mX2_isTenthDone) (Int32.ofNat 0) dX2_isTenthDone_109 rfl ?_
          refine wa_istore_n (pc := 110) (y := mX2_isTenthDone) dX2_isTenthDone_110 (Nat.le_of_ble_eq_true rfl) (by first | rfl | (simp [okst, rf_cat] <;> assumption)) ?_
          change WA _ _ _ _ (List.set _ 2 _) _ _ _
          simp only [List.set_cons_zero, List.set_cons_succ]
          refine wa_iload_n (pc := 111) (y := mX2_isTenthDone) dX2_isTenthDone_111 rfl ?_
          refine wa_ireturn (pc := 112) (y := mX2_isTenthDone) .boolean dX2_isTenthDone_112 rfl (by first | rfl | exact bI_nar _) ⟨h, F3, rfl, rfl, fr3, Cst.refl, by rw [h2]; exact hS3⟩
        · refine wa_aloadV_n (pc := 73) (y := mX2_isTenthDone) dX2_isTenthDone_73 rfl (by first | exact rf_s _ | exact rf_n | exact rf_q _) ?_
          refine wa_callV (pc := 74) (s_X2_following (d := d - 1) (by omega) S3) dX2_isTenthDone_74 okX2_following q2341 q2342 q2343 (sF_at (by assumption)) rfl rfl rfl (Nat.le_of_ble_eq_true rfl) (Nat.le_of_ble_eq_true rfl) (by omega) ?_
          rintro _ _ - - ⟨rfl, rfl⟩
          refine aft_v (pc2 := 77) ?_ rfl
          refine wa_aloadV_n (pc := 77) (y := mX2_isTenthDone) dX2_isTenthDone_77 rfl (by first | exact rf_s _ | exact rf_n | exact rf_q _) ?_
          refine wf_get (k := 1) (l := 8) 5 dX2_isTenthDone_78 (by assumption) rfl q365 (Or.inl rfl) (Nat.le_of_ble_eq_true rfl) (Nat.le_of_ble_eq_true rfl) (by (repeat (first | exact updF_self _ _ _ _ | (apply updF_i; · decide) | (apply updF_a; · first | assumption | (apply Ne.symm; assumption) | omega) | (apply newF_a; · first | assumption | (apply Ne.symm; assumption) | omega) | exact newL_self (by rfl) | exact newF_self (by rfl) | (apply cpyF_a; · first | assumption | (apply Ne.symm; assumption) | omega))) <;> first | assumption | rfl) ?_
          refine wa_icmp_gt (pc := 81) 88 dX2_isTenthDone_81 rfl (fun hb81 => ?_) (fun hb81 => absurd hg (by simp [hb70, Int32.not_lt.mp hb81]))
          refine wa_iconst (pc := 88) (y := mX2_isTenthDone) (Int32.ofNat 0) dX2_isTenthDone_88 rfl ?_
          refine wa_istore_n (pc := 89) (y := mX2_isTenthDone) dX2_isTenthDone_89 (Nat.le_of_ble_eq_true rfl) (by first | rfl | (simp [okst, rf_cat] <;> assumption)) ?_
          change WA _ _ _ _ (List.set _ 1 _) _ _ _
          simp only [List.set_cons_zero, List.set_cons_succ]
          refine wa_iload_n (pc := 90) (y := mX2_isTenthDone) dX2_isTenthDone_90 rfl ?_
          refine wa_if_eq (pc := 91) 109 dX2_isTenthDone_91 rfl (fun hb91 => ?_) (fun hb91 => absurd hb91 (by decide))
          clear hb91
          refine wa_iconst (pc := 109) (y := mX2_isTenthDone) (Int32.ofNat 0) dX2_isTenthDone_109 rfl ?_
          refine wa_istore_n (pc := 110) (y := mX2_isTenthDone) dX2_isTenthDone_110 (Nat.le_of_ble_eq_true rfl) (by first | rfl | (simp [okst, rf_cat] <;> assumption)) ?_
          change WA _ _ _ _ (List.set _ 2 _) _ _ _
          simp only [List.set_cons_zero, List.set_cons_succ]
          refine wa_iload_n (pc := 111) (y := mX2_isTenthDone) dX2_isTenthDone_111 rfl ?_
          refine wa_ireturn (pc := 112) (y := mX2_isTenthDone) .boolean dX2_isTenthDone_112 rfl (by first | rfl | exact bI_nar _) ⟨h, F3, rfl, rfl, fr3, Cst.refl, by rw [h2]; exact hS3⟩
      | true =>
        rw [hb] at hg
        replace hg := hg.symm
        simp only [Bool.and_eq_true, Bool.not_eq_true', decide_eq_false_iff_not, decide_eq_true_eq] at hg
        obtain ⟨g1, g2⟩ := hg
        obtain ⟨p, hp, hp1, htk⟩ := goB_pl hI1 hb
        have hp11 : p + 1 ≤ 11 := by have := S3.nlt; omega
        have hni := nxI_pl (Srt.of hI1) hp
        refine wa_aloadV_n (pc := 65) (y := mX2_isTenthDone) dX2_isTenthDone_65 rfl (by first | exact rf_s _ | exact rf_n | exact rf_q _) ?_
        refine wa_callV (pc := 66) (s_X2_following (d := d - 1) (by omega) S3) dX2_isTenthDone_66 okX2_following q2341 q2342 q2343 (sF_at (by assumption)) rfl rfl rfl (Nat.le_of_ble_eq_true rfl) (Nat.le_of_ble_eq_true rfl) (by omega) ?_
        rintro _ _ - - ⟨rfl, rfl⟩
        refine aft_v (pc2 := 69) ?_ rfl
        refine wa_iconst (pc := 69) (y := mX2_isTenthDone) (-1) dX2_isTenthDone_69 rfl ?_
        refine wa_icmp_eq (pc := 70) 88 dX2_isTenthDone_70 rfl (fun hb70 => absurd hb70 g1) (fun hb70 => ?_)
        refine wa_aloadV_n (pc := 73) (y := mX2_isTenthDone) dX2_isTenthDone_73 rfl (by first | exact rf_s _ | exact rf_n | exact rf_q _) ?_
        refine wa_callV (pc := 74) (s_X2_following (d := d - 1) (by omega) S3) dX2_isTenthDone_74 okX2_following q2341 q2342 q2343 (sF_at (by assumption)) rfl rfl rfl (Nat.le_of_ble_eq_true rfl) (Nat.le_of_ble_eq_true rfl) (by omega) ?_
        rintro _ _ - - ⟨rfl, rfl⟩
        refine aft_v (pc2 := 77) ?_ rfl
        refine wa_aloadV_n (pc := 77) (y := mX2_isTenthDone) dX2_isTenthDone_77 rfl (by first | exact rf_s _ | exact rf_n | exact rf_q _) ?_
        refine wf_get (k := 1) (l := 8) 5 dX2_isTenthDone_78 (by assumption) rfl q365 (Or.inl rfl) (Nat.le_of_ble_eq_true rfl) (Nat.le_of_ble_eq_true rfl) (by (repeat (first | exact updF_self _ _ _ _ | (apply updF_i; · decide) | (apply updF_a; · first | assumption | (apply Ne.symm; assumption) | omega) | (apply newF_a; · first | assumption | (apply Ne.symm; assumption) | omega) | exact newL_self (by rfl) | exact newF_self (by rfl) | (apply cpyF_a; · first | assumption | (apply Ne.symm; assumption) | omega))) <;> first | assumption | rfl) ?_
        refine wa_icmp_gt (pc := 81) 88 dX2_isTenthDone_81 rfl (fun hb81 => absurd hb81 (Int32.not_lt.mpr g2)) (fun hb81 => ?_)
        refine wa_iconst (pc := 84) (y := mX2_isTenthDone) (Int32.ofNat 1) dX2_isTenthDone_84 rfl ?_
        refine wa_goto (pc := 85) (y := mX2_isTenthDone) 89 dX2_isTenthDone_85 rfl ?_
        refine wa_istore_n (pc := 89) (y := mX2_isTenthDone) dX2_isTenthDone_89 (Nat.le_of_ble_eq_true rfl) (by first | rfl | (simp [okst, rf_cat] <;> assumption)) ?_
        change WA _ _ _ _ (List.set _ 1 _) _ _ _
        simp only [List.set_cons_zero, List.set_cons_succ]
        refine wa_iload_n (pc := 90) (y := mX2_isTenthDone) dX2_isTenthDone_90 rfl ?_
        refine wa_if_eq (pc := 91) 109 dX2_isTenthDone_91 rfl (fun hb91 => absurd hb91 (by decide)) (fun hb91 => ?_)
        clear hb91
        refine wa_aloadV_n (pc := 94) (y := mX2_isTenthDone) dX2_isTenthDone_94 rfl (by first | exact rf_s _ | exact rf_n | exact rf_q _) ?_
        refine wa_aloadV_n (pc := 95) (y := mX2_isTenthDone) dX2_isTenthDone_95 rfl (by first | exact rf_s _ | exact rf_n | exact rf_q _) ?_
        refine wa_aloadV_n (pc := 96) (y := mX2_isTenthDone) dX2_isTenthDone_96 rfl (by first | exact rf_s _ | exact rf_n | exact rf_q _) ?_
        refine wf_get (k := 1) (l := 8) 4 dX2_isTenthDone_97 (by assumption) rfl q363 (Or.inl rfl) (Nat.le_of_ble_eq_true rfl) (Nat.le_of_ble_eq_true rfl) (by (repeat (first | exact updF_self _ _ _ _ | (apply updF_i; · decide) | (apply updF_a; · first | assumption | (apply Ne.symm; assumption) | omega) | (apply newF_a; · first | assumption | (apply Ne.symm; assumption) | omega) | exact newL_self (by rfl) | exact newF_self (by rfl) | (apply cpyF_a; · first | assumption | (apply Ne.symm; assumption) | omega))) <;> first | assumption | rfl) ?_
        refine wa_callV (pc := 100) (s_X2_nextOf (d := d - 1) (by omega) S3) dX2_isTenthDone_100 okX2_nextOf q2304 q2305 q2306 (sF_at (by assumption)) rfl rfl rfl (Nat.le_of_ble_eq_true rfl) (Nat.le_of_ble_eq_true rfl) (by omega) ?_
        rintro _ _ - - ⟨rfl, rfl⟩
        refine aft_v (pc2 := 103) ?_ rfl
        rw [hni]
        refine wa_callV (pc := 103) (s_X2_goes (d := d - 1) (k := p + 1) (by omega) S3 hp1) dX2_isTenthDone_103 okX2_goes q2290 q2291 q2292 (sF_at (by assumption)) rfl rfl rfl (Nat.le_of_ble_eq_true rfl) (Nat.le_of_ble_eq_true rfl) (by omega) ?_
        rintro _ _ - - ⟨h4, F4, rfl, rfl, fr4, cst4, S4⟩
        refine aft_v (pc2 := 106) ?_ rfl
        refine wa_goto (pc := 106) (y := mX2_isTenthDone) 110 dX2_isTenthDone_106 rfl ?_
        refine wa_istore_n (pc := 110) (y := mX2_isTenthDone) dX2_isTenthDone_110 (Nat.le_of_ble_eq_true rfl) (by first | rfl | (simp [okst, rf_cat] <;> assumption)) ?_
        change WA _ _ _ _ (List.set _ 2 _) _ _ _
        simp only [List.set_cons_zero, List.set_cons_succ]
        refine wa_iload_n (pc := 111) (y := mX2_isTenthDone) dX2_isTenthDone_111 rfl ?_
        refine wa_ireturn (pc := 112) (y := mX2_isTenthDone) .boolean dX2_isTenthDone_112 rfl (by first | rfl | exact bI_nar _) ⟨h4, F4, rfl, rfl, fr3.opT fr4, cst4.mono (by simp only [if_true]; omega), by rw [htk]; exact S4.goN hI1 hp1⟩
    have ez : (decide (f 2 = 0)) = !decide (0 < f 2) := by
      by_cases e : f 2 = 0
      · rw [e]; decide
      · have h1 : (0 : Int32) < f 2 := Int32.lt_of_le_of_ne hl0 (Ne.symm e)
        simp [e, h1]
    have hend : ∀ (b : Int32), (f 2 = 0 → b = 0) → (f 2 ≠ 0 → b = 1) → WA G d mX2_isTenthDone 65 [.ref s, .int (Int32.ofNat 12), v2] [] (sF h (updF (updF F2 s 7 (.int (f 5 + Int32.ofNat 1))) s 5 (.int (f 3 + b)))) (fun r h' => ∃ (h2 : AH) (F2 : Nat → Nat → Value), r = .inl (some (.int (bI (goB (tk1 f))))) ∧ h' = sF h2 F2 ∧ Fr (OP O h) h F h2 F2 ∧ Cst (if goB (tk1 f) then 156 else 0) h h2 ∧ ShowN G h2 F2 O s A (tk2 (tk1 f))) := by
      intro b b0 b1
      have hb3 : f 3 + b = f 3 + (if 0 < f 2 then 1 else 0) := by
        by_cases e : f 2 = 0
        · rw [b0 e, if_neg (by rw [e]; decide)]
        · rw [b1 e, if_pos (Int32.lt_of_le_of_ne hl0 (Ne.symm e))]
      have frx : Fr (· = s) h F2 h (updF (updF F2 s 7 (.int (f 5 + Int32.ofNat 1))) s 5 (.int (f 3 + b))) := (Fr.upd (P := (· = s)) rfl).updT (Or.inl rfl)
      refine key2 _ (fr.trans frx (fun b hb e => e ▸ hsP)) ?_
      have S2 := S1.setS (f2 := tk1 f) frx (fun j hj => updF_i (by omega) (updF_i (by omega) rfl)) (by rw [t2]; exact updF_i (by decide) (updF_i (by decide) S1.f4)) (by unfold tk1; rw [sgN_lo (by decide), upd_s, ← hb3]; exact updF_self _ _ _ _) (by rw [tk1_lo (by decide) (by decide) (by decide)]; exact updF_i (by decide) (updF_i (by decide) S1.f6)) (by unfold tk1; rw [sgN_lo (by decide), upd_o _ _ (by decide), upd_s]; exact updF_i (by decide) (updF_self _ _ _ _)) (fun j hj => tk1_lo (by omega) (by omega) (by omega))
      exact S2.cg (fun _ _ => rfl) (fun _ _ _ => rfl) (fun j hj => sgN_cg (fun j hj => by rw [upd_o _ _ (by omega), upd_o _ _ (by omega)]) (by omega))
    refine wa_aloadV_n (pc := 34) (y := mX2_isTenthDone) dX2_isTenthDone_34 rfl (by first | exact rf_s _ | exact rf_n | exact rf_q _) ?_
    refine wa_dup (pc := 35) (y := mX2_isTenthDone) dX2_isTenthDone_35 (by first | rfl | exact rf_cat _) ?_
    refine wf_get (k := 1) (l := 8) 7 dX2_isTenthDone_36 (by assumption) rfl q369 (Or.inl rfl) (Nat.le_of_ble_eq_true rfl) (Nat.le_of_ble_eq_true rfl) (by (repeat (first | exact updF_self _ _ _ _ | (apply updF_i; · decide) | (apply updF_a; · first | assumption | (apply Ne.symm; assumption) | omega) | (apply newF_a; · first | assumption | (apply Ne.symm; assumption) | omega) | exact newL_self (by rfl) | exact newF_self (by rfl) | (apply cpyF_a; · first | assumption | (apply Ne.symm; assumption) | omega))) <;> first | assumption | rfl) ?_
    refine wa_iconst (pc := 39) (y := mX2_isTenthDone) (Int32.ofNat 1) dX2_isTenthDone_39 rfl ?_
    first | with_reducible refine wa_iaddN (pc := 40) (y := mX2_isTenthDone) dX2_isTenthDone_40 ?_ | refine wa_iadd (pc := 40) (y := mX2_isTenthDone) dX2_isTenthDone_40 ?_
    refine wf_put (k := 1) (l := 8) 7 .int dX2_isTenthDone_41 (by assumption) rfl q369 (Or.inl rfl) (Nat.le_of_ble_eq_true rfl) rfl (by decide +kernel) rfl rfl ?_
    refine wa_aloadV_n (pc := 44) (y := mX2_isTenthDone) dX2_isTenthDone_44 rfl (by first | exact rf_s _ | exact rf_n | exact rf_q _) ?_
    refine wa_dup (pc := 45) (y := mX2_isTenthDone) dX2_isTenthDone_45 (by first | rfl | exact rf_cat _) ?_
    refine wf_get (k := 1) (l := 8) 5 dX2_isTenthDone_46 (by assumption) rfl q365 (Or.inl rfl) (Nat.le_of_ble_eq_true rfl) (Nat.le_of_ble_eq_true rfl) (by (repeat (first | exact updF_self _ _ _ _ | (apply updF_i; · decide) | (apply updF_a; · first | assumption | (apply Ne.symm; assumption) | omega) | (apply newF_a; · first | assumption | (apply Ne.symm; assumption) | omega) | exact newL_self (by rfl) | exact newF_self (by rfl) | (apply cpyF_a; · first | assumption | (apply Ne.symm; assumption) | omega))) <;> first | assumption | rfl) ?_
    refine wa_aloadV_n (pc := 49) (y := mX2_isTenthDone) dX2_isTenthDone_49 rfl (by first | exact rf_s _ | exact rf_n | exact rf_q _) ?_
    refine wf_get (k := 1) (l := 8) 4 dX2_isTenthDone_50 (by assumption) rfl q363 (Or.inl rfl) (Nat.le_of_ble_eq_true rfl) (Nat.le_of_ble_eq_true rfl) (by (repeat (first | exact updF_self _ _ _ _ | (apply updF_i; · decide) | (apply updF_a; · first | assumption | (apply Ne.symm; assumption) | omega) | (apply newF_a; · first | assumption | (apply Ne.symm; assumption) | omega) | exact newL_self (by rfl) | exact newF_self (by rfl) | (apply cpyF_a; · first | assumption | (apply Ne.symm; assumption) | omega))) <;> first | assumption | rfl) ?_
    refine wa_if_ne (pc := 53) 60 dX2_isTenthDone_53 rfl (fun hb53 => ?_) (fun hb53 => ?_)
    · refine wa_iconst (pc := 60) (y := mX2_isTenthDone) (Int32.ofNat 1) dX2_isTenthDone_60 rfl ?_
      first | with_reducible refine wa_iaddN (pc := 61) (y := mX2_isTenthDone) dX2_isTenthDone_61 ?_ | refine wa_iadd (pc := 61) (y := mX2_isTenthDone) dX2_isTenthDone_61 ?_
      refine wf_put (k := 1) (l := 8) 5 .int dX2_isTenthDone_62 (by assumption) rfl q365 (Or.inl rfl) (Nat.le_of_ble_eq_true rfl) rfl (by decide +kernel) rfl rfl ?_
      first | exact hend _ (fun e => absurd e hb53) (fun _ => rfl) | exact hend _ (fun _ => rfl) (fun e => absurd hb53 e)
    · refine wa_iconst (pc := 56) (y := mX2_isTenthDone) (Int32.ofNat 0) dX2_isTenthDone_56 rfl ?_
      refine wa_goto (pc := 57) (y := mX2_isTenthDone) 61 dX2_isTenthDone_57 rfl ?_
      first | with_reducible refine wa_iaddN (pc := 61) (y := mX2_isTenthDone) dX2_isTenthDone_61 ?_ | refine wa_iadd (pc := 61) (y := mX2_isTenthDone) dX2_isTenthDone_61 ?_
      refine wf_put (k := 1) (l := 8) 5 .int dX2_isTenthDone_62 (by assumption) rfl q365 (Or.inl rfl) (Nat.le_of_ble_eq_true rfl) rfl (by decide +kernel) rfl rfl ?_
      first | exact hend _ (fun e => absurd e hb53) (fun _ => rfl) | exact hend _ (fun _ => rfl) (fun e => absurd hb53 e)
  have loop : ∀ (t c : Nat) (F2 : Nat → Nat → Value) (v2 : Value), c + t = 12 → v2.category = 1 → Fr (OP O h) h F h F2 → ShowR G h F2 O s A f (gz (sgN f c)) →
      WA G d mX2_isTenthDone 2 [.ref s, .int (Int32.ofNat c), v2] [] (sF h F2) (fun r h' => ∃ (h2 : AH) (F2 : Nat → Nat → Value), r = .inl (some (.int (bI (goB (tk1 f))))) ∧ h' = sF h2 F2 ∧ Fr (OP O h) h F h2 F2 ∧ Cst (if goB (tk1 f) then 156 else 0) h h2 ∧ ShowN G h2 F2 O s A (tk2 (tk1 f))) := by
    intro t
    induction t with
    | zero =>
      intro c F2 v2 hc h9 fr S1
      have hc : c = 12 := by omega
      subst hc
      refine wa_iload_n (pc := 2) (y := mX2_isTenthDone) dX2_isTenthDone_2 rfl ?_
      refine wa_bipush (pc := 3) (y := mX2_isTenthDone) (Int32.ofNat 12) dX2_isTenthDone_3 rfl ?_
      refine wa_icmp_ge (pc := 5) 34 dX2_isTenthDone_5 rfl (fun hb5 => ?_) (fun hb5 => absurd ((iN_le (by omega) (by omega)).mpr (Nat.le_refl 12)) hb5)
      exact key F2 v2 h9 fr S1
    | succ t ih =>
      intro c F2 v2 hc h9 fr S1
      have S1_is := S1.is; have S1_0 := S1.f0; have S1_1 := S1.f1; have S1_2 := S1.f2; have S1_3 := S1.f3; have S1_4 := S1.f4; have S1_5 := S1.f5; have S1_6 := S1.f6; have S1_7 := S1.f7; have S1_h := S1.hm; have S1_c := S1.cl.1; have S1_l := S1.fl.1; have S1_m := S1.im.1
      obtain ⟨y, hy⟩ := S1.fadeOf (c := c) (by omega)
      have T := S1.fad c y hy
      have t1 := T.1
      have t6 := T.2.2.2.2.2
      refine wa_iload_n (pc := 2) (y := mX2_isTenthDone) dX2_isTenthDone_2 rfl ?_
      refine wa_bipush (pc := 3) (y := mX2_isTenthDone) (Int32.ofNat 12) dX2_isTenthDone_3 rfl ?_
      refine wa_icmp_ge (pc := 5) 34 dX2_isTenthDone_5 rfl (fun hb5 => absurd ((iN_le (by omega) (by omega)).mp hb5) (by omega)) (fun hb5 => ?_)
      refine wa_aloadV_n (pc := 8) (y := mX2_isTenthDone) dX2_isTenthDone_8 rfl (by first | exact rf_s _ | exact rf_n | exact rf_q _) ?_
      refine wf_get (k := 1) (l := 8) 3 dX2_isTenthDone_9 (by assumption) rfl q361 (Or.inl rfl) (Nat.le_of_ble_eq_true rfl) (Nat.le_of_ble_eq_true rfl) (by (repeat (first | exact updF_self _ _ _ _ | (apply updF_i; · decide) | (apply updF_a; · first | assumption | (apply Ne.symm; assumption) | omega) | (apply newF_a; · first | assumption | (apply Ne.symm; assumption) | omega) | exact newL_self (by rfl) | exact newF_self (by rfl) | (apply cpyF_a; · first | assumption | (apply Ne.symm; assumption) | omega))) <;> first | assumption | rfl) ?_
      refine wa_iload_n (pc := 12) (y := mX2_isTenthDone) dX2_isTenthDone_12 rfl ?_
      refine wa_callV (pc := 13) (s_J2_get (d := d - 1) (by omega) S1.fl hy) dX2_isTenthDone_13 okJ2_get q416 q417 q418 (sF_at (by assumption)) rfl rfl rfl (Nat.le_of_ble_eq_true rfl) (Nat.le_of_ble_eq_true rfl) (by omega) ?_
      rintro _ _ - - ⟨rfl, rfl⟩
      refine aft_v (pc2 := 16) ?_ rfl
      refine wa_castS (pc := 16) (y := mX2_isTenthDone) (k := 2) dX2_isTenthDone_16 (sF_at (by assumption)) rfl q246 ?_
      refine wa_dup (pc := 19) (y := mX2_isTenthDone) dX2_isTenthDone_19 (by first | rfl | exact rf_cat _) ?_
      refine wf_getN (k := 2) (l := 5) 4 dX2_isTenthDone_20 (by assumption) rfl q259 (Or.inl rfl) (Nat.le_of_ble_eq_true rfl) (Nat.le_of_ble_eq_true rfl) (by (repeat (first | exact updF_self _ _ _ _ | (apply updF_i; · decide) | (apply updF_a; · first | assumption | (apply Ne.symm; assumption) | omega) | (apply newF_a; · first | assumption | (apply Ne.symm; assumption) | omega) | exact newL_self (by rfl) | exact newF_self (by rfl) | (apply cpyF_a; · first | assumption | (apply Ne.symm; assumption) | omega))) <;> first | assumption | rfl) ?_
      refine wa_iconst (pc := 23) (y := mX2_isTenthDone) (Int32.ofNat 1) dX2_isTenthDone_23 rfl ?_
      first | with_reducible refine wa_iaddN (pc := 24) (y := mX2_isTenthDone) dX2_isTenthDone_24 ?_ | refine wa_iadd (pc := 24) (y := mX2_isTenthDone) dX2_isTenthDone_24 ?_
      refine wf_putN (k := 2) (l := 5) 4 .int dX2_isTenthDone_25 (by assumption) rfl q259 (Or.inl rfl) (Nat.le_of_ble_eq_true rfl) rfl (by decide +kernel) rfl rfl ?_
      have frx : Fr (· = y) h F2 h (updF F2 y 4 (.int (gz (sgN f c) (5 * c + 2) + Int32.ofNat 1))) := Fr.upd rfl
      have hyO := S1.own y (Or.inr (Or.inr (Or.inr (Or.inr (Or.inr (Or.inl (List.mem_of_getElem? hy)))))))
      have e5 : ∀ j, j ≠ 5 * c + 2 → gz (sgN f (c + 1)) j = gz (sgN f c) j := fun j hj => upd_o _ _ (by omega)
      have es : gz (sgN f (c + 1)) (5 * c + 2) = gz (sgN f c) (5 * c + 2) + Int32.ofNat 1 := upd_s _ _ _
      refine wa_iincN (pc := 28) (y := mX2_isTenthDone) dX2_isTenthDone_28 rfl (Nat.le_of_ble_eq_true rfl) (by first | rfl | (simp [okst, rf_cat] <;> assumption)) ?_
      simp only [List.set_cons_zero, List.set_cons_succ]
      refine wa_goto (pc := 31) (y := mX2_isTenthDone) 2 dX2_isTenthDone_31 rfl ?_
      exact ih (c + 1) _ v2 (by omega) h9 (fr.trans frx (fun b hb e => e ▸ ⟨hyO, fun hk9 => by rcases hk9 with e2 | e2 | e2 <;> exact absurd rfl (e2.ne t1 (by decide))⟩)) (S1.setFd hy frx ⟨t1, by rw [e5 _ (by omega)]; exact updF_i (by decide) T.2.1, by rw [e5 _ (by omega)]; exact updF_i (by decide) T.2.2.1, by rw [e5 _ (by omega)]; exact updF_i (by decide) T.2.2.2.1, by rw [e5 _ (by omega)]; exact updF_i (by decide) T.2.2.2.2.1, by rw [es]; exact updF_self _ _ _ _⟩ (fun c2 j hc2 hne hj => e5 _ (by omega)))
  change WA G d mX2_isTenthDone 0 [.ref s, .retAddr 0, .retAddr 0] [] _ _
  refine wa_iconst (pc := 0) (y := mX2_isTenthDone) (Int32.ofNat 0) dX2_isTenthDone_0 rfl ?_
  refine wa_istore_n (pc := 1) (y := mX2_isTenthDone) dX2_isTenthDone_1 (Nat.le_of_ble_eq_true rfl) (by first | rfl | (simp [okst, rf_cat] <;> assumption)) ?_
  change WA _ _ _ _ (List.set _ 1 _) _ _ _
  simp only [List.set_cons_zero, List.set_cons_succ]
  exact loop 12 0 F _ rfl rfl Fr.refl S
end PASS
