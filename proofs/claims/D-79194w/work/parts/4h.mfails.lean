/-! ===== CueStackModel: isTold, fails, append ===== -/
theorem gsC_nn {f : Nat → Int32} {cue : Int32} {p : Nat} : ∀ {c : Nat}, ∃ n, n ≤ c ∧ gsC f cue p c = Int32.ofNat n
  | 0 => ⟨0, Nat.le_refl _, rfl⟩
  | c + 1 => by
    obtain ⟨n, h1, h2⟩ := gsC_nn (f := f) (cue := cue) (p := p) (c := c)
    unfold gsC
    split
    · exact ⟨n, by omega, h2⟩
    · exact ⟨n + 1, by omega, by rw [h2]; exact iN_add n 1⟩
def tldB (f N : Nat → Int32) (e : Nat) : Bool := isC f (N (3 * e)) && decide (u (N (3 * e + 1)) < 12)
/-- what an entry does: whether it fails, the state -/
def flE (f : Nat → Int32) (σ : MS) (k a b lv : Int32) : Bool × (Nat → Int32) × MS :=
  if k = 99 then (decide (0 < (dA f a).1), (dA f a).2, σ) else
  if k = 120 then (decide (0 < (dRm f σ a false).1), (dRm f σ a false).2.1, (dRm f σ a false).2.2) else
  if k = 115 then match pl f a with
    | none => (true, f, σ)
    | some p => if ¬ u b < 12 then (true, f, σ) else if 100 < lv then (true, f, σ) else (decide (0 < (dGi f σ a p (u b) lv 0 false).1), (dGi f σ a p (u b) lv 0 false).2.1, (dGi f σ a p (u b) lv 0 false).2.2)
  else if k = 114 then match pl f a with
    | none => (true, f, σ)
    | some p => if ¬ u b < 12 then (true, f, σ) else (decide (0 < (dGi f σ a p (u b) (-1) 0 false).1), (dGi f σ a p (u b) (-1) 0 false).2.1, (dGi f σ a p (u b) (-1) 0 false).2.2)
  else if k = 103 then (decide (0 < (dGo f σ false).1), (dGo f σ false).2.1, (dGo f σ false).2.2)
  else if k = 106 then match pl f a with
    | none => (true, f, σ)
    | some p => (false, goF f a p, σ)
  else (decide (0 < (dPs f a).1), (dPs f a).2, σ)
theorem dA_le {f : Nat → Int32} {n : Int32} : (dA f n).1 ≤ 2 := by
  unfold dA
  split
  · show 1 ≤ 2; omega
  · split
    · exact Nat.le_refl _
    · exact Nat.zero_le _
section MFAILS
variable {G : GG} {d : Nat} {h : AH} {m : Nat} {f : Nat → Int32} {σ : MS}
theorem s_X6_append {c : Int32} (hd : 1 ≤ d) (hL : u (σ.2 10) ≤ 60) : MA G d mX6_append [.ref m, .int c] (mH h m f σ) (fun r h' => r = .inl (some (.int (O_append f σ c).2.1)) ∧ h' = mH h m (O_append f σ c).2.2.1 (O_append f σ c).2.2.2) := by
  show WA _ _ _ 0 [.ref m, .int _] [] _ _
  cases e : inb c 32 126 with
  | false =>
    rw [show O_append f σ c = oX f σ 1 from if_pos e]
    first | refine wa_aload_n (pc := 0) (y := mX6_append) dX6_append_0 rfl ?_ | refine wa_aload_nN (pc := 0) (y := mX6_append) dX6_append_0 rfl ?_ | refine wa_aload_nq (pc := 0) (y := mX6_append) dX6_append_0 rfl ?_
    refine wa_iload_n (pc := 1) (y := mX6_append) dX6_append_1 rfl ?_
    refine wa_bipush (pc := 2) (y := mX6_append) (Int32.ofNat 32) dX6_append_2 rfl ?_
    refine wa_bipush (pc := 4) (y := mX6_append) (Int32.ofNat 126) dX6_append_4 rfl ?_
    refine wa_callS (pc := 6) (s_X6_in (d := d - 1)) dX6_append_6 okX6_in q2716 q2717 rfl rfl (Nat.le_of_ble_eq_true rfl) (Nat.le_of_ble_eq_true rfl) (by omega) ?_
    rintro _ _ - - ⟨rfl, rfl⟩
    refine aft_v (pc2 := 9) ?_ rfl
    rw [show inb c (Int32.ofNat 32) (Int32.ofNat 126) = false from e]
    refine wa_if_ne (pc := 9) 16 dX6_append_9 rfl (fun hb9 => absurd rfl hb9) (fun hb9 => ?_)
    refine wa_iconst (pc := 12) (y := mX6_append) (Int32.ofNat 1) dX6_append_12 rfl ?_
    refine wa_goto (pc := 13) (y := mX6_append) 30 dX6_append_13 rfl ?_
    refine wa_putf (pc := 30) (y := mX6_append) (k := 5) 7 .int dX6_append_30 mH_o rfl q2650 (Or.inl rfl) (Nat.le_of_ble_eq_true rfl) rfl (by decide +kernel) rfl rfl ?_
    rw [mW_o7]
    first | refine wa_aload_n (pc := 33) (y := mX6_append) dX6_append_33 rfl ?_ | refine wa_aload_nN (pc := 33) (y := mX6_append) dX6_append_33 rfl ?_ | refine wa_aload_nq (pc := 33) (y := mX6_append) dX6_append_33 rfl ?_
    refine wa_getf (pc := 34) (y := mX6_append) (k := 5) 7 dX6_append_34 mH_o rfl q2650 (Or.inl rfl) (Nat.le_of_ble_eq_true rfl) (by rfl) ?_
    show WA _ _ _ _ _ (.int (Int32.ofNat 1) :: _) _ _
    refine wa_if_le (pc := 37) 42 dX6_append_37 rfl (fun hb37 => absurd hb37 (by decide)) (fun hb37 => ?_)
    clear hb37
    refine wa_iconst (pc := 40) (y := mX6_append) (Int32.ofNat 0) dX6_append_40 rfl ?_
    exact wa_ireturn (pc := 41) (y := mX6_append) .int dX6_append_41 rfl rfl ⟨rfl, rfl⟩
  | true =>
    by_cases e2 : u (σ.2 10) = 60
    · rw [show O_append f σ c = oX f σ 2 from (if_neg (by rw [e]; decide)).trans (if_pos e2)]
      first | refine wa_aload_n (pc := 0) (y := mX6_append) dX6_append_0 rfl ?_ | refine wa_aload_nN (pc := 0) (y := mX6_append) dX6_append_0 rfl ?_ | refine wa_aload_nq (pc := 0) (y := mX6_append) dX6_append_0 rfl ?_
      refine wa_iload_n (pc := 1) (y := mX6_append) dX6_append_1 rfl ?_
      refine wa_bipush (pc := 2) (y := mX6_append) (Int32.ofNat 32) dX6_append_2 rfl ?_
      refine wa_bipush (pc := 4) (y := mX6_append) (Int32.ofNat 126) dX6_append_4 rfl ?_
      refine wa_callS (pc := 6) (s_X6_in (d := d - 1)) dX6_append_6 okX6_in q2716 q2717 rfl rfl (Nat.le_of_ble_eq_true rfl) (Nat.le_of_ble_eq_true rfl) (by omega) ?_
      rintro _ _ - - ⟨rfl, rfl⟩
      refine aft_v (pc2 := 9) ?_ rfl
      rw [show inb c (Int32.ofNat 32) (Int32.ofNat 126) = true from e]
      refine wa_if_ne (pc := 9) 16 dX6_append_9 rfl (fun hb9 => ?_) (fun hb9 => absurd hb9 (by decide))
      first | refine wa_aload_n (pc := 16) (y := mX6_append) dX6_append_16 rfl ?_ | refine wa_aload_nN (pc := 16) (y := mX6_append) dX6_append_16 rfl ?_ | refine wa_aload_nq (pc := 16) (y := mX6_append) dX6_append_16 rfl ?_
      refine wa_getf (pc := 17) (y := mX6_append) (k := 5) 10 dX6_append_17 mH_o rfl q2653 (Or.inl rfl) (Nat.le_of_ble_eq_true rfl) (by rfl) ?_
      rw [show σ.2 10 = Int32.ofNat 60 from (u_self _).symm.trans (by rw [e2])]
      refine wa_bipush (pc := 20) (y := mX6_append) (Int32.ofNat 60) dX6_append_20 rfl ?_
      refine wa_icmp_ne (pc := 22) 29 dX6_append_22 rfl (fun hb22 => absurd rfl hb22) (fun hb22 => ?_)
      refine wa_iconst (pc := 25) (y := mX6_append) (Int32.ofNat 2) dX6_append_25 rfl ?_
      refine wa_goto (pc := 26) (y := mX6_append) 30 dX6_append_26 rfl ?_
      refine wa_putf (pc := 30) (y := mX6_append) (k := 5) 7 .int dX6_append_30 mH_o rfl q2650 (Or.inl rfl) (Nat.le_of_ble_eq_true rfl) rfl (by decide +kernel) rfl rfl ?_
      rw [mW_o7]
      first | refine wa_aload_n (pc := 33) (y := mX6_append) dX6_append_33 rfl ?_ | refine wa_aload_nN (pc := 33) (y := mX6_append) dX6_append_33 rfl ?_ | refine wa_aload_nq (pc := 33) (y := mX6_append) dX6_append_33 rfl ?_
      refine wa_getf (pc := 34) (y := mX6_append) (k := 5) 7 dX6_append_34 mH_o rfl q2650 (Or.inl rfl) (Nat.le_of_ble_eq_true rfl) (by rfl) ?_
      show WA _ _ _ _ _ (.int (Int32.ofNat 2) :: _) _ _
      refine wa_if_le (pc := 37) 42 dX6_append_37 rfl (fun hb37 => absurd hb37 (by decide)) (fun hb37 => ?_)
      clear hb37
      refine wa_iconst (pc := 40) (y := mX6_append) (Int32.ofNat 0) dX6_append_40 rfl ?_
      exact wa_ireturn (pc := 41) (y := mX6_append) .int dX6_append_41 rfl rfl ⟨rfl, rfl⟩
    · have hc9 : u c < 65536 := by
        unfold inb at e
        rw [Bool.and_eq_true, decide_eq_true_eq, decide_eq_true_eq] at e
        have h0 : (0 : Int32) ≤ c := Int32.le_trans (by decide) e.1
        have h1 := Int32.le_iff_toInt_le.mp e.2
        rw [toInt_nn h0, show (126 : Int32).toInt = 126 from by decide] at h1
        omega
      have hnar : narrow .char (.int c) = .int c := by
        have := nar_char hc9
        rw [u_self] at this
        exact this
      rw [show O_append f σ c = _ from (if_neg (by rw [e]; decide)).trans (if_neg e2)]
      have e3 : σ.2 10 = Int32.ofNat (u (σ.2 10)) := (u_self _).symm
      generalize u (σ.2 10) = l at e2 hL e3 ⊢
      dsimp only
      first | refine wa_aload_n (pc := 0) (y := mX6_append) dX6_append_0 rfl ?_ | refine wa_aload_nN (pc := 0) (y := mX6_append) dX6_append_0 rfl ?_ | refine wa_aload_nq (pc := 0) (y := mX6_append) dX6_append_0 rfl ?_
      refine wa_iload_n (pc := 1) (y := mX6_append) dX6_append_1 rfl ?_
      refine wa_bipush (pc := 2) (y := mX6_append) (Int32.ofNat 32) dX6_append_2 rfl ?_
      refine wa_bipush (pc := 4) (y := mX6_append) (Int32.ofNat 126) dX6_append_4 rfl ?_
      refine wa_callS (pc := 6) (s_X6_in (d := d - 1)) dX6_append_6 okX6_in q2716 q2717 rfl rfl (Nat.le_of_ble_eq_true rfl) (Nat.le_of_ble_eq_true rfl) (by omega) ?_
      rintro _ _ - - ⟨rfl, rfl⟩
      refine aft_v (pc2 := 9) ?_ rfl
      rw [show inb c (Int32.ofNat 32) (Int32.ofNat 126) = true from e]
      refine wa_if_ne (pc := 9) 16 dX6_append_9 rfl (fun hb9 => ?_) (fun hb9 => absurd hb9 (by decide))
      first | refine wa_aload_n (pc := 16) (y := mX6_append) dX6_append_16 rfl ?_ | refine wa_aload_nN (pc := 16) (y := mX6_append) dX6_append_16 rfl ?_ | refine wa_aload_nq (pc := 16) (y := mX6_append) dX6_append_16 rfl ?_
      refine wa_getf (pc := 17) (y := mX6_append) (k := 5) 10 dX6_append_17 mH_o rfl q2653 (Or.inl rfl) (Nat.le_of_ble_eq_true rfl) (by rfl) ?_
      rw [e3]
      refine wa_bipush (pc := 20) (y := mX6_append) (Int32.ofNat 60) dX6_append_20 rfl ?_
      refine wa_icmp_ne (pc := 22) 29 dX6_append_22 rfl (fun hb22 => ?_) (fun hb22 => absurd ((iN_eq (by omega) (by omega)).mp hb22) e2)
      refine wa_iconst (pc := 29) (y := mX6_append) (Int32.ofNat 0) dX6_append_29 rfl ?_
      refine wa_putf (pc := 30) (y := mX6_append) (k := 5) 7 .int dX6_append_30 mH_o rfl q2650 (Or.inl rfl) (Nat.le_of_ble_eq_true rfl) rfl (by decide +kernel) rfl rfl ?_
      rw [mW_o7]
      first | refine wa_aload_n (pc := 33) (y := mX6_append) dX6_append_33 rfl ?_ | refine wa_aload_nN (pc := 33) (y := mX6_append) dX6_append_33 rfl ?_ | refine wa_aload_nq (pc := 33) (y := mX6_append) dX6_append_33 rfl ?_
      refine wa_getf (pc := 34) (y := mX6_append) (k := 5) 7 dX6_append_34 mH_o rfl q2650 (Or.inl rfl) (Nat.le_of_ble_eq_true rfl) (by rfl) ?_
      show WA _ _ _ _ _ (.int (Int32.ofNat 0) :: _) _ _
      refine wa_if_le (pc := 37) 42 dX6_append_37 rfl (fun hb37 => ?_) (fun hb37 => absurd hb37 (by decide))
      clear hb37
      first | refine wa_aload_n (pc := 42) (y := mX6_append) dX6_append_42 rfl ?_ | refine wa_aload_nN (pc := 42) (y := mX6_append) dX6_append_42 rfl ?_ | refine wa_aload_nq (pc := 42) (y := mX6_append) dX6_append_42 rfl ?_
      refine wa_getf (pc := 43) (y := mX6_append) (k := 5) 9 dX6_append_43 mH_o rfl q2652 (Or.inl rfl) (Nat.le_of_ble_eq_true rfl) (by rfl) ?_
      first | refine wa_aload_n (pc := 46) (y := mX6_append) dX6_append_46 rfl ?_ | refine wa_aload_nN (pc := 46) (y := mX6_append) dX6_append_46 rfl ?_ | refine wa_aload_nq (pc := 46) (y := mX6_append) dX6_append_46 rfl ?_
      refine wa_getf (pc := 47) (y := mX6_append) (k := 5) 10 dX6_append_47 mH_o rfl q2653 (Or.inl rfl) (Nat.le_of_ble_eq_true rfl) (by rfl) ?_
      rw [show (mV σ 7 (Int32.ofNat 0)).2 10 = Int32.ofNat l from e3]
      refine wa_iload_n (pc := 50) (y := mX6_append) dX6_append_50 rfl ?_
      refine wa_castoreN (pc := 51) (y := mX6_append) dX6_append_51 mH_6 (by omega) hnar ?_
      rw [mW_6]
      first | refine wa_aload_n (pc := 52) (y := mX6_append) dX6_append_52 rfl ?_ | refine wa_aload_nN (pc := 52) (y := mX6_append) dX6_append_52 rfl ?_ | refine wa_aload_nq (pc := 52) (y := mX6_append) dX6_append_52 rfl ?_
      refine wa_dup (pc := 53) (y := mX6_append) dX6_append_53 rfl ?_
      refine wa_getf (pc := 54) (y := mX6_append) (k := 5) 10 dX6_append_54 mH_o rfl q2653 (Or.inl rfl) (Nat.le_of_ble_eq_true rfl) (by rfl) ?_
      rw [show ∀ g, (mA (mV σ 7 (Int32.ofNat 0)) 9 g).2 10 = Int32.ofNat l from fun _ => e3]
      refine wa_iconst (pc := 57) (y := mX6_append) (Int32.ofNat 1) dX6_append_57 rfl ?_
      first | with_reducible refine wa_iaddN (pc := 58) (y := mX6_append) dX6_append_58 ?_ | refine wa_iadd (pc := 58) (y := mX6_append) dX6_append_58 ?_
      refine wa_putf (pc := 59) (y := mX6_append) (k := 5) 10 .int dX6_append_59 mH_o rfl q2653 (Or.inl rfl) (Nat.le_of_ble_eq_true rfl) rfl (by decide +kernel) rfl rfl ?_
      rw [mW_o10]
      first | refine wa_aload_n (pc := 62) (y := mX6_append) dX6_append_62 rfl ?_ | refine wa_aload_nN (pc := 62) (y := mX6_append) dX6_append_62 rfl ?_ | refine wa_aload_nq (pc := 62) (y := mX6_append) dX6_append_62 rfl ?_
      refine wa_getf (pc := 63) (y := mX6_append) (k := 5) 10 dX6_append_63 mH_o rfl q2653 (Or.inl rfl) (Nat.le_of_ble_eq_true rfl) (by rfl) ?_
      exact wa_ireturn (pc := 66) (y := mX6_append) .int dX6_append_66 rfl rfl ⟨rfl, rfl⟩
theorem s_X6_isTold {e : Nat} (hd : 3 ≤ d) (hI : Inv f) (he : e < 60) : MA G d mX6_isTold [.ref m, .int (Int32.ofNat e)] (mH h m f σ) (fun r h' => r = .inl (some (.int (bI (tldB f (σ.1 15) e)))) ∧ h' = mH h m f σ) := by
  show WA _ _ _ 0 [.ref m, .int _] [] _ _
  first | refine wa_aload_n (pc := 0) (y := mX6_isTold) dX6_isTold_0 rfl ?_ | refine wa_aload_nN (pc := 0) (y := mX6_isTold) dX6_isTold_0 rfl ?_ | refine wa_aload_nq (pc := 0) (y := mX6_isTold) dX6_isTold_0 rfl ?_
  first | refine wa_aload_n (pc := 1) (y := mX6_isTold) dX6_isTold_1 rfl ?_ | refine wa_aload_nN (pc := 1) (y := mX6_isTold) dX6_isTold_1 rfl ?_ | refine wa_aload_nq (pc := 1) (y := mX6_isTold) dX6_isTold_1 rfl ?_
  refine wa_getf (pc := 2) (y := mX6_isTold) (k := 5) 15 dX6_isTold_2 mH_o rfl q2658 (Or.inl rfl) (Nat.le_of_ble_eq_true rfl) (by rfl) ?_
  refine wa_iconst (pc := 5) (y := mX6_isTold) (Int32.ofNat 3) dX6_isTold_5 rfl ?_
  refine wa_iload_n (pc := 6) (y := mX6_isTold) dX6_isTold_6 rfl ?_
  first | with_reducible refine wa_imulN (pc := 7) (y := mX6_isTold) dX6_isTold_7 ?_ | refine wa_imul (pc := 7) (y := mX6_isTold) dX6_isTold_7 ?_
  refine wa_ialoadN (pc := 8) (y := mX6_isTold) dX6_isTold_8 mH_8 (by omega) ?_
  refine wa_callV (pc := 9) (s_X6_isCue (d := d - 1) (by omega) hI) dX6_isTold_9 okX6_isCue q2719 q2721 qs41 mH_o rfl rfl rfl (Nat.le_of_ble_eq_true rfl) (Nat.le_of_ble_eq_true rfl) (by omega) ?_
  rintro _ _ - - ⟨rfl, rfl⟩
  refine aft_v (pc2 := 12) ?_ rfl
  refine wa_if_eq (pc := 12) 35 dX6_isTold_12 rfl (fun hb12 => ?_) (fun hb12 => ?_)
  · have e9 : tldB f (σ.1 15) e = false := by unfold tldB; rw [show isC f (σ.1 15 (3 * e)) = false from bI_0.mp hb12]; rfl
    refine wa_iconst (pc := 35) (y := mX6_isTold) (Int32.ofNat 0) dX6_isTold_35 rfl ?_
    exact wa_ireturn (pc := 36) (y := mX6_isTold) .boolean dX6_isTold_36 rfl rfl ⟨by rw [e9]; rfl, rfl⟩
  · first | refine wa_aload_n (pc := 15) (y := mX6_isTold) dX6_isTold_15 rfl ?_ | refine wa_aload_nN (pc := 15) (y := mX6_isTold) dX6_isTold_15 rfl ?_ | refine wa_aload_nq (pc := 15) (y := mX6_isTold) dX6_isTold_15 rfl ?_
    refine wa_getf (pc := 16) (y := mX6_isTold) (k := 5) 15 dX6_isTold_16 mH_o rfl q2658 (Or.inl rfl) (Nat.le_of_ble_eq_true rfl) (by rfl) ?_
    refine wa_iconst (pc := 19) (y := mX6_isTold) (Int32.ofNat 3) dX6_isTold_19 rfl ?_
    refine wa_iload_n (pc := 20) (y := mX6_isTold) dX6_isTold_20 rfl ?_
    first | with_reducible refine wa_imulN (pc := 21) (y := mX6_isTold) dX6_isTold_21 ?_ | refine wa_imul (pc := 21) (y := mX6_isTold) dX6_isTold_21 ?_
    refine wa_iconst (pc := 22) (y := mX6_isTold) (Int32.ofNat 1) dX6_isTold_22 rfl ?_
    first | with_reducible refine wa_iaddN (pc := 23) (y := mX6_isTold) dX6_isTold_23 ?_ | refine wa_iadd (pc := 23) (y := mX6_isTold) dX6_isTold_23 ?_
    refine wa_ialoadN (pc := 24) (y := mX6_isTold) dX6_isTold_24 mH_8 (by omega) ?_
    refine wa_callS (pc := 25) (s_X6_isChannel (d := d - 1) (by omega)) dX6_isTold_25 okX6_isChannel q2810 q2811 rfl rfl (Nat.le_of_ble_eq_true rfl) (Nat.le_of_ble_eq_true rfl) (by omega) ?_
    rintro _ _ - - ⟨rfl, rfl⟩
    refine aft_v (pc2 := 28) ?_ rfl
    rw [inb11]
    refine wa_if_eq (pc := 28) 35 dX6_isTold_28 rfl (fun hb28 => ?_) (fun hb28 => ?_)
    · have e9 : tldB f (σ.1 15) e = false := by unfold tldB; rw [bI_0.mp hb28, Bool.and_false]
      refine wa_iconst (pc := 35) (y := mX6_isTold) (Int32.ofNat 0) dX6_isTold_35 rfl ?_
      exact wa_ireturn (pc := 36) (y := mX6_isTold) .boolean dX6_isTold_36 rfl rfl ⟨by rw [e9]; rfl, rfl⟩
    · have e9 : tldB f (σ.1 15) e = true := by unfold tldB; rw [bI_n0 hb28, bI_n0 hb12]; rfl
      refine wa_iconst (pc := 31) (y := mX6_isTold) (Int32.ofNat 1) dX6_isTold_31 rfl ?_
      refine wa_goto (pc := 32) (y := mX6_isTold) 36 dX6_isTold_32 rfl ?_
      exact wa_ireturn (pc := 36) (y := mX6_isTold) .boolean dX6_isTold_36 rfl rfl ⟨by rw [e9]; rfl, rfl⟩
theorem tld_no {N : Nat → Int32} {e : Nat} (h : pl f (N (3 * e)) = none) : tldB f N e = false := by unfold tldB; rw [isC_none h]; rfl
theorem tld_is {N : Nat → Int32} {e p : Nat} (h : pl f (N (3 * e)) = some p) : tldB f N e = decide (u (N (3 * e + 1)) < 12) := by unfold tldB; rw [isC_some h]; rfl
theorem s_X6_fails {e : Nat} (hd : 6 ≤ d) (hI : Inv f) (he : e < 60) (hk : sgB (σ.1 14 e) = true) : MA G d mX6_fails [.ref m, .int (Int32.ofNat e)] (mH h m f σ) (fun r h' => r = .inl (some (.int (bI (flE f σ (σ.1 14 e) (σ.1 15 (3 * e)) (σ.1 15 (3 * e + 1)) (σ.1 15 (3 * e + 2))).1))) ∧ h' = mH h m (flE f σ (σ.1 14 e) (σ.1 15 (3 * e)) (σ.1 15 (3 * e + 1)) (σ.1 15 (3 * e + 2))).2.1 (flE f σ (σ.1 14 e) (σ.1 15 (3 * e)) (σ.1 15 (3 * e + 1)) (σ.1 15 (3 * e + 2))).2.2) := by
  show WA _ _ _ 0 [.ref m, .int _, .retAddr 0, .retAddr 0, .retAddr 0] [] _ _
  have upto : ∀ k Q, σ.1 14 e = k → WA G d mX6_fails 26 [.ref m, .int (Int32.ofNat e), .int (σ.1 15 (3 * e)), .int (σ.1 15 (3 * e + 1)), .retAddr 0] [.int k] (mH h m f σ) Q → WA G d mX6_fails 0 [.ref m, .int (Int32.ofNat e), .retAddr 0, .retAddr 0, .retAddr 0] [] (mH h m f σ) Q := by
    intro k Q hk K
    first | refine wa_aload_n (pc := 0) (y := mX6_fails) dX6_fails_0 rfl ?_ | refine wa_aload_nN (pc := 0) (y := mX6_fails) dX6_fails_0 rfl ?_ | refine wa_aload_nq (pc := 0) (y := mX6_fails) dX6_fails_0 rfl ?_
    refine wa_getf (pc := 1) (y := mX6_fails) (k := 5) 15 dX6_fails_1 mH_o rfl q2658 (Or.inl rfl) (Nat.le_of_ble_eq_true rfl) (by rfl) ?_
    refine wa_iconst (pc := 4) (y := mX6_fails) (Int32.ofNat 3) dX6_fails_4 rfl ?_
    refine wa_iload_n (pc := 5) (y := mX6_fails) dX6_fails_5 rfl ?_
    first | with_reducible refine wa_imulN (pc := 6) (y := mX6_fails) dX6_fails_6 ?_ | refine wa_imul (pc := 6) (y := mX6_fails) dX6_fails_6 ?_
    refine wa_ialoadN (pc := 7) (y := mX6_fails) dX6_fails_7 mH_8 (by omega) ?_
    refine wa_istore_n (pc := 8) (y := mX6_fails) dX6_fails_8 (Nat.le_of_ble_eq_true rfl) rfl ?_
    change WA _ _ _ _ (List.set _ 2 _) _ _ _
    simp only [List.set_cons_zero, List.set_cons_succ]
    first | refine wa_aload_n (pc := 9) (y := mX6_fails) dX6_fails_9 rfl ?_ | refine wa_aload_nN (pc := 9) (y := mX6_fails) dX6_fails_9 rfl ?_ | refine wa_aload_nq (pc := 9) (y := mX6_fails) dX6_fails_9 rfl ?_
    refine wa_getf (pc := 10) (y := mX6_fails) (k := 5) 15 dX6_fails_10 mH_o rfl q2658 (Or.inl rfl) (Nat.le_of_ble_eq_true rfl) (by rfl) ?_
    refine wa_iconst (pc := 13) (y := mX6_fails) (Int32.ofNat 3) dX6_fails_13 rfl ?_
    refine wa_iload_n (pc := 14) (y := mX6_fails) dX6_fails_14 rfl ?_
    first | with_reducible refine wa_imulN (pc := 15) (y := mX6_fails) dX6_fails_15 ?_ | refine wa_imul (pc := 15) (y := mX6_fails) dX6_fails_15 ?_
    refine wa_iconst (pc := 16) (y := mX6_fails) (Int32.ofNat 1) dX6_fails_16 rfl ?_
    first | with_reducible refine wa_iaddN (pc := 17) (y := mX6_fails) dX6_fails_17 ?_ | refine wa_iadd (pc := 17) (y := mX6_fails) dX6_fails_17 ?_
    refine wa_ialoadN (pc := 18) (y := mX6_fails) dX6_fails_18 mH_8 (by omega) ?_
    refine wa_istore_n (pc := 19) (y := mX6_fails) dX6_fails_19 (Nat.le_of_ble_eq_true rfl) rfl ?_
    change WA _ _ _ _ (List.set _ 3 _) _ _ _
    simp only [List.set_cons_zero, List.set_cons_succ]
    first | refine wa_aload_n (pc := 20) (y := mX6_fails) dX6_fails_20 rfl ?_ | refine wa_aload_nN (pc := 20) (y := mX6_fails) dX6_fails_20 rfl ?_ | refine wa_aload_nq (pc := 20) (y := mX6_fails) dX6_fails_20 rfl ?_
    refine wa_getf (pc := 21) (y := mX6_fails) (k := 5) 14 dX6_fails_21 mH_o rfl q2657 (Or.inl rfl) (Nat.le_of_ble_eq_true rfl) (by rfl) ?_
    refine wa_iload_n (pc := 24) (y := mX6_fails) dX6_fails_24 rfl ?_
    refine wa_caloadN (pc := 25) (y := mX6_fails) dX6_fails_25 mH_7 (by omega) ?_
    rw [hk]
    exact K
  have told := @s_X6_isTold G (d - 1) h m f σ e (by omega) hI he
  unfold sgB at hk
  simp only [Bool.or_eq_true, decide_eq_true_eq] at hk
  generalize ea : σ.1 15 (3 * e) = a at upto ⊢
  generalize eb : σ.1 15 (3 * e + 1) = b at upto ⊢
  rcases hk with (((((hk | hk) | hk) | hk) | hk) | hk) | hk
  · rw [hk]
    refine upto (Int32.ofNat 99) _ hk ?_
    rw [show flE f σ 99 a b (σ.1 15 (3 * e + 2)) = (decide (0 < (dA f a).1), (dA f a).2, σ) from if_pos rfl]
    have hle := dA_le (f := f) (n := a)
    refine wa_lookup (pc := 26) (y := mX6_fails) 84 dX6_fails_26 (by decide) rfl rfl ?_
    first | refine wa_aload_n (pc := 84) (y := mX6_fails) dX6_fails_84 rfl ?_ | refine wa_aload_nN (pc := 84) (y := mX6_fails) dX6_fails_84 rfl ?_ | refine wa_aload_nq (pc := 84) (y := mX6_fails) dX6_fails_84 rfl ?_
    refine wa_iload_n (pc := 85) (y := mX6_fails) dX6_fails_85 rfl ?_
    refine wa_callV (pc := 86) (s_X6_doAdd (d := d - 1) (by omega) hI) dX6_fails_86 okX6_doAdd q2712 q2714 qs40 mH_o rfl rfl rfl (Nat.le_of_ble_eq_true rfl) (Nat.le_of_ble_eq_true rfl) (by omega) ?_
    rintro _ _ - - ⟨rfl, rfl⟩
    refine aft_v (pc2 := 89) ?_ rfl
    refine wa_if_le (pc := 89) 96 dX6_fails_89 rfl (fun hb89 => ?_) (fun hb89 => ?_)
    · have e9 : decide (0 < (dA f a).1) = false := decide_eq_false (by have := (iN_pos (by omega)).mp hb89; omega)
      refine wa_iconst (pc := 96) (y := mX6_fails) (Int32.ofNat 0) dX6_fails_96 rfl ?_
      exact wa_ireturn (pc := 97) (y := mX6_fails) .boolean dX6_fails_97 rfl rfl ⟨by rw [e9]; rfl, rfl⟩
    · have e9 : decide (0 < (dA f a).1) = true := decide_eq_true (Nat.pos_of_ne_zero fun q => hb89 ((iN_pos (by omega)).mpr q))
      refine wa_iconst (pc := 92) (y := mX6_fails) (Int32.ofNat 1) dX6_fails_92 rfl ?_
      refine wa_goto (pc := 93) (y := mX6_fails) 97 dX6_fails_93 rfl ?_
      exact wa_ireturn (pc := 97) (y := mX6_fails) .boolean dX6_fails_97 rfl rfl ⟨by rw [e9]; rfl, rfl⟩
  · rw [hk]
    refine upto (Int32.ofNat 120) _ hk ?_
    rw [show flE f σ 120 a b (σ.1 15 (3 * e + 2)) = (decide (0 < (dRm f σ a false).1), (dRm f σ a false).2.1, (dRm f σ a false).2.2) from (if_neg (by decide)).trans (if_pos rfl)]
    have hle := dRm_le (f := f) (σ := σ) (cue := a) (b := false)
    refine wa_lookup (pc := 26) (y := mX6_fails) 98 dX6_fails_26 (by decide) rfl rfl ?_
    first | refine wa_aload_n (pc := 98) (y := mX6_fails) dX6_fails_98 rfl ?_ | refine wa_aload_nN (pc := 98) (y := mX6_fails) dX6_fails_98 rfl ?_ | refine wa_aload_nq (pc := 98) (y := mX6_fails) dX6_fails_98 rfl ?_
    refine wa_iload_n (pc := 99) (y := mX6_fails) dX6_fails_99 rfl ?_
    refine wa_iconst (pc := 100) (y := mX6_fails) (Int32.ofNat 0) dX6_fails_100 rfl ?_
    refine wa_callV (pc := 101) (s_X6_doRemove (b := false) (d := d - 1) (by omega) hI) dX6_fails_101 okX6_doRemove q2865 q2867 qs63 mH_o rfl rfl rfl (Nat.le_of_ble_eq_true rfl) (Nat.le_of_ble_eq_true rfl) (by omega) ?_
    rintro _ _ - - ⟨rfl, rfl⟩
    refine aft_v (pc2 := 104) ?_ rfl
    refine wa_if_le (pc := 104) 111 dX6_fails_104 rfl (fun hb104 => ?_) (fun hb104 => ?_)
    · have e9 : decide (0 < (dRm f σ a false).1) = false := decide_eq_false (by have := (iN_pos (by omega)).mp hb104; omega)
      refine wa_iconst (pc := 111) (y := mX6_fails) (Int32.ofNat 0) dX6_fails_111 rfl ?_
      exact wa_ireturn (pc := 112) (y := mX6_fails) .boolean dX6_fails_112 rfl rfl ⟨by rw [e9]; rfl, rfl⟩
    · have e9 : decide (0 < (dRm f σ a false).1) = true := decide_eq_true (Nat.pos_of_ne_zero fun q => hb104 ((iN_pos (by omega)).mpr q))
      refine wa_iconst (pc := 107) (y := mX6_fails) (Int32.ofNat 1) dX6_fails_107 rfl ?_
      refine wa_goto (pc := 108) (y := mX6_fails) 112 dX6_fails_108 rfl ?_
      exact wa_ireturn (pc := 112) (y := mX6_fails) .boolean dX6_fails_112 rfl rfl ⟨by rw [e9]; rfl, rfl⟩
  · rw [hk]
    refine upto (Int32.ofNat 115) _ hk ?_
    generalize el : σ.1 15 (3 * e + 2) = lv
    cases hp : pl f a with
    | none =>
      rw [show flE f σ 115 a b lv = (true, f, σ) from (if_neg (by decide)).trans ((if_neg (by decide)).trans ((if_pos rfl).trans (by rw [hp])))]
      rw [tld_no (by rw [ea]; exact hp)] at told
      refine wa_lookup (pc := 26) (y := mX6_fails) 113 dX6_fails_26 (by decide) rfl rfl ?_
      first | refine wa_aload_n (pc := 113) (y := mX6_fails) dX6_fails_113 rfl ?_ | refine wa_aload_nN (pc := 113) (y := mX6_fails) dX6_fails_113 rfl ?_ | refine wa_aload_nq (pc := 113) (y := mX6_fails) dX6_fails_113 rfl ?_
      refine wa_getf (pc := 114) (y := mX6_fails) (k := 5) 15 dX6_fails_114 mH_o rfl q2658 (Or.inl rfl) (Nat.le_of_ble_eq_true rfl) (by rfl) ?_
      refine wa_iconst (pc := 117) (y := mX6_fails) (Int32.ofNat 3) dX6_fails_117 rfl ?_
      refine wa_iload_n (pc := 118) (y := mX6_fails) dX6_fails_118 rfl ?_
      first | with_reducible refine wa_imulN (pc := 119) (y := mX6_fails) dX6_fails_119 ?_ | refine wa_imul (pc := 119) (y := mX6_fails) dX6_fails_119 ?_
      refine wa_iconst (pc := 120) (y := mX6_fails) (Int32.ofNat 2) dX6_fails_120 rfl ?_
      first | with_reducible refine wa_iaddN (pc := 121) (y := mX6_fails) dX6_fails_121 ?_ | refine wa_iadd (pc := 121) (y := mX6_fails) dX6_fails_121 ?_
      refine wa_ialoadN (pc := 122) (y := mX6_fails) dX6_fails_122 mH_8 (by omega) ?_
      rw [el]
      refine wa_istore (pc := 123) (y := mX6_fails) dX6_fails_123 (Nat.le_of_ble_eq_true rfl) rfl ?_
      simp only [List.set_cons_zero, List.set_cons_succ]
      first | refine wa_aload_n (pc := 125) (y := mX6_fails) dX6_fails_125 rfl ?_ | refine wa_aload_nN (pc := 125) (y := mX6_fails) dX6_fails_125 rfl ?_ | refine wa_aload_nq (pc := 125) (y := mX6_fails) dX6_fails_125 rfl ?_
      refine wa_iload_n (pc := 126) (y := mX6_fails) dX6_fails_126 rfl ?_
      refine wa_callV (pc := 127) told dX6_fails_127 okX6_isTold q3068 q3070 qs82 mH_o rfl rfl rfl (Nat.le_of_ble_eq_true rfl) (Nat.le_of_ble_eq_true rfl) (by omega) ?_
      rintro _ _ - - ⟨rfl, rfl⟩
      refine aft_v (pc2 := 130) ?_ rfl
      refine wa_if_eq (pc := 130) 153 dX6_fails_130 rfl (fun hb130 => ?_) (fun hb130 => absurd rfl hb130)
      refine wa_iconst (pc := 153) (y := mX6_fails) (Int32.ofNat 1) dX6_fails_153 rfl ?_
      refine wa_goto (pc := 154) (y := mX6_fails) 158 dX6_fails_154 rfl ?_
      exact wa_ireturn (pc := 158) (y := mX6_fails) .boolean dX6_fails_158 rfl rfl ⟨rfl, rfl⟩
    | some p =>
      rw [tld_is (by rw [ea]; exact hp), eb] at told
      by_cases e1 : u b < 12
      · rw [decide_eq_true e1] at told
        by_cases e2 : 100 < lv
        · rw [show flE f σ 115 a b lv = (true, f, σ) from (if_neg (by decide)).trans ((if_neg (by decide)).trans ((if_pos rfl).trans (by rw [hp]; exact (if_neg (fun x => x e1)).trans (if_pos e2))))]
          refine wa_lookup (pc := 26) (y := mX6_fails) 113 dX6_fails_26 (by decide) rfl rfl ?_
          first | refine wa_aload_n (pc := 113) (y := mX6_fails) dX6_fails_113 rfl ?_ | refine wa_aload_nN (pc := 113) (y := mX6_fails) dX6_fails_113 rfl ?_ | refine wa_aload_nq (pc := 113) (y := mX6_fails) dX6_fails_113 rfl ?_
          refine wa_getf (pc := 114) (y := mX6_fails) (k := 5) 15 dX6_fails_114 mH_o rfl q2658 (Or.inl rfl) (Nat.le_of_ble_eq_true rfl) (by rfl) ?_
          refine wa_iconst (pc := 117) (y := mX6_fails) (Int32.ofNat 3) dX6_fails_117 rfl ?_
          refine wa_iload_n (pc := 118) (y := mX6_fails) dX6_fails_118 rfl ?_
          first | with_reducible refine wa_imulN (pc := 119) (y := mX6_fails) dX6_fails_119 ?_ | refine wa_imul (pc := 119) (y := mX6_fails) dX6_fails_119 ?_
          refine wa_iconst (pc := 120) (y := mX6_fails) (Int32.ofNat 2) dX6_fails_120 rfl ?_
          first | with_reducible refine wa_iaddN (pc := 121) (y := mX6_fails) dX6_fails_121 ?_ | refine wa_iadd (pc := 121) (y := mX6_fails) dX6_fails_121 ?_
          refine wa_ialoadN (pc := 122) (y := mX6_fails) dX6_fails_122 mH_8 (by omega) ?_
          rw [el]
          refine wa_istore (pc := 123) (y := mX6_fails) dX6_fails_123 (Nat.le_of_ble_eq_true rfl) rfl ?_
          simp only [List.set_cons_zero, List.set_cons_succ]
          first | refine wa_aload_n (pc := 125) (y := mX6_fails) dX6_fails_125 rfl ?_ | refine wa_aload_nN (pc := 125) (y := mX6_fails) dX6_fails_125 rfl ?_ | refine wa_aload_nq (pc := 125) (y := mX6_fails) dX6_fails_125 rfl ?_
          refine wa_iload_n (pc := 126) (y := mX6_fails) dX6_fails_126 rfl ?_
          refine wa_callV (pc := 127) told dX6_fails_127 okX6_isTold q3068 q3070 qs82 mH_o rfl rfl rfl (Nat.le_of_ble_eq_true rfl) (Nat.le_of_ble_eq_true rfl) (by omega) ?_
          rintro _ _ - - ⟨rfl, rfl⟩
          refine aft_v (pc2 := 130) ?_ rfl
          refine wa_if_eq (pc := 130) 153 dX6_fails_130 rfl (fun hb130 => absurd hb130 (by decide)) (fun hb130 => ?_)
          refine wa_iload (pc := 133) (y := mX6_fails) dX6_fails_133 rfl ?_
          refine wa_bipush (pc := 135) (y := mX6_fails) (Int32.ofNat 100) dX6_fails_135 rfl ?_
          refine wa_icmp_gt (pc := 137) 153 dX6_fails_137 rfl (fun hb137 => ?_) (fun hb137 => absurd e2 hb137)
          refine wa_iconst (pc := 153) (y := mX6_fails) (Int32.ofNat 1) dX6_fails_153 rfl ?_
          refine wa_goto (pc := 154) (y := mX6_fails) 158 dX6_fails_154 rfl ?_
          exact wa_ireturn (pc := 158) (y := mX6_fails) .boolean dX6_fails_158 rfl rfl ⟨rfl, rfl⟩
        · rw [show flE f σ 115 a b lv = (decide (0 < (dGi f σ a p (u b) lv 0 false).1), (dGi f σ a p (u b) lv 0 false).2.1, (dGi f σ a p (u b) lv 0 false).2.2) from (if_neg (by decide)).trans ((if_neg (by decide)).trans ((if_pos rfl).trans (by rw [hp]; exact (if_neg (fun x => x e1)).trans (if_neg e2))))]
          have hle := dGi_le (f := f) (σ := σ) (cue := a) (p := p) (c := u b) (lev := lv) (part := 0) (b := false)
          have giv := @s_X6_doGive G (d - 1) h m f σ a lv 0 p (u b) false (by omega) hI hp e1 (by decide)
          refine wa_lookup (pc := 26) (y := mX6_fails) 113 dX6_fails_26 (by decide) rfl rfl ?_
          first | refine wa_aload_n (pc := 113) (y := mX6_fails) dX6_fails_113 rfl ?_ | refine wa_aload_nN (pc := 113) (y := mX6_fails) dX6_fails_113 rfl ?_ | refine wa_aload_nq (pc := 113) (y := mX6_fails) dX6_fails_113 rfl ?_
          refine wa_getf (pc := 114) (y := mX6_fails) (k := 5) 15 dX6_fails_114 mH_o rfl q2658 (Or.inl rfl) (Nat.le_of_ble_eq_true rfl) (by rfl) ?_
          refine wa_iconst (pc := 117) (y := mX6_fails) (Int32.ofNat 3) dX6_fails_117 rfl ?_
          refine wa_iload_n (pc := 118) (y := mX6_fails) dX6_fails_118 rfl ?_
          first | with_reducible refine wa_imulN (pc := 119) (y := mX6_fails) dX6_fails_119 ?_ | refine wa_imul (pc := 119) (y := mX6_fails) dX6_fails_119 ?_
          refine wa_iconst (pc := 120) (y := mX6_fails) (Int32.ofNat 2) dX6_fails_120 rfl ?_
          first | with_reducible refine wa_iaddN (pc := 121) (y := mX6_fails) dX6_fails_121 ?_ | refine wa_iadd (pc := 121) (y := mX6_fails) dX6_fails_121 ?_
          refine wa_ialoadN (pc := 122) (y := mX6_fails) dX6_fails_122 mH_8 (by omega) ?_
          rw [el]
          refine wa_istore (pc := 123) (y := mX6_fails) dX6_fails_123 (Nat.le_of_ble_eq_true rfl) rfl ?_
          simp only [List.set_cons_zero, List.set_cons_succ]
          first | refine wa_aload_n (pc := 125) (y := mX6_fails) dX6_fails_125 rfl ?_ | refine wa_aload_nN (pc := 125) (y := mX6_fails) dX6_fails_125 rfl ?_ | refine wa_aload_nq (pc := 125) (y := mX6_fails) dX6_fails_125 rfl ?_
          refine wa_iload_n (pc := 126) (y := mX6_fails) dX6_fails_126 rfl ?_
          refine wa_callV (pc := 127) told dX6_fails_127 okX6_isTold q3068 q3070 qs82 mH_o rfl rfl rfl (Nat.le_of_ble_eq_true rfl) (Nat.le_of_ble_eq_true rfl) (by omega) ?_
          rintro _ _ - - ⟨rfl, rfl⟩
          refine aft_v (pc2 := 130) ?_ rfl
          refine wa_if_eq (pc := 130) 153 dX6_fails_130 rfl (fun hb130 => absurd hb130 (by decide)) (fun hb130 => ?_)
          refine wa_iload (pc := 133) (y := mX6_fails) dX6_fails_133 rfl ?_
          refine wa_bipush (pc := 135) (y := mX6_fails) (Int32.ofNat 100) dX6_fails_135 rfl ?_
          refine wa_icmp_gt (pc := 137) 153 dX6_fails_137 rfl (fun hb137 => absurd hb137 e2) (fun hb137 => ?_)
          first | refine wa_aload_n (pc := 140) (y := mX6_fails) dX6_fails_140 rfl ?_ | refine wa_aload_nN (pc := 140) (y := mX6_fails) dX6_fails_140 rfl ?_ | refine wa_aload_nq (pc := 140) (y := mX6_fails) dX6_fails_140 rfl ?_
          refine wa_iload_n (pc := 141) (y := mX6_fails) dX6_fails_141 rfl ?_
          refine wa_iload_n (pc := 142) (y := mX6_fails) dX6_fails_142 (x := Int32.ofNat (u b)) (by rw [u_self]; rfl) ?_
          refine wa_iload (pc := 143) (y := mX6_fails) dX6_fails_143 rfl ?_
          refine wa_iconst (pc := 145) (y := mX6_fails) (Int32.ofNat 0) dX6_fails_145 rfl ?_
          refine wa_iconst (pc := 146) (y := mX6_fails) (Int32.ofNat 0) dX6_fails_146 rfl ?_
          refine wa_callV (pc := 147) giv dX6_fails_147 okX6_doGive q2817 q2819 qs54 mH_o rfl rfl rfl (Nat.le_of_ble_eq_true rfl) (Nat.le_of_ble_eq_true rfl) (by omega) ?_
          rintro _ _ - - ⟨rfl, rfl⟩
          refine aft_v (pc2 := 150) ?_ rfl
          refine wa_if_le (pc := 150) 157 dX6_fails_150 rfl (fun hb150 => ?_) (fun hb150 => ?_)
          · have e9 : decide (0 < (dGi f σ a p (u b) lv 0 false).1) = false := decide_eq_false (by have := (iN_pos (by omega)).mp hb150; omega)
            refine wa_iconst (pc := 157) (y := mX6_fails) (Int32.ofNat 0) dX6_fails_157 rfl ?_
            exact wa_ireturn (pc := 158) (y := mX6_fails) .boolean dX6_fails_158 rfl rfl ⟨by rw [e9]; rfl, rfl⟩
          · have e9 : decide (0 < (dGi f σ a p (u b) lv 0 false).1) = true := decide_eq_true (Nat.pos_of_ne_zero fun q => hb150 ((iN_pos (by omega)).mpr q))
            refine wa_iconst (pc := 153) (y := mX6_fails) (Int32.ofNat 1) dX6_fails_153 rfl ?_
            refine wa_goto (pc := 154) (y := mX6_fails) 158 dX6_fails_154 rfl ?_
            exact wa_ireturn (pc := 158) (y := mX6_fails) .boolean dX6_fails_158 rfl rfl ⟨by rw [e9]; rfl, rfl⟩
      · rw [decide_eq_false e1] at told
        rw [show flE f σ 115 a b lv = (true, f, σ) from (if_neg (by decide)).trans ((if_neg (by decide)).trans ((if_pos rfl).trans (by rw [hp]; exact if_pos e1)))]
        refine wa_lookup (pc := 26) (y := mX6_fails) 113 dX6_fails_26 (by decide) rfl rfl ?_
        first | refine wa_aload_n (pc := 113) (y := mX6_fails) dX6_fails_113 rfl ?_ | refine wa_aload_nN (pc := 113) (y := mX6_fails) dX6_fails_113 rfl ?_ | refine wa_aload_nq (pc := 113) (y := mX6_fails) dX6_fails_113 rfl ?_
        refine wa_getf (pc := 114) (y := mX6_fails) (k := 5) 15 dX6_fails_114 mH_o rfl q2658 (Or.inl rfl) (Nat.le_of_ble_eq_true rfl) (by rfl) ?_
        refine wa_iconst (pc := 117) (y := mX6_fails) (Int32.ofNat 3) dX6_fails_117 rfl ?_
        refine wa_iload_n (pc := 118) (y := mX6_fails) dX6_fails_118 rfl ?_
        first | with_reducible refine wa_imulN (pc := 119) (y := mX6_fails) dX6_fails_119 ?_ | refine wa_imul (pc := 119) (y := mX6_fails) dX6_fails_119 ?_
        refine wa_iconst (pc := 120) (y := mX6_fails) (Int32.ofNat 2) dX6_fails_120 rfl ?_
        first | with_reducible refine wa_iaddN (pc := 121) (y := mX6_fails) dX6_fails_121 ?_ | refine wa_iadd (pc := 121) (y := mX6_fails) dX6_fails_121 ?_
        refine wa_ialoadN (pc := 122) (y := mX6_fails) dX6_fails_122 mH_8 (by omega) ?_
        rw [el]
        refine wa_istore (pc := 123) (y := mX6_fails) dX6_fails_123 (Nat.le_of_ble_eq_true rfl) rfl ?_
        simp only [List.set_cons_zero, List.set_cons_succ]
        first | refine wa_aload_n (pc := 125) (y := mX6_fails) dX6_fails_125 rfl ?_ | refine wa_aload_nN (pc := 125) (y := mX6_fails) dX6_fails_125 rfl ?_ | refine wa_aload_nq (pc := 125) (y := mX6_fails) dX6_fails_125 rfl ?_
        refine wa_iload_n (pc := 126) (y := mX6_fails) dX6_fails_126 rfl ?_
        refine wa_callV (pc := 127) told dX6_fails_127 okX6_isTold q3068 q3070 qs82 mH_o rfl rfl rfl (Nat.le_of_ble_eq_true rfl) (Nat.le_of_ble_eq_true rfl) (by omega) ?_
        rintro _ _ - - ⟨rfl, rfl⟩
        refine aft_v (pc2 := 130) ?_ rfl
        refine wa_if_eq (pc := 130) 153 dX6_fails_130 rfl (fun hb130 => ?_) (fun hb130 => absurd rfl hb130)
        refine wa_iconst (pc := 153) (y := mX6_fails) (Int32.ofNat 1) dX6_fails_153 rfl ?_
        refine wa_goto (pc := 154) (y := mX6_fails) 158 dX6_fails_154 rfl ?_
        exact wa_ireturn (pc := 158) (y := mX6_fails) .boolean dX6_fails_158 rfl rfl ⟨rfl, rfl⟩
  · rw [hk]
    refine upto (Int32.ofNat 114) _ hk ?_
    generalize σ.1 15 (3 * e + 2) = lv
    have f4 : ∀ x, (if (114 : Int32) = 99 then (decide (0 < (dA f a).1), (dA f a).2, σ) else if (114 : Int32) = 120 then (decide (0 < (dRm f σ a false).1), (dRm f σ a false).2.1, (dRm f σ a false).2.2) else if (114 : Int32) = 115 then (match pl f a with | none => (true, f, σ) | some p => if ¬ u b < 12 then (true, f, σ) else if 100 < lv then (true, f, σ) else (decide (0 < (dGi f σ a p (u b) lv 0 false).1), (dGi f σ a p (u b) lv 0 false).2.1, (dGi f σ a p (u b) lv 0 false).2.2)) else x) = x := fun x => (if_neg (by decide)).trans ((if_neg (by decide)).trans (if_neg (by decide)))
    cases hp : pl f a with
    | none =>
      rw [show flE f σ 114 a b lv = (true, f, σ) from (f4 _).trans ((if_pos rfl).trans (by rw [hp]))]
      rw [tld_no (by rw [ea]; exact hp)] at told
      refine wa_lookup (pc := 26) (y := mX6_fails) 159 dX6_fails_26 (by decide) rfl rfl ?_
      first | refine wa_aload_n (pc := 159) (y := mX6_fails) dX6_fails_159 rfl ?_ | refine wa_aload_nN (pc := 159) (y := mX6_fails) dX6_fails_159 rfl ?_ | refine wa_aload_nq (pc := 159) (y := mX6_fails) dX6_fails_159 rfl ?_
      refine wa_iload_n (pc := 160) (y := mX6_fails) dX6_fails_160 rfl ?_
      refine wa_callV (pc := 161) told dX6_fails_161 okX6_isTold q3068 q3070 qs82 mH_o rfl rfl rfl (Nat.le_of_ble_eq_true rfl) (Nat.le_of_ble_eq_true rfl) (by omega) ?_
      rintro _ _ - - ⟨rfl, rfl⟩
      refine aft_v (pc2 := 164) ?_ rfl
      refine wa_if_eq (pc := 164) 179 dX6_fails_164 rfl (fun hb164 => ?_) (fun hb164 => absurd rfl hb164)
      refine wa_iconst (pc := 179) (y := mX6_fails) (Int32.ofNat 1) dX6_fails_179 rfl ?_
      refine wa_goto (pc := 180) (y := mX6_fails) 184 dX6_fails_180 rfl ?_
      exact wa_ireturn (pc := 184) (y := mX6_fails) .boolean dX6_fails_184 rfl rfl ⟨rfl, rfl⟩
    | some p =>
      rw [tld_is (by rw [ea]; exact hp), eb] at told
      by_cases e1 : u b < 12
      · rw [decide_eq_true e1] at told
        rw [show flE f σ 114 a b lv = (decide (0 < (dGi f σ a p (u b) (-1) 0 false).1), (dGi f σ a p (u b) (-1) 0 false).2.1, (dGi f σ a p (u b) (-1) 0 false).2.2) from (f4 _).trans ((if_pos rfl).trans (by rw [hp]; exact if_neg (fun x => x e1)))]
        have hle := dGi_le (f := f) (σ := σ) (cue := a) (p := p) (c := u b) (lev := -1) (part := 0) (b := false)
        have giv := @s_X6_doGive G (d - 1) h m f σ a (-1) 0 p (u b) false (by omega) hI hp e1 (by decide)
        refine wa_lookup (pc := 26) (y := mX6_fails) 159 dX6_fails_26 (by decide) rfl rfl ?_
        first | refine wa_aload_n (pc := 159) (y := mX6_fails) dX6_fails_159 rfl ?_ | refine wa_aload_nN (pc := 159) (y := mX6_fails) dX6_fails_159 rfl ?_ | refine wa_aload_nq (pc := 159) (y := mX6_fails) dX6_fails_159 rfl ?_
        refine wa_iload_n (pc := 160) (y := mX6_fails) dX6_fails_160 rfl ?_
        refine wa_callV (pc := 161) told dX6_fails_161 okX6_isTold q3068 q3070 qs82 mH_o rfl rfl rfl (Nat.le_of_ble_eq_true rfl) (Nat.le_of_ble_eq_true rfl) (by omega) ?_
        rintro _ _ - - ⟨rfl, rfl⟩
        refine aft_v (pc2 := 164) ?_ rfl
        refine wa_if_eq (pc := 164) 179 dX6_fails_164 rfl (fun hb164 => absurd hb164 (by decide)) (fun hb164 => ?_)
        first | refine wa_aload_n (pc := 167) (y := mX6_fails) dX6_fails_167 rfl ?_ | refine wa_aload_nN (pc := 167) (y := mX6_fails) dX6_fails_167 rfl ?_ | refine wa_aload_nq (pc := 167) (y := mX6_fails) dX6_fails_167 rfl ?_
        refine wa_iload_n (pc := 168) (y := mX6_fails) dX6_fails_168 rfl ?_
        refine wa_iload_n (pc := 169) (y := mX6_fails) dX6_fails_169 (x := Int32.ofNat (u b)) (by rw [u_self]; rfl) ?_
        refine wa_iconst (pc := 170) (y := mX6_fails) (-1) dX6_fails_170 rfl ?_
        refine wa_iconst (pc := 171) (y := mX6_fails) (Int32.ofNat 0) dX6_fails_171 rfl ?_
        refine wa_iconst (pc := 172) (y := mX6_fails) (Int32.ofNat 0) dX6_fails_172 rfl ?_
        refine wa_callV (pc := 173) giv dX6_fails_173 okX6_doGive q2817 q2819 qs54 mH_o rfl rfl rfl (Nat.le_of_ble_eq_true rfl) (Nat.le_of_ble_eq_true rfl) (by omega) ?_
        rintro _ _ - - ⟨rfl, rfl⟩
        refine aft_v (pc2 := 176) ?_ rfl
        refine wa_if_le (pc := 176) 183 dX6_fails_176 rfl (fun hb176 => ?_) (fun hb176 => ?_)
        · have e9 : decide (0 < (dGi f σ a p (u b) (-1) 0 false).1) = false := decide_eq_false (by have := (iN_pos (by omega)).mp hb176; omega)
          refine wa_iconst (pc := 183) (y := mX6_fails) (Int32.ofNat 0) dX6_fails_183 rfl ?_
          exact wa_ireturn (pc := 184) (y := mX6_fails) .boolean dX6_fails_184 rfl rfl ⟨by rw [e9]; rfl, rfl⟩
        · have e9 : decide (0 < (dGi f σ a p (u b) (-1) 0 false).1) = true := decide_eq_true (Nat.pos_of_ne_zero fun q => hb176 ((iN_pos (by omega)).mpr q))
          refine wa_iconst (pc := 179) (y := mX6_fails) (Int32.ofNat 1) dX6_fails_179 rfl ?_
          refine wa_goto (pc := 180) (y := mX6_fails) 184 dX6_fails_180 rfl ?_
          exact wa_ireturn (pc := 184) (y := mX6_fails) .boolean dX6_fails_184 rfl rfl ⟨by rw [e9]; rfl, rfl⟩
      · rw [decide_eq_false e1] at told
        rw [show flE f σ 114 a b lv = (true, f, σ) from (f4 _).trans ((if_pos rfl).trans (by rw [hp]; exact if_pos e1))]
        refine wa_lookup (pc := 26) (y := mX6_fails) 159 dX6_fails_26 (by decide) rfl rfl ?_
        first | refine wa_aload_n (pc := 159) (y := mX6_fails) dX6_fails_159 rfl ?_ | refine wa_aload_nN (pc := 159) (y := mX6_fails) dX6_fails_159 rfl ?_ | refine wa_aload_nq (pc := 159) (y := mX6_fails) dX6_fails_159 rfl ?_
        refine wa_iload_n (pc := 160) (y := mX6_fails) dX6_fails_160 rfl ?_
        refine wa_callV (pc := 161) told dX6_fails_161 okX6_isTold q3068 q3070 qs82 mH_o rfl rfl rfl (Nat.le_of_ble_eq_true rfl) (Nat.le_of_ble_eq_true rfl) (by omega) ?_
        rintro _ _ - - ⟨rfl, rfl⟩
        refine aft_v (pc2 := 164) ?_ rfl
        refine wa_if_eq (pc := 164) 179 dX6_fails_164 rfl (fun hb164 => ?_) (fun hb164 => absurd rfl hb164)
        refine wa_iconst (pc := 179) (y := mX6_fails) (Int32.ofNat 1) dX6_fails_179 rfl ?_
        refine wa_goto (pc := 180) (y := mX6_fails) 184 dX6_fails_180 rfl ?_
        exact wa_ireturn (pc := 184) (y := mX6_fails) .boolean dX6_fails_184 rfl rfl ⟨rfl, rfl⟩
  · rw [hk]
    refine upto (Int32.ofNat 103) _ hk ?_
    rw [show flE f σ 103 a b (σ.1 15 (3 * e + 2)) = (decide (0 < (dGo f σ false).1), (dGo f σ false).2.1, (dGo f σ false).2.2) from (if_neg (by decide)).trans ((if_neg (by decide)).trans ((if_neg (by decide)).trans ((if_neg (by decide)).trans (if_pos rfl))))]
    have hle := dGo_le (f := f) (σ := σ) (b := false)
    refine wa_lookup (pc := 26) (y := mX6_fails) 185 dX6_fails_26 (by decide) rfl rfl ?_
    first | refine wa_aload_n (pc := 185) (y := mX6_fails) dX6_fails_185 rfl ?_ | refine wa_aload_nN (pc := 185) (y := mX6_fails) dX6_fails_185 rfl ?_ | refine wa_aload_nq (pc := 185) (y := mX6_fails) dX6_fails_185 rfl ?_
    refine wa_iconst (pc := 186) (y := mX6_fails) (Int32.ofNat 0) dX6_fails_186 rfl ?_
    refine wa_callV (pc := 187) (s_X6_doGo (b := false) (d := d - 1) (by omega) hI) dX6_fails_187 okX6_doGo q2906 q2908 qs65 mH_o rfl rfl rfl (Nat.le_of_ble_eq_true rfl) (Nat.le_of_ble_eq_true rfl) (by omega) ?_
    rintro _ _ - - ⟨rfl, rfl⟩
    refine aft_v (pc2 := 190) ?_ rfl
    refine wa_if_le (pc := 190) 197 dX6_fails_190 rfl (fun hb190 => ?_) (fun hb190 => ?_)
    · have e9 : decide (0 < (dGo f σ false).1) = false := decide_eq_false (by have := (iN_pos (by omega)).mp hb190; omega)
      refine wa_iconst (pc := 197) (y := mX6_fails) (Int32.ofNat 0) dX6_fails_197 rfl ?_
      exact wa_ireturn (pc := 198) (y := mX6_fails) .boolean dX6_fails_198 rfl rfl ⟨by rw [e9]; rfl, rfl⟩
    · have e9 : decide (0 < (dGo f σ false).1) = true := decide_eq_true (Nat.pos_of_ne_zero fun q => hb190 ((iN_pos (by omega)).mpr q))
      refine wa_iconst (pc := 193) (y := mX6_fails) (Int32.ofNat 1) dX6_fails_193 rfl ?_
      refine wa_goto (pc := 194) (y := mX6_fails) 198 dX6_fails_194 rfl ?_
      exact wa_ireturn (pc := 198) (y := mX6_fails) .boolean dX6_fails_198 rfl rfl ⟨by rw [e9]; rfl, rfl⟩
  · rw [hk]
    refine upto (Int32.ofNat 106) _ hk ?_
    have f6 : flE f σ 106 a b (σ.1 15 (3 * e + 2)) = match pl f a with
        | none => (true, f, σ)
        | some p => (false, goF f a p, σ) := (if_neg (by decide)).trans ((if_neg (by decide)).trans ((if_neg (by decide)).trans ((if_neg (by decide)).trans ((if_neg (by decide)).trans (if_pos rfl)))))
    rw [f6]
    cases hp : pl f a with
    | none =>
      refine wa_lookup (pc := 26) (y := mX6_fails) 199 dX6_fails_26 (by decide) rfl rfl ?_
      first | refine wa_aload_n (pc := 199) (y := mX6_fails) dX6_fails_199 rfl ?_ | refine wa_aload_nN (pc := 199) (y := mX6_fails) dX6_fails_199 rfl ?_ | refine wa_aload_nq (pc := 199) (y := mX6_fails) dX6_fails_199 rfl ?_
      refine wa_iload_n (pc := 200) (y := mX6_fails) dX6_fails_200 rfl ?_
      refine wa_callV (pc := 201) (s_X6_isCue (d := d - 1) (by omega) hI) dX6_fails_201 okX6_isCue q2719 q2721 qs41 mH_o rfl rfl rfl (Nat.le_of_ble_eq_true rfl) (Nat.le_of_ble_eq_true rfl) (by omega) ?_
      rintro _ _ - - ⟨rfl, rfl⟩
      refine aft_v (pc2 := 204) ?_ rfl
      rw [isC_none hp]
      refine wa_if_eq (pc := 204) 215 dX6_fails_204 rfl (fun hb204 => ?_) (fun hb204 => absurd rfl hb204)
      refine wa_iconst (pc := 215) (y := mX6_fails) (Int32.ofNat 1) dX6_fails_215 rfl ?_
      refine wa_goto (pc := 216) (y := mX6_fails) 220 dX6_fails_216 rfl ?_
      exact wa_ireturn (pc := 220) (y := mX6_fails) .boolean dX6_fails_220 rfl rfl ⟨rfl, rfl⟩
    | some p =>
      obtain ⟨n9, hn9, en9⟩ := gsC_nn (f := f) (cue := a) (p := p) (c := 12)
      refine wa_lookup (pc := 26) (y := mX6_fails) 199 dX6_fails_26 (by decide) rfl rfl ?_
      first | refine wa_aload_n (pc := 199) (y := mX6_fails) dX6_fails_199 rfl ?_ | refine wa_aload_nN (pc := 199) (y := mX6_fails) dX6_fails_199 rfl ?_ | refine wa_aload_nq (pc := 199) (y := mX6_fails) dX6_fails_199 rfl ?_
      refine wa_iload_n (pc := 200) (y := mX6_fails) dX6_fails_200 rfl ?_
      refine wa_callV (pc := 201) (s_X6_isCue (d := d - 1) (by omega) hI) dX6_fails_201 okX6_isCue q2719 q2721 qs41 mH_o rfl rfl rfl (Nat.le_of_ble_eq_true rfl) (Nat.le_of_ble_eq_true rfl) (by omega) ?_
      rintro _ _ - - ⟨rfl, rfl⟩
      refine aft_v (pc2 := 204) ?_ rfl
      rw [isC_some hp]
      refine wa_if_eq (pc := 204) 215 dX6_fails_204 rfl (fun hb204 => absurd hb204 (by decide)) (fun hb204 => ?_)
      first | refine wa_aload_n (pc := 207) (y := mX6_fails) dX6_fails_207 rfl ?_ | refine wa_aload_nN (pc := 207) (y := mX6_fails) dX6_fails_207 rfl ?_ | refine wa_aload_nq (pc := 207) (y := mX6_fails) dX6_fails_207 rfl ?_
      refine wa_iload_n (pc := 208) (y := mX6_fails) dX6_fails_208 rfl ?_
      refine wa_callV (pc := 209) (s_X6_goes (d := d - 1) (by omega) hI hp) dX6_fails_209 okX6_goes q2918 q2920 qs68 mH_o rfl rfl rfl (Nat.le_of_ble_eq_true rfl) (Nat.le_of_ble_eq_true rfl) (by omega) ?_
      rintro _ _ - - ⟨rfl, rfl⟩
      refine aft_v (pc2 := 212) ?_ rfl
      rw [en9]
      refine wa_if_ge (pc := 212) 219 dX6_fails_212 rfl (fun hb212 => ?_) (fun hb212 => absurd ((iN_le (a := 0) (by omega) (by omega)).mpr (by omega)) hb212)
      refine wa_iconst (pc := 219) (y := mX6_fails) (Int32.ofNat 0) dX6_fails_219 rfl ?_
      exact wa_ireturn (pc := 220) (y := mX6_fails) .boolean dX6_fails_220 rfl rfl ⟨rfl, rfl⟩
  · rw [hk]
    refine upto (Int32.ofNat 116) _ hk ?_
    rw [show flE f σ 116 a b (σ.1 15 (3 * e + 2)) = (decide (0 < (dPs f a).1), (dPs f a).2, σ) from (if_neg (by decide)).trans ((if_neg (by decide)).trans ((if_neg (by decide)).trans ((if_neg (by decide)).trans ((if_neg (by decide)).trans (if_neg (by decide))))))]
    have hle := dPs_le (f := f) (t := a)
    refine wa_lookup (pc := 26) (y := mX6_fails) 221 dX6_fails_26 (by decide) rfl rfl ?_
    first | refine wa_aload_n (pc := 221) (y := mX6_fails) dX6_fails_221 rfl ?_ | refine wa_aload_nN (pc := 221) (y := mX6_fails) dX6_fails_221 rfl ?_ | refine wa_aload_nq (pc := 221) (y := mX6_fails) dX6_fails_221 rfl ?_
    refine wa_iload_n (pc := 222) (y := mX6_fails) dX6_fails_222 rfl ?_
    refine wa_callV (pc := 223) (s_X6_doPass (d := d - 1) (by omega) hI) dX6_fails_223 okX6_doPass q2941 q2943 qs70 mH_o rfl rfl rfl (Nat.le_of_ble_eq_true rfl) (Nat.le_of_ble_eq_true rfl) (by omega) ?_
    rintro _ _ - - ⟨rfl, rfl⟩
    refine aft_v (pc2 := 226) ?_ rfl
    refine wa_if_le (pc := 226) 233 dX6_fails_226 rfl (fun hb226 => ?_) (fun hb226 => ?_)
    · have e9 : decide (0 < (dPs f a).1) = false := decide_eq_false (by have := (iN_pos (by omega)).mp hb226; omega)
      refine wa_iconst (pc := 233) (y := mX6_fails) (Int32.ofNat 0) dX6_fails_233 rfl ?_
      exact wa_ireturn (pc := 234) (y := mX6_fails) .boolean dX6_fails_234 rfl rfl ⟨by rw [e9]; rfl, rfl⟩
    · have e9 : decide (0 < (dPs f a).1) = true := decide_eq_true (Nat.pos_of_ne_zero fun q => hb226 ((iN_pos (by omega)).mpr q))
      refine wa_iconst (pc := 229) (y := mX6_fails) (Int32.ofNat 1) dX6_fails_229 rfl ?_
      refine wa_goto (pc := 230) (y := mX6_fails) 234 dX6_fails_230 rfl ?_
      exact wa_ireturn (pc := 234) (y := mX6_fails) .boolean dX6_fails_234 rfl rfl ⟨by rw [e9]; rfl, rfl⟩
end MFAILS
