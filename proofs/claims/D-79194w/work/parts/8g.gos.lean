/-! ===== pass, go, back, addCue ===== -/
def wN (f : Nat → Int32) : Nat → Int32
  | 0 => 0
  | k + 1 => wN f k + (if goB (tk1 (tkN f k)) then 1 else 0)
section GOS
variable {G : GG} {d n : Nat} {h h2 : AH} {F F2 : Nat → Nat → Value} {s c k i j p q a : Nat} {A : SA} {f g : Nat → Int32} {O P : Nat → Prop} {x z v : Int32}
theorem nxJ_cg (e : ∀ k, k < 12 → f (18 + 12 * k) = g (18 + 12 * k)) : ∀ {t k : Nat}, k + t ≤ 12 → nxJ f v t k = nxJ g v t k
  | 0, _, _ => rfl
  | t + 1, k, h => by
    unfold nxJ
    rw [e k (by omega), nxJ_cg e (by omega)]
theorem nxI_cg (h0 : u (f 0) ≤ 12) (e0 : g 0 = f 0) (e : ∀ k, k < 12 → f (18 + 12 * k) = g (18 + 12 * k)) : nxI f v = nxI g v := by
  unfold nxI
  rw [e0]
  exact nxJ_cg e (by omega)
theorem goF_lo (h : j < 402) (h2 : j ≠ 2) (h3 : j ≠ 3) (h4 : j ≠ 4) : goF f v p j = f j := by
  unfold goF
  rw [upd_o _ _ h4, upd_o _ _ h3, upd_o _ _ h2, gsN_lo h]
theorem goF_2 : goF f v p 2 = v := by
  unfold goF
  rw [upd_o _ _ (by decide), upd_o _ _ (by decide), upd_s]
theorem goF_4 : goF f v p 4 = f 4 + 1 := by
  unfold goF
  rw [upd_s, gsN_lo (by decide)]
theorem tk_step (hI : Inv f) (hl : 0 ≤ f 2) : 0 ≤ tk2 (tk1 f) 2 ∧ tk2 (tk1 f) 4 = f 4 + (if goB (tk1 f) then 1 else 0) ∧ nxI (tk2 (tk1 f)) (tk2 (tk1 f) 2) = nxI f (f 2) + (if goB (tk1 f) then 1 else 0) := by
  have hI1 := tk1_inv hI
  have e2 : tk1 f 2 = f 2 := tk1_lo (by decide) (by decide) (by decide)
  have e4 : tk1 f 4 = f 4 := tk1_lo (by decide) (by decide) (by decide)
  have en : ∀ w, nxI (tk1 f) w = nxI f w := fun w => nxI_cg hI1.1 (by rw [tk1_lo (by decide) (by decide) (by decide)]) (fun k hk => tk1_lo (by omega) (by omega) (by omega))
  cases hb : goB (tk1 f) with
  | false =>
    have h2 : tk2 (tk1 f) = tk1 f := by unfold tk2; rw [if_neg (by rw [hb]; decide)]
    rw [h2, e2, e4, en]
    exact ⟨hl, (Int32.add_zero _).symm, rfl⟩
  | true =>
    obtain ⟨p, hp, hp1, htk⟩ := goB_pl hI1 hb
    have hni := nxI_pl (Srt.of hI1) hp
    rw [e2, en] at hni
    rw [htk, goF_2, goF_4, e4, hni]
    refine ⟨Int32.le_of_lt (num_pos9 hI1 hp1).1, rfl, ?_⟩
    rw [nxI_cg (g := tk1 f) (by rw [goF_lo (by decide) (by decide) (by decide) (by decide)]; exact hI1.1) (by rw [goF_lo (by decide) (by decide) (by decide) (by decide)]) (fun k hk => goF_lo (by omega) (by omega) (by omega) (by omega)), nxI_pl (Srt.of hI1) (pl_self hI1 hp1)]
    rfl
theorem tkN_all (hI : Inv f) (hl : 0 ≤ f 2) : ∀ k, 0 ≤ tkN f k 2 ∧ tkN f k 4 = f 4 + wN f k
  | 0 => ⟨hl, (Int32.add_zero _).symm⟩
  | k + 1 => by
    obtain ⟨a, b⟩ := tkN_all hI hl k
    obtain ⟨c1, c2, -⟩ := tk_step (tkN_inv hI (k := k)) a
    refine ⟨c1, ?_⟩
    show tk2 (tk1 (tkN f k)) 4 = _
    rw [c2, b]
    exact Int32.add_assoc _ _ _
theorem wN_is (hI : Inv f) (hl : 0 ≤ f 2) (k : Nat) : tkN f k 4 - f 4 = wN f k := by
  rw [(tkN_all hI hl k).2, Int32.add_comm, Int32.add_sub_cancel]
theorem s_X2_pass (hd : 21 ≤ d) (hI : Inv f) (hl0 : 0 ≤ f 2) (hn : n ≤ 6000) (S : ShowN G h F O s A f) : MA G d mX2_pass [.ref s, .int (Int32.ofNat n)] (sF h F) (fun r h' => 100000 < f 5 + Int32.ofNat n ∧ ThQ 24 h F r h' ∨ ¬ 100000 < f 5 + Int32.ofNat n ∧ ∃ (h2 : AH) (F2 : Nat → Nat → Value), r = .inl (some (.int (wN f n))) ∧ h' = sF h2 F2 ∧ Fr (OP O h) h F h2 F2 ∧ Cst 1872 h h2 ∧ ShowN G h2 F2 O s A (tkN f n)) := by
  have loop : ∀ (t k : Nat) (h2 : AH) (F2 : Nat → Nat → Value), k + t = n → ¬ 100000 < f 5 + Int32.ofNat n → Fr (OP O h) h F h2 F2 → Cst (156 * (nxI (tkN f k) (tkN f k 2) - nxI f (f 2))) h h2 → nxI f (f 2) ≤ nxI (tkN f k) (tkN f k 2) → ShowN G h2 F2 O s A (tkN f k) →
      WA G d mX2_pass 23 [.ref s, .int (Int32.ofNat n), .int (wN f k), .int (Int32.ofNat k)] [] (sF h2 F2) (fun r h' => 100000 < f 5 + Int32.ofNat n ∧ ThQ 24 h F r h' ∨ ¬ 100000 < f 5 + Int32.ofNat n ∧ ∃ (h2 : AH) (F2 : Nat → Nat → Value), r = .inl (some (.int (wN f n))) ∧ h' = sF h2 F2 ∧ Fr (OP O h) h F h2 F2 ∧ Cst 1872 h h2 ∧ ShowN G h2 F2 O s A (tkN f n)) := by
    intro t
    induction t with
    | zero =>
      intro k h2 F2 hk h9 fr cst hle S1
      have hk : k = n := by omega
      subst hk
      have h12 := nxI_le (f := tkN f k) (v := tkN f k 2)
      have h13 := (tkN_inv hI (k := k)).1
      refine wa_iload_n (pc := 23) (y := mX2_pass) dX2_pass_23 rfl ?_
      refine wa_iload_n (pc := 24) (y := mX2_pass) dX2_pass_24 rfl ?_
      refine wa_icmp_ge (pc := 25) 49 dX2_pass_25 rfl (fun hb25 => ?_) (fun hb25 => absurd ((iN_le (by omega) (by omega)).mpr (Nat.le_refl k)) hb25)
      refine wa_iload_n (pc := 49) (y := mX2_pass) dX2_pass_49 rfl ?_
      refine wa_ireturn (pc := 50) (y := mX2_pass) .int dX2_pass_50 rfl rfl (Or.inr ⟨h9, h2, F2, rfl, rfl, fr, cst.mono (by omega), S1⟩)
    | succ t ih =>
      intro k h2 F2 hk h9 fr cst hle S1
      have S1_is := S1.2.is
      obtain ⟨a1, a2⟩ := tkN_all hI hl0 k
      obtain ⟨c1, c2, c3⟩ := tk_step (tkN_inv hI (k := k)) a1
      refine wa_iload_n (pc := 23) (y := mX2_pass) dX2_pass_23 rfl ?_
      refine wa_iload_n (pc := 24) (y := mX2_pass) dX2_pass_24 rfl ?_
      refine wa_icmp_ge (pc := 25) 49 dX2_pass_25 rfl (fun hb25 => absurd ((iN_le (by omega) (by omega)).mp hb25) (by omega)) (fun hb25 => ?_)
      refine wa_iload_n (pc := 28) (y := mX2_pass) dX2_pass_28 rfl ?_
      refine wa_aloadV_n (pc := 29) (y := mX2_pass) dX2_pass_29 rfl (by first | exact rf_s _ | exact rf_n | exact rf_q _) ?_
      refine wa_callV (pc := 30) (s_X2_isTenthDone (d := d - 1) (by omega) (tkN_inv hI) a1 S1) dX2_pass_30 okX2_isTenthDone q2337 q2339 qs27 (sF_at (by assumption)) rfl rfl rfl (Nat.le_of_ble_eq_true rfl) (Nat.le_of_ble_eq_true rfl) (by omega) ?_
      rintro _ _ - - ⟨h4, F4, rfl, rfl, fr4, cst4, S4⟩
      refine aft_v (pc2 := 33) ?_ rfl
      refine wa_if_eq (pc := 33) 40 dX2_pass_33 rfl (fun hb33 => ?_) (fun hb33 => ?_)
      · have hb := bI_0.mp hb33
        refine wa_iconst (pc := 40) (y := mX2_pass) (Int32.ofNat 0) dX2_pass_40 rfl ?_
        first | with_reducible refine wa_iaddN (pc := 41) (y := mX2_pass) dX2_pass_41 ?_ | refine wa_iadd (pc := 41) (y := mX2_pass) dX2_pass_41 ?_
        refine wa_istore_n (pc := 42) (y := mX2_pass) dX2_pass_42 (Nat.le_of_ble_eq_true rfl) (by first | rfl | (simp [okst, rf_cat] <;> assumption)) ?_
        change WA _ _ _ _ (List.set _ 2 _) _ _ _
        simp only [List.set_cons_zero, List.set_cons_succ]
        refine wa_iincN (pc := 43) (y := mX2_pass) dX2_pass_43 rfl (Nat.le_of_ble_eq_true rfl) (by first | rfl | (simp [okst, rf_cat] <;> assumption)) ?_
        simp only [List.set_cons_zero, List.set_cons_succ]
        refine wa_goto (pc := 46) (y := mX2_pass) 23 dX2_pass_46 rfl ?_
        rw [hb] at c3 cst4; have c3 : nxI (tkN f (k + 1)) (tkN f (k + 1) 2) = _ := c3; simp only [if_true, Bool.false_eq_true, if_false] at c3 cst4; have := ih (k + 1) h4 F4 (by omega) h9 (fr.opT fr4) ((cst.trans cst4).mono (by omega)) (by omega) S4; have e9 : wN f (k + 1) = wN f k + (if goB (tk1 (tkN f k)) then 1 else 0) := rfl; rw [e9, hb] at this; exact this
      · have hb := bI_n0 hb33
        refine wa_iconst (pc := 36) (y := mX2_pass) (Int32.ofNat 1) dX2_pass_36 rfl ?_
        refine wa_goto (pc := 37) (y := mX2_pass) 41 dX2_pass_37 rfl ?_
        first | with_reducible refine wa_iaddN (pc := 41) (y := mX2_pass) dX2_pass_41 ?_ | refine wa_iadd (pc := 41) (y := mX2_pass) dX2_pass_41 ?_
        refine wa_istore_n (pc := 42) (y := mX2_pass) dX2_pass_42 (Nat.le_of_ble_eq_true rfl) (by first | rfl | (simp [okst, rf_cat] <;> assumption)) ?_
        change WA _ _ _ _ (List.set _ 2 _) _ _ _
        simp only [List.set_cons_zero, List.set_cons_succ]
        refine wa_iincN (pc := 43) (y := mX2_pass) dX2_pass_43 rfl (Nat.le_of_ble_eq_true rfl) (by first | rfl | (simp [okst, rf_cat] <;> assumption)) ?_
        simp only [List.set_cons_zero, List.set_cons_succ]
        refine wa_goto (pc := 46) (y := mX2_pass) 23 dX2_pass_46 rfl ?_
        rw [hb] at c3 cst4; have c3 : nxI (tkN f (k + 1)) (tkN f (k + 1) 2) = _ := c3; simp only [if_true, Bool.false_eq_true, if_false] at c3 cst4; have := ih (k + 1) h4 F4 (by omega) h9 (fr.opT fr4) ((cst.trans cst4).mono (by omega)) (by omega) S4; have e9 : wN f (k + 1) = wN f k + (if goB (tk1 (tkN f k)) then 1 else 0) := rfl; rw [e9, hb] at this; exact this
  have S0 := S.2
  have S0_is := S0.is; have S0_0 := S0.f0; have S0_1 := S0.f1; have S0_2 := S0.f2; have S0_3 := S0.f3; have S0_4 := S0.f4; have S0_5 := S0.f5; have S0_6 := S0.f6; have S0_7 := S0.f7; have S0_h := S0.hm; have S0_c := S0.cl.1; have S0_l := S0.fl.1; have S0_m := S0.im.1
  change WA G d mX2_pass 0 [.ref s, .int (Int32.ofNat n), .retAddr 0, .retAddr 0] [] _ _
  by_cases h9 : 100000 < f 5 + Int32.ofNat n
  · refine wa_aloadV_n (pc := 0) (y := mX2_pass) dX2_pass_0 rfl (by first | exact rf_s _ | exact rf_n | exact rf_q _) ?_
    refine wf_get (k := 1) (l := 8) 7 dX2_pass_1 (by assumption) rfl q369 (Or.inl rfl) (Nat.le_of_ble_eq_true rfl) (Nat.le_of_ble_eq_true rfl) (by (repeat (first | exact updF_self _ _ _ _ | (apply updF_i; · decide) | (apply updF_a; · first | assumption | (apply Ne.symm; assumption) | omega) | (apply newF_a; · first | assumption | (apply Ne.symm; assumption) | omega) | exact newL_self (by rfl) | exact newF_self (by rfl) | (apply cpyF_a; · first | assumption | (apply Ne.symm; assumption) | omega))) <;> first | assumption | rfl) ?_
    refine wa_iload_n (pc := 4) (y := mX2_pass) dX2_pass_4 rfl ?_
    first | with_reducible refine wa_iaddN (pc := 5) (y := mX2_pass) dX2_pass_5 ?_ | refine wa_iadd (pc := 5) (y := mX2_pass) dX2_pass_5 ?_
    refine wa_ldc (pc := 6) (y := mX2_pass) dX2_pass_6 q2336 ?_
    refine wa_icmp_gt (pc := 8) 15 dX2_pass_8 rfl (fun hb8 => ?_) (fun hb8 => absurd h9 hb8)
    refine wa_iconst (pc := 15) (y := mX2_pass) (Int32.ofNat 0) dX2_pass_15 rfl ?_
    refine wa_callSN (pc := 16) (s_X1_checkState (d := d - 1) (b := false) (by omega)) dX2_pass_16 okX1_checkState rfl q1706 q1707 rfl rfl (Nat.le_of_ble_eq_true rfl) (Nat.le_of_ble_eq_true rfl) (by omega) ?_
    rintro r h' - - (⟨hb, -, -⟩ | ⟨-, T⟩)
    · cases hb
    exact T.after ⟨_, rfl⟩ rfl fun h2 F2 q fr cst iq => Or.inl ⟨h9, h2, F2, q, rfl, rfl, fr, cst, iq⟩
  · refine wa_aloadV_n (pc := 0) (y := mX2_pass) dX2_pass_0 rfl (by first | exact rf_s _ | exact rf_n | exact rf_q _) ?_
    refine wf_get (k := 1) (l := 8) 7 dX2_pass_1 (by assumption) rfl q369 (Or.inl rfl) (Nat.le_of_ble_eq_true rfl) (Nat.le_of_ble_eq_true rfl) (by (repeat (first | exact updF_self _ _ _ _ | (apply updF_i; · decide) | (apply updF_a; · first | assumption | (apply Ne.symm; assumption) | omega) | (apply newF_a; · first | assumption | (apply Ne.symm; assumption) | omega) | exact newL_self (by rfl) | exact newF_self (by rfl) | (apply cpyF_a; · first | assumption | (apply Ne.symm; assumption) | omega))) <;> first | assumption | rfl) ?_
    refine wa_iload_n (pc := 4) (y := mX2_pass) dX2_pass_4 rfl ?_
    first | with_reducible refine wa_iaddN (pc := 5) (y := mX2_pass) dX2_pass_5 ?_ | refine wa_iadd (pc := 5) (y := mX2_pass) dX2_pass_5 ?_
    refine wa_ldc (pc := 6) (y := mX2_pass) dX2_pass_6 q2336 ?_
    refine wa_icmp_gt (pc := 8) 15 dX2_pass_8 rfl (fun hb8 => absurd hb8 h9) (fun hb8 => ?_)
    refine wa_iconst (pc := 11) (y := mX2_pass) (Int32.ofNat 1) dX2_pass_11 rfl ?_
    refine wa_goto (pc := 12) (y := mX2_pass) 16 dX2_pass_12 rfl ?_
    refine wa_callSN (pc := 16) (s_X1_checkState (d := d - 1) (b := true) (by omega)) dX2_pass_16 okX1_checkState rfl q1706 q1707 rfl rfl (Nat.le_of_ble_eq_true rfl) (Nat.le_of_ble_eq_true rfl) (by omega) ?_
    rintro r h' - - (⟨-, rfl, rfl⟩ | ⟨hb, -⟩)
    rotate_left
    · cases hb
    refine aft_0 (pc2 := 19) ?_ rfl
    refine wa_iconst (pc := 19) (y := mX2_pass) (Int32.ofNat 0) dX2_pass_19 rfl ?_
    refine wa_istore_n (pc := 20) (y := mX2_pass) dX2_pass_20 (Nat.le_of_ble_eq_true rfl) (by first | rfl | (simp [okst, rf_cat] <;> assumption)) ?_
    change WA _ _ _ _ (List.set _ 2 _) _ _ _
    simp only [List.set_cons_zero, List.set_cons_succ]
    refine wa_iconst (pc := 21) (y := mX2_pass) (Int32.ofNat 0) dX2_pass_21 rfl ?_
    refine wa_istore_n (pc := 22) (y := mX2_pass) dX2_pass_22 (Nat.le_of_ble_eq_true rfl) (by first | rfl | (simp [okst, rf_cat] <;> assumption)) ?_
    change WA _ _ _ _ (List.set _ 3 _) _ _ _
    simp only [List.set_cons_zero, List.set_cons_succ]
    exact loop n 0 h F (by omega) h9 Fr.refl (Cst.refl.mono (Nat.zero_le _)) (Nat.le_refl _) S
/-! go and back -/
theorem ipg_is : ∀ {t k : Nat}, k + t = u (f 0) → k ≤ ipg f v t k
  | 0, k, _ => Nat.le_refl _
  | t + 1, k, h => by
    unfold ipg
    split
    · have := ipg_is (t := t) (k := k + 1) (by omega)
      omega
    · exact Nat.le_refl _
/-- the last cue before a number -/
theorem ah_ip (hS : Srt f) : ∀ k, k ≤ u (f 0) → ahN f v k = if min (ip f v) k = 0 then 0 else f (18 + 12 * (min (ip f v) k - 1))
  | 0, _ => by simp [ahN]
  | k + 1, hk => by
    unfold ahN
    by_cases h1 : k < ip f v
    · rw [if_pos (ipg_lt (t := u (f 0)) (k := 0) (Nat.zero_le _) h1), show min (ip f v) (k + 1) = k + 1 by omega, if_neg (by omega)]
      rfl
    · have h2 : ¬ f (18 + 12 * k) < v := by
        have h3 : ¬ f (18 + 12 * ip f v) < v := ipg_ge (t := u (f 0)) (k := 0) (by show ip f v < _; omega)
        by_cases h4 : ip f v = k
        · rw [← h4]; exact h3
        · intro h5
          exact h3 (Int32.lt_trans (hS (ip f v) k (by omega) (by omega)) h5)
      rw [if_neg h2, ah_ip hS k (by omega), show min (ip f v) (k + 1) = min (ip f v) k by omega]
theorem s_X2_go (hd : 20 ≤ d) (hI : Inv f) (S : ShowN G h F O s A f) : MA G d mX2_go [.ref s] (sF h F) (fun r h' => nxI f (f 2) = u (f 0) ∧ RefQ 4 h F r h' ∨ nxI f (f 2) < u (f 0) ∧ ∃ (h2 : AH) (F2 : Nat → Nat → Value), r = .inl (some (.int (f (18 + 12 * nxI f (f 2))))) ∧ h' = sF h2 F2 ∧ Fr (OP O h) h F h2 F2 ∧ Cst 156 h h2 ∧ ShowN G h2 F2 O s A (goF f (f (18 + 12 * nxI f (f 2))) (nxI f (f 2)))) := by
  have S0 := S.2
  have S0_is := S0.is; have S0_0 := S0.f0; have S0_1 := S0.f1; have S0_2 := S0.f2; have S0_3 := S0.f3; have S0_4 := S0.f4; have S0_5 := S0.f5; have S0_6 := S0.f6; have S0_7 := S0.f7; have S0_h := S0.hm; have S0_c := S0.cl.1; have S0_l := S0.fl.1; have S0_m := S0.im.1
  have hn := S0.nlt
  have hnc := S0.nc
  have hle := nxI_le (f := f) (v := f 2)
  change WA G d mX2_go 0 [.ref s, .retAddr 0] [] _ _
  by_cases h9 : nxI f (f 2) = u (f 0)
  · refine wa_aloadV_n (pc := 0) (y := mX2_go) dX2_go_0 rfl (by first | exact rf_s _ | exact rf_n | exact rf_q _) ?_
    refine wa_aloadV_n (pc := 1) (y := mX2_go) dX2_go_1 rfl (by first | exact rf_s _ | exact rf_n | exact rf_q _) ?_
    refine wf_get (k := 1) (l := 8) 4 dX2_go_2 (by assumption) rfl q363 (Or.inl rfl) (Nat.le_of_ble_eq_true rfl) (Nat.le_of_ble_eq_true rfl) (by (repeat (first | exact updF_self _ _ _ _ | (apply updF_i; · decide) | (apply updF_a; · first | assumption | (apply Ne.symm; assumption) | omega) | (apply newF_a; · first | assumption | (apply Ne.symm; assumption) | omega) | exact newL_self (by rfl) | exact newF_self (by rfl) | (apply cpyF_a; · first | assumption | (apply Ne.symm; assumption) | omega))) <;> first | assumption | rfl) ?_
    refine wa_callV (pc := 5) (s_X2_nextOf (d := d - 1) (by omega) S0) dX2_go_5 okX2_nextOf q2304 q2305 q2306 (sF_at (by assumption)) rfl rfl rfl (Nat.le_of_ble_eq_true rfl) (Nat.le_of_ble_eq_true rfl) (by omega) ?_
    rintro _ _ - - ⟨rfl, rfl⟩
    refine aft_v (pc2 := 8) ?_ rfl
    refine wa_istore_n (pc := 8) (y := mX2_go) dX2_go_8 (Nat.le_of_ble_eq_true rfl) (by first | rfl | (simp [okst, rf_cat] <;> assumption)) ?_
    change WA _ _ _ _ (List.set _ 1 _) _ _ _
    simp only [List.set_cons_zero, List.set_cons_succ]
    refine wa_iload_n (pc := 9) (y := mX2_go) dX2_go_9 rfl ?_
    refine wa_aloadV_n (pc := 10) (y := mX2_go) dX2_go_10 rfl (by first | exact rf_s _ | exact rf_n | exact rf_q _) ?_
    refine wf_get (k := 1) (l := 8) 0 dX2_go_11 (by assumption) rfl q355 (Or.inl rfl) (Nat.le_of_ble_eq_true rfl) (Nat.le_of_ble_eq_true rfl) (by (repeat (first | exact updF_self _ _ _ _ | (apply updF_i; · decide) | (apply updF_a; · first | assumption | (apply Ne.symm; assumption) | omega) | (apply newF_a; · first | assumption | (apply Ne.symm; assumption) | omega) | exact newL_self (by rfl) | exact newF_self (by rfl) | (apply cpyF_a; · first | assumption | (apply Ne.symm; assumption) | omega))) <;> first | assumption | rfl) ?_
    refine wa_callV (pc := 14) (s_J2_size (d := d - 1) S0.cl) dX2_go_14 okJ2_size q1181 q1145 q1146 (sF_at (by assumption)) rfl rfl rfl (Nat.le_of_ble_eq_true rfl) (Nat.le_of_ble_eq_true rfl) (by omega) ?_
    rintro _ _ - - ⟨rfl, rfl⟩
    refine aft_v (pc2 := 17) ?_ rfl
    refine wa_icmp_ne (pc := 17) 24 dX2_go_17 rfl (fun hb17 => absurd (by rw [h9, hnc]) hb17) (fun hb17 => ?_)
    refine wa_iconst (pc := 20) (y := mX2_go) (Int32.ofNat 1) dX2_go_20 rfl ?_
    refine wa_goto (pc := 21) (y := mX2_go) 25 dX2_go_21 rfl ?_
    refine wa_iconst (pc := 25) (y := mX2_go) (Int32.ofNat 4) dX2_go_25 rfl ?_
    refine wa_callSN (pc := 26) (s_X1_refuse (d := d - 1) (b := true) (by omega)) dX2_go_26 okX1_refuse rfl q1968 q1969 rfl rfl (Nat.le_of_ble_eq_true rfl) (Nat.le_of_ble_eq_true rfl) (by omega) ?_
    rintro r h' - - (⟨hb, -, -⟩ | ⟨-, h2, F2, q, rfl, rfl, fr, cst, iq, vq⟩)
    · cases hb
    exact wax_out (sF_at iq) rfl (fun z hz => by cases hz) (Or.inl ⟨h9, h2, F2, q, rfl, rfl, fr, cst, iq, vq⟩)
  · have h8 : nxI f (f 2) < u (f 0) := by omega
    refine wa_aloadV_n (pc := 0) (y := mX2_go) dX2_go_0 rfl (by first | exact rf_s _ | exact rf_n | exact rf_q _) ?_
    refine wa_aloadV_n (pc := 1) (y := mX2_go) dX2_go_1 rfl (by first | exact rf_s _ | exact rf_n | exact rf_q _) ?_
    refine wf_get (k := 1) (l := 8) 4 dX2_go_2 (by assumption) rfl q363 (Or.inl rfl) (Nat.le_of_ble_eq_true rfl) (Nat.le_of_ble_eq_true rfl) (by (repeat (first | exact updF_self _ _ _ _ | (apply updF_i; · decide) | (apply updF_a; · first | assumption | (apply Ne.symm; assumption) | omega) | (apply newF_a; · first | assumption | (apply Ne.symm; assumption) | omega) | exact newL_self (by rfl) | exact newF_self (by rfl) | (apply cpyF_a; · first | assumption | (apply Ne.symm; assumption) | omega))) <;> first | assumption | rfl) ?_
    refine wa_callV (pc := 5) (s_X2_nextOf (d := d - 1) (by omega) S0) dX2_go_5 okX2_nextOf q2304 q2305 q2306 (sF_at (by assumption)) rfl rfl rfl (Nat.le_of_ble_eq_true rfl) (Nat.le_of_ble_eq_true rfl) (by omega) ?_
    rintro _ _ - - ⟨rfl, rfl⟩
    refine aft_v (pc2 := 8) ?_ rfl
    refine wa_istore_n (pc := 8) (y := mX2_go) dX2_go_8 (Nat.le_of_ble_eq_true rfl) (by first | rfl | (simp [okst, rf_cat] <;> assumption)) ?_
    change WA _ _ _ _ (List.set _ 1 _) _ _ _
    simp only [List.set_cons_zero, List.set_cons_succ]
    refine wa_iload_n (pc := 9) (y := mX2_go) dX2_go_9 rfl ?_
    refine wa_aloadV_n (pc := 10) (y := mX2_go) dX2_go_10 rfl (by first | exact rf_s _ | exact rf_n | exact rf_q _) ?_
    refine wf_get (k := 1) (l := 8) 0 dX2_go_11 (by assumption) rfl q355 (Or.inl rfl) (Nat.le_of_ble_eq_true rfl) (Nat.le_of_ble_eq_true rfl) (by (repeat (first | exact updF_self _ _ _ _ | (apply updF_i; · decide) | (apply updF_a; · first | assumption | (apply Ne.symm; assumption) | omega) | (apply newF_a; · first | assumption | (apply Ne.symm; assumption) | omega) | exact newL_self (by rfl) | exact newF_self (by rfl) | (apply cpyF_a; · first | assumption | (apply Ne.symm; assumption) | omega))) <;> first | assumption | rfl) ?_
    refine wa_callV (pc := 14) (s_J2_size (d := d - 1) S0.cl) dX2_go_14 okJ2_size q1181 q1145 q1146 (sF_at (by assumption)) rfl rfl rfl (Nat.le_of_ble_eq_true rfl) (Nat.le_of_ble_eq_true rfl) (by omega) ?_
    rintro _ _ - - ⟨rfl, rfl⟩
    refine aft_v (pc2 := 17) ?_ rfl
    refine wa_icmp_ne (pc := 17) 24 dX2_go_17 rfl (fun hb17 => ?_) (fun hb17 => absurd ((iN_eq (by omega) (by omega)).mp hb17) (by omega))
    refine wa_iconst (pc := 24) (y := mX2_go) (Int32.ofNat 0) dX2_go_24 rfl ?_
    refine wa_iconst (pc := 25) (y := mX2_go) (Int32.ofNat 4) dX2_go_25 rfl ?_
    refine wa_callSN (pc := 26) (s_X1_refuse (d := d - 1) (b := false) (by omega)) dX2_go_26 okX1_refuse rfl q1968 q1969 rfl rfl (Nat.le_of_ble_eq_true rfl) (Nat.le_of_ble_eq_true rfl) (by omega) ?_
    rintro r h' - - (⟨-, rfl, rfl⟩ | ⟨hb, -⟩)
    rotate_left
    · cases hb
    refine aft_0 (pc2 := 29) ?_ rfl
    refine wa_aloadV_n (pc := 29) (y := mX2_go) dX2_go_29 rfl (by first | exact rf_s _ | exact rf_n | exact rf_q _) ?_
    refine wa_iload_n (pc := 30) (y := mX2_go) dX2_go_30 rfl ?_
    refine wa_callV (pc := 31) (s_X2_goes (d := d - 1) (k := nxI f (f 2)) (by omega) S0 h8) dX2_go_31 okX2_goes q2290 q2291 q2292 (sF_at (by assumption)) rfl rfl rfl (Nat.le_of_ble_eq_true rfl) (Nat.le_of_ble_eq_true rfl) (by omega) ?_
    rintro _ _ - - ⟨h4, F4, rfl, rfl, fr4, cst4, S4⟩
    refine aft_v (pc2 := 34) ?_ rfl
    have S5 := S4.goN hI h8; have S6 := S5.2; have S6_is := S6.is; have S6_4 := S6.f4; rw [goF_2] at S6_4
    refine wa_pop (pc := 34) (y := mX2_go) dX2_go_34 (by first | rfl | exact rf_cat _) ?_
    refine wa_aloadV_n (pc := 35) (y := mX2_go) dX2_go_35 rfl (by first | exact rf_s _ | exact rf_n | exact rf_q _) ?_
    refine wf_get (k := 1) (l := 8) 4 dX2_go_36 (by assumption) rfl q363 (Or.inl rfl) (Nat.le_of_ble_eq_true rfl) (Nat.le_of_ble_eq_true rfl) (by (repeat (first | exact updF_self _ _ _ _ | (apply updF_i; · decide) | (apply updF_a; · first | assumption | (apply Ne.symm; assumption) | omega) | (apply newF_a; · first | assumption | (apply Ne.symm; assumption) | omega) | exact newL_self (by rfl) | exact newF_self (by rfl) | (apply cpyF_a; · first | assumption | (apply Ne.symm; assumption) | omega))) <;> first | assumption | rfl) ?_
    refine wa_ireturn (pc := 39) (y := mX2_go) .int dX2_go_39 rfl rfl (Or.inr ⟨h8, h4, F4, rfl, rfl, fr4, cst4.mono (by omega), S5⟩)
theorem s_X2_back (hd : 20 ≤ d) (hI : Inv f) (S : ShowN G h F O s A f) : MA G d mX2_back [.ref s] (sF h F) (fun r h' => ip f (f 2) = 0 ∧ RefQ 5 h F r h' ∨ 0 < ip f (f 2) ∧ ∃ (h2 : AH) (F2 : Nat → Nat → Value), r = .inl (some (.int (f (18 + 12 * (ip f (f 2) - 1))))) ∧ h' = sF h2 F2 ∧ Fr (OP O h) h F h2 F2 ∧ Cst 156 h h2 ∧ ShowN G h2 F2 O s A (goF f (f (18 + 12 * (ip f (f 2) - 1))) (ip f (f 2) - 1))) := by
  have S0 := S.2
  have S0_is := S0.is; have S0_0 := S0.f0; have S0_1 := S0.f1; have S0_2 := S0.f2; have S0_3 := S0.f3; have S0_4 := S0.f4; have S0_5 := S0.f5; have S0_6 := S0.f6; have S0_7 := S0.f7; have S0_h := S0.hm; have S0_c := S0.cl.1; have S0_l := S0.fl.1; have S0_m := S0.im.1
  have hn := S0.nlt
  have hnc := S0.nc
  have hle := ip_le f (f 2)
  have k40 : WA G d mX2_back 40 [.ref s, .int (Int32.ofNat (ip f (f 2)))] [] (sF h F) (fun r h' => ip f (f 2) = 0 ∧ RefQ 5 h F r h' ∨ 0 < ip f (f 2) ∧ ∃ (h2 : AH) (F2 : Nat → Nat → Value), r = .inl (some (.int (f (18 + 12 * (ip f (f 2) - 1))))) ∧ h' = sF h2 F2 ∧ Fr (OP O h) h F h2 F2 ∧ Cst 156 h h2 ∧ ShowN G h2 F2 O s A (goF f (f (18 + 12 * (ip f (f 2) - 1))) (ip f (f 2) - 1))) := by
    by_cases h9 : ip f (f 2) = 0
    · refine wa_iload_n (pc := 40) (y := mX2_back) dX2_back_40 rfl ?_
      refine wa_if_ne (pc := 41) 48 dX2_back_41 rfl (fun hb41 => absurd (by rw [h9]; rfl) hb41) (fun hb41 => ?_)
      refine wa_iconst (pc := 44) (y := mX2_back) (Int32.ofNat 1) dX2_back_44 rfl ?_
      refine wa_goto (pc := 45) (y := mX2_back) 49 dX2_back_45 rfl ?_
      refine wa_iconst (pc := 49) (y := mX2_back) (Int32.ofNat 5) dX2_back_49 rfl ?_
      refine wa_callSN (pc := 50) (s_X1_refuse (d := d - 1) (b := true) (by omega)) dX2_back_50 okX1_refuse rfl q1968 q1969 rfl rfl (Nat.le_of_ble_eq_true rfl) (Nat.le_of_ble_eq_true rfl) (by omega) ?_
      rintro r h' - - (⟨hb, -, -⟩ | ⟨-, h2, F2, q, rfl, rfl, fr, cst, iq, vq⟩)
      · cases hb
      exact wax_out (sF_at iq) rfl (fun z hz => by cases hz) (Or.inl ⟨h9, h2, F2, q, rfl, rfl, fr, cst, iq, vq⟩)
    · have h8 : ip f (f 2) - 1 < u (f 0) := by omega
      refine wa_iload_n (pc := 40) (y := mX2_back) dX2_back_40 rfl ?_
      refine wa_if_ne (pc := 41) 48 dX2_back_41 rfl (fun hb41 => ?_) (fun hb41 => absurd ((iN_eq (b := 0) (by omega) (by omega)).mp hb41) h9)
      refine wa_iconst (pc := 48) (y := mX2_back) (Int32.ofNat 0) dX2_back_48 rfl ?_
      refine wa_iconst (pc := 49) (y := mX2_back) (Int32.ofNat 5) dX2_back_49 rfl ?_
      refine wa_callSN (pc := 50) (s_X1_refuse (d := d - 1) (b := false) (by omega)) dX2_back_50 okX1_refuse rfl q1968 q1969 rfl rfl (Nat.le_of_ble_eq_true rfl) (Nat.le_of_ble_eq_true rfl) (by omega) ?_
      rintro r h' - - (⟨-, rfl, rfl⟩ | ⟨hb, -⟩)
      rotate_left
      · cases hb
      refine aft_0 (pc2 := 53) ?_ rfl
      refine wa_aloadV_n (pc := 53) (y := mX2_back) dX2_back_53 rfl (by first | exact rf_s _ | exact rf_n | exact rf_q _) ?_
      refine wa_iload_n (pc := 54) (y := mX2_back) dX2_back_54 rfl ?_
      refine wa_iconst (pc := 55) (y := mX2_back) (Int32.ofNat 1) dX2_back_55 rfl ?_
      refine wa_isub (pc := 56) (y := mX2_back) dX2_back_56 ?_
      rw [iN_sub (show 1 ≤ ip f (f 2) by omega)]
      refine wa_callV (pc := 57) (s_X2_goes (d := d - 1) (k := ip f (f 2) - 1) (by omega) S0 h8) dX2_back_57 okX2_goes q2290 q2291 q2292 (sF_at (by assumption)) rfl rfl rfl (Nat.le_of_ble_eq_true rfl) (Nat.le_of_ble_eq_true rfl) (by omega) ?_
      rintro _ _ - - ⟨h4, F4, rfl, rfl, fr4, cst4, S4⟩
      refine aft_v (pc2 := 60) ?_ rfl
      have S5 := S4.goN hI h8; have S6 := S5.2; have S6_is := S6.is; have S6_4 := S6.f4; rw [goF_2] at S6_4
      refine wa_pop (pc := 60) (y := mX2_back) dX2_back_60 (by first | rfl | exact rf_cat _) ?_
      refine wa_aloadV_n (pc := 61) (y := mX2_back) dX2_back_61 rfl (by first | exact rf_s _ | exact rf_n | exact rf_q _) ?_
      refine wf_get (k := 1) (l := 8) 4 dX2_back_62 (by assumption) rfl q363 (Or.inl rfl) (Nat.le_of_ble_eq_true rfl) (Nat.le_of_ble_eq_true rfl) (by (repeat (first | exact updF_self _ _ _ _ | (apply updF_i; · decide) | (apply updF_a; · first | assumption | (apply Ne.symm; assumption) | omega) | (apply newF_a; · first | assumption | (apply Ne.symm; assumption) | omega) | exact newL_self (by rfl) | exact newF_self (by rfl) | (apply cpyF_a; · first | assumption | (apply Ne.symm; assumption) | omega))) <;> first | assumption | rfl) ?_
      refine wa_ireturn (pc := 65) (y := mX2_back) .int dX2_back_65 rfl rfl (Or.inr ⟨by omega, h4, F4, rfl, rfl, fr4, cst4.mono (by omega), S5⟩)
  have loop : ∀ (t k : Nat), k + t = u (f 0) → ip f (f 2) = ipg f (f 2) t k → WA G d mX2_back 2 [.ref s, .int (Int32.ofNat k)] [] (sF h F) (fun r h' => ip f (f 2) = 0 ∧ RefQ 5 h F r h' ∨ 0 < ip f (f 2) ∧ ∃ (h2 : AH) (F2 : Nat → Nat → Value), r = .inl (some (.int (f (18 + 12 * (ip f (f 2) - 1))))) ∧ h' = sF h2 F2 ∧ Fr (OP O h) h F h2 F2 ∧ Cst 156 h h2 ∧ ShowN G h2 F2 O s A (goF f (f (18 + 12 * (ip f (f 2) - 1))) (ip f (f 2) - 1))) := by
    intro t
    induction t with
    | zero =>
      intro k hk e
      have e : ip f (f 2) = k := e
      refine wa_iload_n (pc := 2) (y := mX2_back) dX2_back_2 rfl ?_
      refine wa_aloadV_n (pc := 3) (y := mX2_back) dX2_back_3 rfl (by first | exact rf_s _ | exact rf_n | exact rf_q _) ?_
      refine wf_get (k := 1) (l := 8) 0 dX2_back_4 (by assumption) rfl q355 (Or.inl rfl) (Nat.le_of_ble_eq_true rfl) (Nat.le_of_ble_eq_true rfl) (by (repeat (first | exact updF_self _ _ _ _ | (apply updF_i; · decide) | (apply updF_a; · first | assumption | (apply Ne.symm; assumption) | omega) | (apply newF_a; · first | assumption | (apply Ne.symm; assumption) | omega) | exact newL_self (by rfl) | exact newF_self (by rfl) | (apply cpyF_a; · first | assumption | (apply Ne.symm; assumption) | omega))) <;> first | assumption | rfl) ?_
      refine wa_callV (pc := 7) (s_J2_size (d := d - 1) S0.cl) dX2_back_7 okJ2_size q1181 q1145 q1146 (sF_at (by assumption)) rfl rfl rfl (Nat.le_of_ble_eq_true rfl) (Nat.le_of_ble_eq_true rfl) (by omega) ?_
      rintro _ _ - - ⟨rfl, rfl⟩
      refine aft_v (pc2 := 10) ?_ rfl
      refine wa_icmp_ge (pc := 10) 40 dX2_back_10 rfl (fun hb10 => ?_) (fun hb10 => absurd ((iN_le (by omega) (by omega)).mpr (by omega)) hb10)
      rw [← e]; exact k40
    | succ t ih =>
      intro k hk e
      obtain ⟨a, ha⟩ := S0.cu (k := k) (by omega)
      have C := S0.cue k a ha
      have c1 := C.1
      have c2 := C.2.2.1
      refine wa_iload_n (pc := 2) (y := mX2_back) dX2_back_2 rfl ?_
      refine wa_aloadV_n (pc := 3) (y := mX2_back) dX2_back_3 rfl (by first | exact rf_s _ | exact rf_n | exact rf_q _) ?_
      refine wf_get (k := 1) (l := 8) 0 dX2_back_4 (by assumption) rfl q355 (Or.inl rfl) (Nat.le_of_ble_eq_true rfl) (Nat.le_of_ble_eq_true rfl) (by (repeat (first | exact updF_self _ _ _ _ | (apply updF_i; · decide) | (apply updF_a; · first | assumption | (apply Ne.symm; assumption) | omega) | (apply newF_a; · first | assumption | (apply Ne.symm; assumption) | omega) | exact newL_self (by rfl) | exact newF_self (by rfl) | (apply cpyF_a; · first | assumption | (apply Ne.symm; assumption) | omega))) <;> first | assumption | rfl) ?_
      refine wa_callV (pc := 7) (s_J2_size (d := d - 1) S0.cl) dX2_back_7 okJ2_size q1181 q1145 q1146 (sF_at (by assumption)) rfl rfl rfl (Nat.le_of_ble_eq_true rfl) (Nat.le_of_ble_eq_true rfl) (by omega) ?_
      rintro _ _ - - ⟨rfl, rfl⟩
      refine aft_v (pc2 := 10) ?_ rfl
      refine wa_icmp_ge (pc := 10) 40 dX2_back_10 rfl (fun hb10 => absurd ((iN_le (by omega) (by omega)).mp hb10) (by omega)) (fun hb10 => ?_)
      refine wa_aloadV_n (pc := 13) (y := mX2_back) dX2_back_13 rfl (by first | exact rf_s _ | exact rf_n | exact rf_q _) ?_
      refine wf_get (k := 1) (l := 8) 0 dX2_back_14 (by assumption) rfl q355 (Or.inl rfl) (Nat.le_of_ble_eq_true rfl) (Nat.le_of_ble_eq_true rfl) (by (repeat (first | exact updF_self _ _ _ _ | (apply updF_i; · decide) | (apply updF_a; · first | assumption | (apply Ne.symm; assumption) | omega) | (apply newF_a; · first | assumption | (apply Ne.symm; assumption) | omega) | exact newL_self (by rfl) | exact newF_self (by rfl) | (apply cpyF_a; · first | assumption | (apply Ne.symm; assumption) | omega))) <;> first | assumption | rfl) ?_
      refine wa_iload_n (pc := 17) (y := mX2_back) dX2_back_17 rfl ?_
      refine wa_callV (pc := 18) (s_J2_get (d := d - 1) (by omega) S0.cl ha) dX2_back_18 okJ2_get q416 q417 q418 (sF_at (by assumption)) rfl rfl rfl (Nat.le_of_ble_eq_true rfl) (Nat.le_of_ble_eq_true rfl) (by omega) ?_
      rintro _ _ - - ⟨rfl, rfl⟩
      refine aft_v (pc2 := 21) ?_ rfl
      refine wa_castS (pc := 21) (y := mX2_back) (k := 6) dX2_back_21 (sF_at (by assumption)) rfl q430 ?_
      refine wf_getN (k := 6) (l := 6) 0 dX2_back_24 (by assumption) rfl q1193 (Or.inl rfl) (Nat.le_of_ble_eq_true rfl) (Nat.le_of_ble_eq_true rfl) (by (repeat (first | exact updF_self _ _ _ _ | (apply updF_i; · decide) | (apply updF_a; · first | assumption | (apply Ne.symm; assumption) | omega) | (apply newF_a; · first | assumption | (apply Ne.symm; assumption) | omega) | exact newL_self (by rfl) | exact newF_self (by rfl) | (apply cpyF_a; · first | assumption | (apply Ne.symm; assumption) | omega))) <;> first | assumption | rfl) ?_
      refine wa_aloadV_n (pc := 27) (y := mX2_back) dX2_back_27 rfl (by first | exact rf_s _ | exact rf_n | exact rf_q _) ?_
      refine wf_get (k := 1) (l := 8) 4 dX2_back_28 (by assumption) rfl q363 (Or.inl rfl) (Nat.le_of_ble_eq_true rfl) (Nat.le_of_ble_eq_true rfl) (by (repeat (first | exact updF_self _ _ _ _ | (apply updF_i; · decide) | (apply updF_a; · first | assumption | (apply Ne.symm; assumption) | omega) | (apply newF_a; · first | assumption | (apply Ne.symm; assumption) | omega) | exact newL_self (by rfl) | exact newF_self (by rfl) | (apply cpyF_a; · first | assumption | (apply Ne.symm; assumption) | omega))) <;> first | assumption | rfl) ?_
      refine wa_icmp_ge (pc := 31) 40 dX2_back_31 rfl (fun hb31 => ?_) (fun hb31 => ?_)
      · have e9 : ip f (f 2) = k := by rw [e]; unfold ipg; rw [if_neg (Int32.not_lt.mpr hb31)]
        rw [← e9]; exact k40
      · refine wa_iincN (pc := 34) (y := mX2_back) dX2_back_34 rfl (Nat.le_of_ble_eq_true rfl) (by first | rfl | (simp [okst, rf_cat] <;> assumption)) ?_
        simp only [List.set_cons_zero, List.set_cons_succ]
        refine wa_goto (pc := 37) (y := mX2_back) 2 dX2_back_37 rfl ?_
        exact ih (k + 1) (by omega) (by rw [e]; conv => lhs; unfold ipg; rw [if_pos (Int32.not_le.mp hb31)])
  change WA G d mX2_back 0 [.ref s, .retAddr 0] [] _ _
  refine wa_iconst (pc := 0) (y := mX2_back) (Int32.ofNat 0) dX2_back_0 rfl ?_
  refine wa_istore_n (pc := 1) (y := mX2_back) dX2_back_1 (Nat.le_of_ble_eq_true rfl) (by first | rfl | (simp [okst, rf_cat] <;> assumption)) ?_
  change WA _ _ _ _ (List.set _ 1 _) _ _ _
  simp only [List.set_cons_zero, List.set_cons_succ]
  exact loop (u (f 0)) 0 (by omega) rfl
end GOS
