/-! ===== CueStack: sums and chains (written by tools/gen9g.py) ===== -/
section OPS7
variable {G : GG} {d n N : Nat} {h h2 h3 : AH} {F F2 F3 : Nat → Nat → Value} {own own2 own3 : Nat → Option Nat} {x s s1 s2 k i j m p q c a e kd : Nat} {C C2 : CA} {f f2 g : Nat → Int32} {σ σ2 : MS} {P O : Nat → Prop} {r : RR} {h' : AH} {A : SA} {v w z : Int32} {b : Bool} {ks : List Nat} {oo : OO}
theorem OpQ.rdv {N2 : Nat} (ch : Ch N2 h F own h2 F2 own2) (R : CompR G h2 F2 own2 x C f σ) (fr : Fr NoP h2 F2 h3 F3) (cst : Cst N h2 h3) (hN : N2 + N ≤ 45000) (ho : oo.1 = 0) (hv : oo.2.1 = v) (hf : oo.2.2.1 = f) (hs : SgE σ oo.2.2.2) : OpQ G h F own x ks oo (.inl (some (.int v))) (sF h3 F3) := by
  obtain ⟨own3, t3, R3⟩ := R.rd fr
  exact OpQ.val (ch.trans (Ch.rd fr cst t3)) hN R3 ho hv hf hs
theorem s_X1_sum (hd : 20 ≤ d) (R : CompR G h F own x C f σ) : MA G d mX1_sum [.ref x, .int v] (sF h F) (OpQ G h F own x [25] (O_sum f σ v)) := by
  have i1 := R.is
  have e0 := R.f0
  have e2 := R.f2
  have k1 := R.sh.is
  have p1 := R.pa.1
  obtain ⟨gf, A, h60, S⟩ := id R.sh
  have h12 := gf.1.1
  have x0 := S.f0
  have x2 := S.f2
  have x3 := S.f3
  have x7 := S.f7
  have xh := S.hm
  have xc := S.cl.1
  have xl := S.fl.1
  have ch := Ch.refl (F := F) R.ob
  change WA G d mX1_sum 0 [.ref x, .int v, .retAddr 0, .retAddr 0, .retAddr 0] [] _ _
  cases hpl : pl f v with
  | none =>
    have hO : O_sum f σ v = oX f σ 1 := by unfold O_sum; rw [hpl]
    refine wa_aloadV_n (pc := 0) (y := mX1_sum) dX1_sum_0 rfl (by first | exact rf_s _ | exact rf_n | exact rf_q _) ?_
    refine wf_get (k := 0) (l := 9) 0 dX1_sum_1 (by assumption) rfl q1111 (Or.inl rfl) (Nat.le_of_ble_eq_true rfl) (Nat.le_of_ble_eq_true rfl) (by (repeat (first | exact updF_self _ _ _ _ | (apply updF_i; · decide) | (apply updF_a; · first | assumption | (apply Ne.symm; assumption) | omega) | (apply newF_a; · first | assumption | (apply Ne.symm; assumption) | omega) | exact newL_self (by rfl) | exact newF_self (by rfl) | (apply cpyF_a; · first | assumption | (apply Ne.symm; assumption) | omega))) <;> first | assumption | rfl) ?_
    refine wa_iload_n (pc := 4) (y := mX1_sum) dX1_sum_4 rfl ?_
    refine wa_callV (pc := 5) (s_X2_index (d := d - 1) (v := v) (by omega) S) dX1_sum_5 okX2_index q1829 q1830 q1831 (sF_at (by assumption)) rfl rfl rfl (Nat.le_of_ble_eq_true rfl) (Nat.le_of_ble_eq_true rfl) (by omega) ?_
    rintro r h' - - (⟨p, hp, -⟩ | ⟨-, T⟩)
    · rw [hpl] at hp; cases hp
    exact T.after ⟨_, rfl⟩ rfl fun h3 F3 q fr cst iq => OpQ.thr ch (by omega) R fr cst iq (by rw [hO]; exact Nat.succ_ne_zero _) (by rw [hO]; rfl) (by rw [hO]; rfl) (by rw [hO]; exact SgE.v7)
  | some p =>
    have hp := (pl_some hpl).1
    have hO : O_sum f σ v = oR f σ (smN (fun c => lvN f c (p + 1)) 12) := by unfold O_sum; rw [hpl]
    have loop : ∀ (m c : Nat) (h2 : AH) (F2 : Nat → Nat → Value), c + m = 12 → Fr NoP h F h2 F2 → Cst (c * 13) h h2 → WA G d mX1_sum 14 [.ref x, .int v, .int (Int32.ofNat p), .int (smN (fun c => lvN f c (p + 1)) c), .int (Int32.ofNat c)] [] (sF h2 F2) (OpQ G h F own x [25] (O_sum f σ v)) := by
      intro m
      induction m with
      | zero =>
        intro c h2 F2 hc fr cst
        have hc : c = 12 := hc
        subst hc
        refine wa_iload (pc := 14) (y := mX1_sum) dX1_sum_14 rfl ?_
        refine wa_bipush (pc := 16) (y := mX1_sum) (Int32.ofNat 12) dX1_sum_16 rfl ?_
        refine wa_icmp_ge (pc := 18) 40 dX1_sum_18 rfl (fun hb18 => ?_) (fun hb18 => absurd ((iN_le (by omega) (by omega)).mpr (Nat.le_refl 12)) hb18)
        refine wa_iload_n (pc := 40) (y := mX1_sum) dX1_sum_40 rfl ?_
        refine wa_ireturn (pc := 41) (y := mX1_sum) .int dX1_sum_41 rfl rfl (OpQ.rdv ch R fr cst (by omega) (by rw [hO]; rfl) (by rw [hO]; rfl) (by rw [hO]; rfl) (by rw [hO]; exact SgE.v7))
      | succ m ih =>
        intro c h2 F2 hc fr cst
        obtain ⟨own2, t2, R2⟩ := R.rd fr
        have j1 := R2.is
        have j2 := R2.f0
        obtain ⟨gf2, A2, h602, S2⟩ := id R2.sh
        have j3 := S2.is
        refine wa_iload (pc := 14) (y := mX1_sum) dX1_sum_14 rfl ?_
        refine wa_bipush (pc := 16) (y := mX1_sum) (Int32.ofNat 12) dX1_sum_16 rfl ?_
        refine wa_icmp_ge (pc := 18) 40 dX1_sum_18 rfl (fun hb18 => absurd ((iN_le (by omega) (by omega)).mp hb18) (by omega)) (fun hb18 => ?_)
        refine wa_iload_n (pc := 21) (y := mX1_sum) dX1_sum_21 rfl ?_
        refine wa_aloadV_n (pc := 22) (y := mX1_sum) dX1_sum_22 rfl (by first | exact rf_s _ | exact rf_n | exact rf_q _) ?_
        refine wf_get (k := 0) (l := 9) 0 dX1_sum_23 (by assumption) rfl q1111 (Or.inl rfl) (Nat.le_of_ble_eq_true rfl) (Nat.le_of_ble_eq_true rfl) (by (repeat (first | exact updF_self _ _ _ _ | (apply updF_i; · decide) | (apply updF_a; · first | assumption | (apply Ne.symm; assumption) | omega) | (apply newF_a; · first | assumption | (apply Ne.symm; assumption) | omega) | exact newL_self (by rfl) | exact newF_self (by rfl) | (apply cpyF_a; · first | assumption | (apply Ne.symm; assumption) | omega))) <;> first | assumption | rfl) ?_
        refine wa_iload_n (pc := 26) (y := mX1_sum) dX1_sum_26 rfl ?_
        refine wa_iload (pc := 27) (y := mX1_sum) dX1_sum_27 rfl ?_
        refine wa_callV (pc := 29) (s_X2_level (d := d - 1) (k := p) (c := c) (by omega) S2 hp (by omega)) dX1_sum_29 okX2_level q406 q407 q408 (sF_at (by assumption)) rfl rfl rfl (Nat.le_of_ble_eq_true rfl) (Nat.le_of_ble_eq_true rfl) (by omega) ?_
        rintro _ _ - - ⟨h3, F3, rfl, rfl, fr3, cst3⟩
        refine aft_v (pc2 := 32) ?_ rfl
        first | with_reducible refine wa_iaddN (pc := 32) (y := mX1_sum) dX1_sum_32 ?_ | refine wa_iadd (pc := 32) (y := mX1_sum) dX1_sum_32 ?_
        refine wa_istore_n (pc := 33) (y := mX1_sum) dX1_sum_33 (Nat.le_of_ble_eq_true rfl) (by first | rfl | (simp [okst, rf_cat] <;> assumption)) ?_
        change WA _ _ _ _ (List.set _ 3 _) _ _ _
        simp only [List.set_cons_zero, List.set_cons_succ]
        refine wa_iincN (pc := 34) (y := mX1_sum) dX1_sum_34 rfl (Nat.le_of_ble_eq_true rfl) (by first | rfl | (simp [okst, rf_cat] <;> assumption)) ?_
        simp only [List.set_cons_zero, List.set_cons_succ]
        refine wa_goto (pc := 37) (y := mX1_sum) 14 dX1_sum_37 rfl ?_
        exact ih (c + 1) h3 F3 (by omega) (fr.trans fr3 fun _ _ q => q) ((cst.trans cst3).mono (by omega))
    refine wa_aloadV_n (pc := 0) (y := mX1_sum) dX1_sum_0 rfl (by first | exact rf_s _ | exact rf_n | exact rf_q _) ?_
    refine wf_get (k := 0) (l := 9) 0 dX1_sum_1 (by assumption) rfl q1111 (Or.inl rfl) (Nat.le_of_ble_eq_true rfl) (Nat.le_of_ble_eq_true rfl) (by (repeat (first | exact updF_self _ _ _ _ | (apply updF_i; · decide) | (apply updF_a; · first | assumption | (apply Ne.symm; assumption) | omega) | (apply newF_a; · first | assumption | (apply Ne.symm; assumption) | omega) | exact newL_self (by rfl) | exact newF_self (by rfl) | (apply cpyF_a; · first | assumption | (apply Ne.symm; assumption) | omega))) <;> first | assumption | rfl) ?_
    refine wa_iload_n (pc := 4) (y := mX1_sum) dX1_sum_4 rfl ?_
    refine wa_callV (pc := 5) (s_X2_index (d := d - 1) (v := v) (by omega) S) dX1_sum_5 okX2_index q1829 q1830 q1831 (sF_at (by assumption)) rfl rfl rfl (Nat.le_of_ble_eq_true rfl) (Nat.le_of_ble_eq_true rfl) (by omega) ?_
    rintro r h' - - (⟨p3, hp3, rfl, rfl⟩ | ⟨hp3, -⟩)
    rotate_left
    · rw [hpl] at hp3; cases hp3
    rw [hpl] at hp3; cases hp3
    refine aft_v (pc2 := 8) ?_ rfl
    refine wa_istore_n (pc := 8) (y := mX1_sum) dX1_sum_8 (Nat.le_of_ble_eq_true rfl) (by first | rfl | (simp [okst, rf_cat] <;> assumption)) ?_
    change WA _ _ _ _ (List.set _ 2 _) _ _ _
    simp only [List.set_cons_zero, List.set_cons_succ]
    refine wa_iconst (pc := 9) (y := mX1_sum) (Int32.ofNat 0) dX1_sum_9 rfl ?_
    refine wa_istore_n (pc := 10) (y := mX1_sum) dX1_sum_10 (Nat.le_of_ble_eq_true rfl) (by first | rfl | (simp [okst, rf_cat] <;> assumption)) ?_
    change WA _ _ _ _ (List.set _ 3 _) _ _ _
    simp only [List.set_cons_zero, List.set_cons_succ]
    refine wa_iconst (pc := 11) (y := mX1_sum) (Int32.ofNat 0) dX1_sum_11 rfl ?_
    refine wa_istore (pc := 12) (y := mX1_sum) dX1_sum_12 (Nat.le_of_ble_eq_true rfl) (by first | rfl | (simp [okst, rf_cat] <;> assumption)) ?_
    simp only [List.set_cons_zero, List.set_cons_succ]
    exact loop 12 0 h F (by omega) Fr.refl (Cst.refl.mono (Nat.zero_le _))
theorem s_X1_chain (hd : 8 ≤ d) (R : CompR G h F own x C f σ) : MA G d mX1_chain [.ref x, .int v] (sF h F) (OpQ G h F own x [25] (O_chain f σ v)) := by
  have i1 := R.is
  have e0 := R.f0
  have e2 := R.f2
  have k1 := R.sh.is
  have p1 := R.pa.1
  obtain ⟨gf, A, h60, S⟩ := id R.sh
  have h12 := gf.1.1
  have x0 := S.f0
  have x2 := S.f2
  have x3 := S.f3
  have x7 := S.f7
  have xh := S.hm
  have xc := S.cl.1
  have xl := S.fl.1
  have ch := Ch.refl (F := F) R.ob
  have hnc := S.nc
  change WA G d mX1_chain 0 [.ref x, .int v, .retAddr 0, .retAddr 0] [] _ _
  cases hpl : pl f v with
  | none =>
    have hO : O_chain f σ v = oX f σ 1 := by unfold O_chain; rw [hpl]
    refine wa_iconst (pc := 0) (y := mX1_chain) (Int32.ofNat 0) dX1_chain_0 rfl ?_
    refine wa_istore_n (pc := 1) (y := mX1_chain) dX1_chain_1 (Nat.le_of_ble_eq_true rfl) (by first | rfl | (simp [okst, rf_cat] <;> assumption)) ?_
    change WA _ _ _ _ (List.set _ 2 _) _ _ _
    simp only [List.set_cons_zero, List.set_cons_succ]
    refine wa_aloadV_n (pc := 2) (y := mX1_chain) dX1_chain_2 rfl (by first | exact rf_s _ | exact rf_n | exact rf_q _) ?_
    refine wf_get (k := 0) (l := 9) 0 dX1_chain_3 (by assumption) rfl q1111 (Or.inl rfl) (Nat.le_of_ble_eq_true rfl) (Nat.le_of_ble_eq_true rfl) (by (repeat (first | exact updF_self _ _ _ _ | (apply updF_i; · decide) | (apply updF_a; · first | assumption | (apply Ne.symm; assumption) | omega) | (apply newF_a; · first | assumption | (apply Ne.symm; assumption) | omega) | exact newL_self (by rfl) | exact newF_self (by rfl) | (apply cpyF_a; · first | assumption | (apply Ne.symm; assumption) | omega))) <;> first | assumption | rfl) ?_
    refine wa_iload_n (pc := 6) (y := mX1_chain) dX1_chain_6 rfl ?_
    refine wa_callV (pc := 7) (s_X2_index (d := d - 1) (v := v) (by omega) S) dX1_chain_7 okX2_index q1829 q1830 q1831 (sF_at (by assumption)) rfl rfl rfl (Nat.le_of_ble_eq_true rfl) (Nat.le_of_ble_eq_true rfl) (by omega) ?_
    rintro r h' - - (⟨p, hp, -⟩ | ⟨-, T⟩)
    · rw [hpl] at hp; cases hp
    exact T.after ⟨_, rfl⟩ rfl fun h3 F3 q fr cst iq => OpQ.thr ch (by omega) R fr cst iq (by rw [hO]; exact Nat.succ_ne_zero _) (by rw [hO]; rfl) (by rw [hO]; rfl) (by rw [hO]; exact SgE.v7)
  | some p =>
    have hp := (pl_some hpl).1
    have hO : O_chain f σ v = oR f σ (chG f 12 p 0) := by unfold O_chain; rw [hpl]
    have loop : ∀ (t q : Nat) (a : Int32), u (f 0) ≤ q + t → q < u (f 0) → chG f t q a = chG f 12 p 0 → WA G d mX1_chain 11 [.ref x, .int v, .int a, .int (Int32.ofNat q)] [] (sF h F) (OpQ G h F own x [25] (O_chain f σ v)) := by
      intro t
      induction t with
      | zero => intro q a h1 h2; omega
      | succ t ih =>
        intro q a h1 h2 e
        obtain ⟨y, hy⟩ := S.cu h2
        have Cc := S.cue q y hy
        have c1 := Cc.1
        have c3 := Cc.2.2.2.2.2.1
        have hfo := (gf.1.2.2.2.2.1 q h2).2.1
        by_cases h3 : q + 1 < u (f 0)
        · by_cases h4 : f (18 + 12 * q + 1) = -1
          · have e2 : chG f (t + 1) q a = a := if_neg (fun q => by rw [h4] at q; exact absurd q.1 (by decide))
            refine wa_iload_n (pc := 11) (y := mX1_chain) dX1_chain_11 rfl ?_
            refine wa_iconst (pc := 12) (y := mX1_chain) (Int32.ofNat 1) dX1_chain_12 rfl ?_
            first | with_reducible refine wa_iaddN (pc := 13) (y := mX1_chain) dX1_chain_13 ?_ | refine wa_iadd (pc := 13) (y := mX1_chain) dX1_chain_13 ?_
            refine wa_aloadV_n (pc := 14) (y := mX1_chain) dX1_chain_14 rfl (by first | exact rf_s _ | exact rf_n | exact rf_q _) ?_
            refine wf_get (k := 0) (l := 9) 0 dX1_chain_15 (by assumption) rfl q1111 (Or.inl rfl) (Nat.le_of_ble_eq_true rfl) (Nat.le_of_ble_eq_true rfl) (by (repeat (first | exact updF_self _ _ _ _ | (apply updF_i; · decide) | (apply updF_a; · first | assumption | (apply Ne.symm; assumption) | omega) | (apply newF_a; · first | assumption | (apply Ne.symm; assumption) | omega) | exact newL_self (by rfl) | exact newF_self (by rfl) | (apply cpyF_a; · first | assumption | (apply Ne.symm; assumption) | omega))) <;> first | assumption | rfl) ?_
            refine wf_getN (k := 1) (l := 8) 0 dX1_chain_18 (by assumption) rfl q356 (Or.inl rfl) (Nat.le_of_ble_eq_true rfl) (Nat.le_of_ble_eq_true rfl) (by (repeat (first | exact updF_self _ _ _ _ | (apply updF_i; · decide) | (apply updF_a; · first | assumption | (apply Ne.symm; assumption) | omega) | (apply newF_a; · first | assumption | (apply Ne.symm; assumption) | omega) | exact newL_self (by rfl) | exact newF_self (by rfl) | (apply cpyF_a; · first | assumption | (apply Ne.symm; assumption) | omega))) <;> first | assumption | rfl) ?_
            refine wa_callV (pc := 21) (s_J2_size (d := d - 1) S.cl) dX1_chain_21 okJ2_size q1144 q1145 q1146 (sF_at (by assumption)) rfl rfl rfl (Nat.le_of_ble_eq_true rfl) (Nat.le_of_ble_eq_true rfl) (by omega) ?_
            rintro _ _ - - ⟨rfl, rfl⟩
            refine aft_v (pc2 := 24) ?_ rfl
            refine wa_icmp_ge (pc := 24) 74 dX1_chain_24 rfl (fun hb24 => absurd ((iN_le (by omega) (by omega)).mp hb24) (by omega)) (fun hb24 => ?_)
            refine wa_aloadV_n (pc := 27) (y := mX1_chain) dX1_chain_27 rfl (by first | exact rf_s _ | exact rf_n | exact rf_q _) ?_
            refine wf_get (k := 0) (l := 9) 0 dX1_chain_28 (by assumption) rfl q1111 (Or.inl rfl) (Nat.le_of_ble_eq_true rfl) (Nat.le_of_ble_eq_true rfl) (by (repeat (first | exact updF_self _ _ _ _ | (apply updF_i; · decide) | (apply updF_a; · first | assumption | (apply Ne.symm; assumption) | omega) | (apply newF_a; · first | assumption | (apply Ne.symm; assumption) | omega) | exact newL_self (by rfl) | exact newF_self (by rfl) | (apply cpyF_a; · first | assumption | (apply Ne.symm; assumption) | omega))) <;> first | assumption | rfl) ?_
            refine wf_getN (k := 1) (l := 8) 0 dX1_chain_31 (by assumption) rfl q356 (Or.inl rfl) (Nat.le_of_ble_eq_true rfl) (Nat.le_of_ble_eq_true rfl) (by (repeat (first | exact updF_self _ _ _ _ | (apply updF_i; · decide) | (apply updF_a; · first | assumption | (apply Ne.symm; assumption) | omega) | (apply newF_a; · first | assumption | (apply Ne.symm; assumption) | omega) | exact newL_self (by rfl) | exact newF_self (by rfl) | (apply cpyF_a; · first | assumption | (apply Ne.symm; assumption) | omega))) <;> first | assumption | rfl) ?_
            refine wa_iload_n (pc := 34) (y := mX1_chain) dX1_chain_34 rfl ?_
            refine wa_callV (pc := 35) (s_J2_get (d := d - 1) (by omega) S.cl hy) dX1_chain_35 okJ2_get q1164 q417 q418 (sF_at (by assumption)) rfl rfl rfl (Nat.le_of_ble_eq_true rfl) (Nat.le_of_ble_eq_true rfl) (by omega) ?_
            rintro _ _ - - ⟨rfl, rfl⟩
            refine aft_v (pc2 := 38) ?_ rfl
            refine wa_castS (pc := 38) (y := mX1_chain) (k := 6) dX1_chain_38 (sF_at (by assumption)) rfl q2026 ?_
            refine wf_getN (k := 6) (l := 6) 3 dX1_chain_41 (by assumption) rfl q1202 (Or.inl rfl) (Nat.le_of_ble_eq_true rfl) (Nat.le_of_ble_eq_true rfl) (by (repeat (first | exact updF_self _ _ _ _ | (apply updF_i; · decide) | (apply updF_a; · first | assumption | (apply Ne.symm; assumption) | omega) | (apply newF_a; · first | assumption | (apply Ne.symm; assumption) | omega) | exact newL_self (by rfl) | exact newF_self (by rfl) | (apply cpyF_a; · first | assumption | (apply Ne.symm; assumption) | omega))) <;> first | assumption | rfl) ?_
            refine wa_iconst (pc := 44) (y := mX1_chain) (-1) dX1_chain_44 rfl ?_
            refine wa_icmp_eq (pc := 45) 74 dX1_chain_45 rfl (fun hb45 => ?_) (fun hb45 => absurd h4 hb45)
            refine wa_iload_n (pc := 74) (y := mX1_chain) dX1_chain_74 rfl ?_
            refine wa_ireturn (pc := 75) (y := mX1_chain) .int dX1_chain_75 rfl rfl (OpQ.val ch (by omega) R (by rw [hO]; rfl) (by rw [hO, ← e, e2]; rfl) (by rw [hO]; rfl) (by rw [hO]; exact SgE.v7))
          · have e2 : chG f (t + 1) q a = chG f t (q + 1) (a + f (18 + 12 * q + 1)) := if_pos ⟨Int32.lt_of_lt_of_le (by decide) (hfo.resolve_left h4), h3⟩
            refine wa_iload_n (pc := 11) (y := mX1_chain) dX1_chain_11 rfl ?_
            refine wa_iconst (pc := 12) (y := mX1_chain) (Int32.ofNat 1) dX1_chain_12 rfl ?_
            first | with_reducible refine wa_iaddN (pc := 13) (y := mX1_chain) dX1_chain_13 ?_ | refine wa_iadd (pc := 13) (y := mX1_chain) dX1_chain_13 ?_
            refine wa_aloadV_n (pc := 14) (y := mX1_chain) dX1_chain_14 rfl (by first | exact rf_s _ | exact rf_n | exact rf_q _) ?_
            refine wf_get (k := 0) (l := 9) 0 dX1_chain_15 (by assumption) rfl q1111 (Or.inl rfl) (Nat.le_of_ble_eq_true rfl) (Nat.le_of_ble_eq_true rfl) (by (repeat (first | exact updF_self _ _ _ _ | (apply updF_i; · decide) | (apply updF_a; · first | assumption | (apply Ne.symm; assumption) | omega) | (apply newF_a; · first | assumption | (apply Ne.symm; assumption) | omega) | exact newL_self (by rfl) | exact newF_self (by rfl) | (apply cpyF_a; · first | assumption | (apply Ne.symm; assumption) | omega))) <;> first | assumption | rfl) ?_
            refine wf_getN (k := 1) (l := 8) 0 dX1_chain_18 (by assumption) rfl q356 (Or.inl rfl) (Nat.le_of_ble_eq_true rfl) (Nat.le_of_ble_eq_true rfl) (by (repeat (first | exact updF_self _ _ _ _ | (apply updF_i; · decide) | (apply updF_a; · first | assumption | (apply Ne.symm; assumption) | omega) | (apply newF_a; · first | assumption | (apply Ne.symm; assumption) | omega) | exact newL_self (by rfl) | exact newF_self (by rfl) | (apply cpyF_a; · first | assumption | (apply Ne.symm; assumption) | omega))) <;> first | assumption | rfl) ?_
            refine wa_callV (pc := 21) (s_J2_size (d := d - 1) S.cl) dX1_chain_21 okJ2_size q1144 q1145 q1146 (sF_at (by assumption)) rfl rfl rfl (Nat.le_of_ble_eq_true rfl) (Nat.le_of_ble_eq_true rfl) (by omega) ?_
            rintro _ _ - - ⟨rfl, rfl⟩
            refine aft_v (pc2 := 24) ?_ rfl
            refine wa_icmp_ge (pc := 24) 74 dX1_chain_24 rfl (fun hb24 => absurd ((iN_le (by omega) (by omega)).mp hb24) (by omega)) (fun hb24 => ?_)
            refine wa_aloadV_n (pc := 27) (y := mX1_chain) dX1_chain_27 rfl (by first | exact rf_s _ | exact rf_n | exact rf_q _) ?_
            refine wf_get (k := 0) (l := 9) 0 dX1_chain_28 (by assumption) rfl q1111 (Or.inl rfl) (Nat.le_of_ble_eq_true rfl) (Nat.le_of_ble_eq_true rfl) (by (repeat (first | exact updF_self _ _ _ _ | (apply updF_i; · decide) | (apply updF_a; · first | assumption | (apply Ne.symm; assumption) | omega) | (apply newF_a; · first | assumption | (apply Ne.symm; assumption) | omega) | exact newL_self (by rfl) | exact newF_self (by rfl) | (apply cpyF_a; · first | assumption | (apply Ne.symm; assumption) | omega))) <;> first | assumption | rfl) ?_
            refine wf_getN (k := 1) (l := 8) 0 dX1_chain_31 (by assumption) rfl q356 (Or.inl rfl) (Nat.le_of_ble_eq_true rfl) (Nat.le_of_ble_eq_true rfl) (by (repeat (first | exact updF_self _ _ _ _ | (apply updF_i; · decide) | (apply updF_a; · first | assumption | (apply Ne.symm; assumption) | omega) | (apply newF_a; · first | assumption | (apply Ne.symm; assumption) | omega) | exact newL_self (by rfl) | exact newF_self (by rfl) | (apply cpyF_a; · first | assumption | (apply Ne.symm; assumption) | omega))) <;> first | assumption | rfl) ?_
            refine wa_iload_n (pc := 34) (y := mX1_chain) dX1_chain_34 rfl ?_
            refine wa_callV (pc := 35) (s_J2_get (d := d - 1) (by omega) S.cl hy) dX1_chain_35 okJ2_get q1164 q417 q418 (sF_at (by assumption)) rfl rfl rfl (Nat.le_of_ble_eq_true rfl) (Nat.le_of_ble_eq_true rfl) (by omega) ?_
            rintro _ _ - - ⟨rfl, rfl⟩
            refine aft_v (pc2 := 38) ?_ rfl
            refine wa_castS (pc := 38) (y := mX1_chain) (k := 6) dX1_chain_38 (sF_at (by assumption)) rfl q2026 ?_
            refine wf_getN (k := 6) (l := 6) 3 dX1_chain_41 (by assumption) rfl q1202 (Or.inl rfl) (Nat.le_of_ble_eq_true rfl) (Nat.le_of_ble_eq_true rfl) (by (repeat (first | exact updF_self _ _ _ _ | (apply updF_i; · decide) | (apply updF_a; · first | assumption | (apply Ne.symm; assumption) | omega) | (apply newF_a; · first | assumption | (apply Ne.symm; assumption) | omega) | exact newL_self (by rfl) | exact newF_self (by rfl) | (apply cpyF_a; · first | assumption | (apply Ne.symm; assumption) | omega))) <;> first | assumption | rfl) ?_
            refine wa_iconst (pc := 44) (y := mX1_chain) (-1) dX1_chain_44 rfl ?_
            refine wa_icmp_eq (pc := 45) 74 dX1_chain_45 rfl (fun hb45 => absurd hb45 h4) (fun hb45 => ?_)
            refine wa_iload_n (pc := 48) (y := mX1_chain) dX1_chain_48 rfl ?_
            refine wa_aloadV_n (pc := 49) (y := mX1_chain) dX1_chain_49 rfl (by first | exact rf_s _ | exact rf_n | exact rf_q _) ?_
            refine wf_get (k := 0) (l := 9) 0 dX1_chain_50 (by assumption) rfl q1111 (Or.inl rfl) (Nat.le_of_ble_eq_true rfl) (Nat.le_of_ble_eq_true rfl) (by (repeat (first | exact updF_self _ _ _ _ | (apply updF_i; · decide) | (apply updF_a; · first | assumption | (apply Ne.symm; assumption) | omega) | (apply newF_a; · first | assumption | (apply Ne.symm; assumption) | omega) | exact newL_self (by rfl) | exact newF_self (by rfl) | (apply cpyF_a; · first | assumption | (apply Ne.symm; assumption) | omega))) <;> first | assumption | rfl) ?_
            refine wf_getN (k := 1) (l := 8) 0 dX1_chain_53 (by assumption) rfl q356 (Or.inl rfl) (Nat.le_of_ble_eq_true rfl) (Nat.le_of_ble_eq_true rfl) (by (repeat (first | exact updF_self _ _ _ _ | (apply updF_i; · decide) | (apply updF_a; · first | assumption | (apply Ne.symm; assumption) | omega) | (apply newF_a; · first | assumption | (apply Ne.symm; assumption) | omega) | exact newL_self (by rfl) | exact newF_self (by rfl) | (apply cpyF_a; · first | assumption | (apply Ne.symm; assumption) | omega))) <;> first | assumption | rfl) ?_
            refine wa_iload_n (pc := 56) (y := mX1_chain) dX1_chain_56 rfl ?_
            refine wa_callV (pc := 57) (s_J2_get (d := d - 1) (by omega) S.cl hy) dX1_chain_57 okJ2_get q1164 q417 q418 (sF_at (by assumption)) rfl rfl rfl (Nat.le_of_ble_eq_true rfl) (Nat.le_of_ble_eq_true rfl) (by omega) ?_
            rintro _ _ - - ⟨rfl, rfl⟩
            refine aft_v (pc2 := 60) ?_ rfl
            refine wa_castS (pc := 60) (y := mX1_chain) (k := 6) dX1_chain_60 (sF_at (by assumption)) rfl q2026 ?_
            refine wf_getN (k := 6) (l := 6) 3 dX1_chain_63 (by assumption) rfl q1202 (Or.inl rfl) (Nat.le_of_ble_eq_true rfl) (Nat.le_of_ble_eq_true rfl) (by (repeat (first | exact updF_self _ _ _ _ | (apply updF_i; · decide) | (apply updF_a; · first | assumption | (apply Ne.symm; assumption) | omega) | (apply newF_a; · first | assumption | (apply Ne.symm; assumption) | omega) | exact newL_self (by rfl) | exact newF_self (by rfl) | (apply cpyF_a; · first | assumption | (apply Ne.symm; assumption) | omega))) <;> first | assumption | rfl) ?_
            first | with_reducible refine wa_iaddN (pc := 66) (y := mX1_chain) dX1_chain_66 ?_ | refine wa_iadd (pc := 66) (y := mX1_chain) dX1_chain_66 ?_
            refine wa_istore_n (pc := 67) (y := mX1_chain) dX1_chain_67 (Nat.le_of_ble_eq_true rfl) (by first | rfl | (simp [okst, rf_cat] <;> assumption)) ?_
            change WA _ _ _ _ (List.set _ 2 _) _ _ _
            simp only [List.set_cons_zero, List.set_cons_succ]
            refine wa_iincN (pc := 68) (y := mX1_chain) dX1_chain_68 rfl (Nat.le_of_ble_eq_true rfl) (by first | rfl | (simp [okst, rf_cat] <;> assumption)) ?_
            simp only [List.set_cons_zero, List.set_cons_succ]
            refine wa_goto (pc := 71) (y := mX1_chain) 11 dX1_chain_71 rfl ?_
            exact ih (q + 1) _ (by omega) h3 (e2.symm.trans e)
        · have e2 : chG f (t + 1) q a = a := if_neg (fun q => h3 q.2)
          refine wa_iload_n (pc := 11) (y := mX1_chain) dX1_chain_11 rfl ?_
          refine wa_iconst (pc := 12) (y := mX1_chain) (Int32.ofNat 1) dX1_chain_12 rfl ?_
          first | with_reducible refine wa_iaddN (pc := 13) (y := mX1_chain) dX1_chain_13 ?_ | refine wa_iadd (pc := 13) (y := mX1_chain) dX1_chain_13 ?_
          refine wa_aloadV_n (pc := 14) (y := mX1_chain) dX1_chain_14 rfl (by first | exact rf_s _ | exact rf_n | exact rf_q _) ?_
          refine wf_get (k := 0) (l := 9) 0 dX1_chain_15 (by assumption) rfl q1111 (Or.inl rfl) (Nat.le_of_ble_eq_true rfl) (Nat.le_of_ble_eq_true rfl) (by (repeat (first | exact updF_self _ _ _ _ | (apply updF_i; · decide) | (apply updF_a; · first | assumption | (apply Ne.symm; assumption) | omega) | (apply newF_a; · first | assumption | (apply Ne.symm; assumption) | omega) | exact newL_self (by rfl) | exact newF_self (by rfl) | (apply cpyF_a; · first | assumption | (apply Ne.symm; assumption) | omega))) <;> first | assumption | rfl) ?_
          refine wf_getN (k := 1) (l := 8) 0 dX1_chain_18 (by assumption) rfl q356 (Or.inl rfl) (Nat.le_of_ble_eq_true rfl) (Nat.le_of_ble_eq_true rfl) (by (repeat (first | exact updF_self _ _ _ _ | (apply updF_i; · decide) | (apply updF_a; · first | assumption | (apply Ne.symm; assumption) | omega) | (apply newF_a; · first | assumption | (apply Ne.symm; assumption) | omega) | exact newL_self (by rfl) | exact newF_self (by rfl) | (apply cpyF_a; · first | assumption | (apply Ne.symm; assumption) | omega))) <;> first | assumption | rfl) ?_
          refine wa_callV (pc := 21) (s_J2_size (d := d - 1) S.cl) dX1_chain_21 okJ2_size q1144 q1145 q1146 (sF_at (by assumption)) rfl rfl rfl (Nat.le_of_ble_eq_true rfl) (Nat.le_of_ble_eq_true rfl) (by omega) ?_
          rintro _ _ - - ⟨rfl, rfl⟩
          refine aft_v (pc2 := 24) ?_ rfl
          refine wa_icmp_ge (pc := 24) 74 dX1_chain_24 rfl (fun hb24 => ?_) (fun hb24 => absurd ((iN_le (by omega) (by omega)).mpr (by omega)) hb24)
          refine wa_iload_n (pc := 74) (y := mX1_chain) dX1_chain_74 rfl ?_
          refine wa_ireturn (pc := 75) (y := mX1_chain) .int dX1_chain_75 rfl rfl (OpQ.val ch (by omega) R (by rw [hO]; rfl) (by rw [hO, ← e, e2]; rfl) (by rw [hO]; rfl) (by rw [hO]; exact SgE.v7))
    refine wa_iconst (pc := 0) (y := mX1_chain) (Int32.ofNat 0) dX1_chain_0 rfl ?_
    refine wa_istore_n (pc := 1) (y := mX1_chain) dX1_chain_1 (Nat.le_of_ble_eq_true rfl) (by first | rfl | (simp [okst, rf_cat] <;> assumption)) ?_
    change WA _ _ _ _ (List.set _ 2 _) _ _ _
    simp only [List.set_cons_zero, List.set_cons_succ]
    refine wa_aloadV_n (pc := 2) (y := mX1_chain) dX1_chain_2 rfl (by first | exact rf_s _ | exact rf_n | exact rf_q _) ?_
    refine wf_get (k := 0) (l := 9) 0 dX1_chain_3 (by assumption) rfl q1111 (Or.inl rfl) (Nat.le_of_ble_eq_true rfl) (Nat.le_of_ble_eq_true rfl) (by (repeat (first | exact updF_self _ _ _ _ | (apply updF_i; · decide) | (apply updF_a; · first | assumption | (apply Ne.symm; assumption) | omega) | (apply newF_a; · first | assumption | (apply Ne.symm; assumption) | omega) | exact newL_self (by rfl) | exact newF_self (by rfl) | (apply cpyF_a; · first | assumption | (apply Ne.symm; assumption) | omega))) <;> first | assumption | rfl) ?_
    refine wa_iload_n (pc := 6) (y := mX1_chain) dX1_chain_6 rfl ?_
    refine wa_callV (pc := 7) (s_X2_index (d := d - 1) (v := v) (by omega) S) dX1_chain_7 okX2_index q1829 q1830 q1831 (sF_at (by assumption)) rfl rfl rfl (Nat.le_of_ble_eq_true rfl) (Nat.le_of_ble_eq_true rfl) (by omega) ?_
    rintro r h' - - (⟨p3, hp3, rfl, rfl⟩ | ⟨hp3, -⟩)
    rotate_left
    · rw [hpl] at hp3; cases hp3
    rw [hpl] at hp3; cases hp3
    refine aft_v (pc2 := 10) ?_ rfl
    refine wa_istore_n (pc := 10) (y := mX1_chain) dX1_chain_10 (Nat.le_of_ble_eq_true rfl) (by first | rfl | (simp [okst, rf_cat] <;> assumption)) ?_
    change WA _ _ _ _ (List.set _ 3 _) _ _ _
    simp only [List.set_cons_zero, List.set_cons_succ]
    exact loop 12 p 0 (by omega) hp rfl
theorem s_X1_lengthOf (hd : 20 ≤ d) (R : CompR G h F own x C f σ) (hp : p < u (f 0)) (hv : f (18 + 12 * p) = v) : MA G d mX1_lengthOf [.ref x, .int (Int32.ofNat p)] (sF h F) (RdQ 400 (some (.int (mxN f v p 12))) h F) := by
  have h12 := R.sh.1.1.1
  have loop : ∀ (m c : Nat) (h2 : AH) (F2 : Nat → Nat → Value) (v4 : Value), c + m = 12 → v4.category = 1 → Fr NoP h F h2 F2 → Cst (c * 30) h h2 → WA G d mX1_lengthOf 4 [.ref x, .int (Int32.ofNat p), .int (mxN f v p c), .int (Int32.ofNat c), v4] [] (sF h2 F2) (RdQ 400 (some (.int (mxN f v p 12))) h F) := by
    intro m
    induction m with
    | zero =>
      intro c h2 F2 v4 hc h4 fr cst
      have hc : c = 12 := hc
      subst hc
      refine wa_iload_n (pc := 4) (y := mX1_lengthOf) dX1_lengthOf_4 rfl ?_
      refine wa_bipush (pc := 5) (y := mX1_lengthOf) (Int32.ofNat 12) dX1_lengthOf_5 rfl ?_
      refine wa_icmp_ge (pc := 7) 67 dX1_lengthOf_7 rfl (fun hb7 => ?_) (fun hb7 => absurd ((iN_le (by omega) (by omega)).mpr (Nat.le_refl 12)) hb7)
      refine wa_iload_n (pc := 67) (y := mX1_lengthOf) dX1_lengthOf_67 rfl ?_
      refine wa_ireturn (pc := 68) (y := mX1_lengthOf) .int dX1_lengthOf_68 rfl rfl ⟨h2, F2, rfl, rfl, fr, cst.mono (by omega)⟩
    | succ m ih =>
      intro c h2 F2 v4 hc h4 fr cst
      obtain ⟨own2, t2, R2⟩ := R.rd fr
      have j1 := R2.is
      have j2 := R2.f0
      obtain ⟨gf2, A2, h602, S2⟩ := id R2.sh
      have j3 := S2.is
      have j4 := S2.f0
      have j5 := S2.cl.1
      have hnc := S2.nc
      obtain ⟨y, hy⟩ := S2.cu hp
      have hpt : ptO f (f (18 + 12 * p)) c < 4 := S2.ptl
      have C0 := S2.cue p y hy
      have c0 := C0.1
      refine wa_iload_n (pc := 4) (y := mX1_lengthOf) dX1_lengthOf_4 rfl ?_
      refine wa_bipush (pc := 5) (y := mX1_lengthOf) (Int32.ofNat 12) dX1_lengthOf_5 rfl ?_
      refine wa_icmp_ge (pc := 7) 67 dX1_lengthOf_7 rfl (fun hb7 => absurd ((iN_le (by omega) (by omega)).mp hb7) (by omega)) (fun hb7 => ?_)
      refine wa_aloadV_n (pc := 10) (y := mX1_lengthOf) dX1_lengthOf_10 rfl (by first | exact rf_s _ | exact rf_n | exact rf_q _) ?_
      refine wf_get (k := 0) (l := 9) 0 dX1_lengthOf_11 (by assumption) rfl q1111 (Or.inl rfl) (Nat.le_of_ble_eq_true rfl) (Nat.le_of_ble_eq_true rfl) (by (repeat (first | exact updF_self _ _ _ _ | (apply updF_i; · decide) | (apply updF_a; · first | assumption | (apply Ne.symm; assumption) | omega) | (apply newF_a; · first | assumption | (apply Ne.symm; assumption) | omega) | exact newL_self (by rfl) | exact newF_self (by rfl) | (apply cpyF_a; · first | assumption | (apply Ne.symm; assumption) | omega))) <;> first | assumption | rfl) ?_
      refine wf_getN (k := 1) (l := 8) 0 dX1_lengthOf_14 (by assumption) rfl q356 (Or.inl rfl) (Nat.le_of_ble_eq_true rfl) (Nat.le_of_ble_eq_true rfl) (by (repeat (first | exact updF_self _ _ _ _ | (apply updF_i; · decide) | (apply updF_a; · first | assumption | (apply Ne.symm; assumption) | omega) | (apply newF_a; · first | assumption | (apply Ne.symm; assumption) | omega) | exact newL_self (by rfl) | exact newF_self (by rfl) | (apply cpyF_a; · first | assumption | (apply Ne.symm; assumption) | omega))) <;> first | assumption | rfl) ?_
      refine wa_iload_n (pc := 17) (y := mX1_lengthOf) dX1_lengthOf_17 rfl ?_
      refine wa_callV (pc := 18) (s_J2_get (d := d - 1) (by omega) S2.cl hy) dX1_lengthOf_18 okJ2_get q1164 q417 q418 (sF_at (by assumption)) rfl rfl rfl (Nat.le_of_ble_eq_true rfl) (Nat.le_of_ble_eq_true rfl) (by omega) ?_
      rintro _ _ - - ⟨rfl, rfl⟩
      refine aft_v (pc2 := 21) ?_ rfl
      refine wa_castS (pc := 21) (y := mX1_lengthOf) (k := 6) dX1_lengthOf_21 (sF_at (by assumption)) rfl q2026 ?_
      refine wa_aloadV_n (pc := 24) (y := mX1_lengthOf) dX1_lengthOf_24 rfl (by first | exact rf_s _ | exact rf_n | exact rf_q _) ?_
      refine wf_get (k := 0) (l := 9) 0 dX1_lengthOf_25 (by assumption) rfl q1111 (Or.inl rfl) (Nat.le_of_ble_eq_true rfl) (Nat.le_of_ble_eq_true rfl) (by (repeat (first | exact updF_self _ _ _ _ | (apply updF_i; · decide) | (apply updF_a; · first | assumption | (apply Ne.symm; assumption) | omega) | (apply newF_a; · first | assumption | (apply Ne.symm; assumption) | omega) | exact newL_self (by rfl) | exact newF_self (by rfl) | (apply cpyF_a; · first | assumption | (apply Ne.symm; assumption) | omega))) <;> first | assumption | rfl) ?_
      refine wa_iload_n (pc := 28) (y := mX1_lengthOf) dX1_lengthOf_28 rfl ?_
      refine wa_iload_n (pc := 29) (y := mX1_lengthOf) dX1_lengthOf_29 rfl ?_
      refine wa_callV (pc := 30) (s_X2_partOf (d := d - 1) (k := p) (c := c) (by omega) S2 hp (by omega)) dX1_lengthOf_30 okX2_partOf q2106 q2107 q2108 (sF_at (by assumption)) rfl rfl rfl (Nat.le_of_ble_eq_true rfl) (Nat.le_of_ble_eq_true rfl) (by omega) ?_
      rintro _ _ - - ⟨h3, F3, rfl, rfl, fr3, cst3⟩
      refine aft_v (pc2 := 33) ?_ rfl
      have S3 := S2.rd fr3
      have Cc := S3.cue p y hy
      have c1 := Cc.1
      refine wa_callV (pc := 33) (s_X7_length (d := d - 1) Cc hpt) dX1_lengthOf_33 okX7_length q2110 q2111 q2112 (sF_at (by assumption)) rfl rfl rfl (Nat.le_of_ble_eq_true rfl) (Nat.le_of_ble_eq_true rfl) (by omega) ?_
      rintro _ _ - - ⟨rfl, rfl⟩
      refine aft_v (pc2 := 36) ?_ rfl
      refine wa_istore (pc := 36) (y := mX1_lengthOf) dX1_lengthOf_36 (Nat.le_of_ble_eq_true rfl) (by first | rfl | (simp [okst, rf_cat] <;> assumption)) ?_
      simp only [List.set_cons_zero, List.set_cons_succ]
      obtain ⟨own3, t3, R3⟩ := R2.rd fr3
      have k1 := R3.is; have k2 := R3.f0; have k3 := S3.is
      refine wa_aloadV_n (pc := 38) (y := mX1_lengthOf) dX1_lengthOf_38 rfl (by first | exact rf_s _ | exact rf_n | exact rf_q _) ?_
      refine wf_get (k := 0) (l := 9) 0 dX1_lengthOf_39 (by assumption) rfl q1111 (Or.inl rfl) (Nat.le_of_ble_eq_true rfl) (Nat.le_of_ble_eq_true rfl) (by (repeat (first | exact updF_self _ _ _ _ | (apply updF_i; · decide) | (apply updF_a; · first | assumption | (apply Ne.symm; assumption) | omega) | (apply newF_a; · first | assumption | (apply Ne.symm; assumption) | omega) | exact newL_self (by rfl) | exact newF_self (by rfl) | (apply cpyF_a; · first | assumption | (apply Ne.symm; assumption) | omega))) <;> first | assumption | rfl) ?_
      refine wa_iload_n (pc := 42) (y := mX1_lengthOf) dX1_lengthOf_42 rfl ?_
      refine wa_iload_n (pc := 43) (y := mX1_lengthOf) dX1_lengthOf_43 rfl ?_
      refine wa_callV (pc := 44) (s_X2_moves (d := d - 1) (k := p) (c := c) (by omega) S3 hp (by omega)) dX1_lengthOf_44 okX2_moves q2098 q2099 q2100 (sF_at (by assumption)) rfl rfl rfl (Nat.le_of_ble_eq_true rfl) (Nat.le_of_ble_eq_true rfl) (by omega) ?_
      rintro _ _ - - ⟨h5, F5, rfl, rfl, fr5, cst5⟩
      refine aft_v (pc2 := 47) ?_ rfl
      have fr9 : Fr NoP h F h5 F5 := (fr.trans fr3 fun _ _ q => q).trans fr5 fun _ _ q => q
      have cst9 : Cst ((c + 1) * 30) h h5 := ((cst.trans cst3).trans cst5).mono (by omega)
      have eL : lenF f v p c = f (18 + 12 * p + 4 + 2 * ptO f (f (18 + 12 * p)) c) + f (18 + 12 * p + 4 + 2 * ptO f (f (18 + 12 * p)) c + 1) := by unfold lenF; rw [hv]
      refine wa_if_eq (pc := 47) 59 dX1_lengthOf_47 rfl (fun hb47 => ?_) (fun hb47 => ?_)
      · have e9 : mxN f v p (c + 1) = mxN f v p c := if_neg (by rw [bI_0.mp hb47]; decide)
        refine wa_iload_n (pc := 59) (y := mX1_lengthOf) dX1_lengthOf_59 rfl ?_
        refine wa_istore_n (pc := 60) (y := mX1_lengthOf) dX1_lengthOf_60 (Nat.le_of_ble_eq_true rfl) (by first | rfl | (simp [okst, rf_cat] <;> assumption)) ?_
        change WA _ _ _ _ (List.set _ 2 _) _ _ _
        simp only [List.set_cons_zero, List.set_cons_succ]
        refine wa_iincN (pc := 61) (y := mX1_lengthOf) dX1_lengthOf_61 rfl (Nat.le_of_ble_eq_true rfl) (by first | rfl | (simp [okst, rf_cat] <;> assumption)) ?_
        simp only [List.set_cons_zero, List.set_cons_succ]
        refine wa_goto (pc := 64) (y := mX1_lengthOf) 4 dX1_lengthOf_64 rfl ?_
        have := ih (c + 1) h5 F5 (.int (f (18 + 12 * p + 4 + 2 * ptO f (f (18 + 12 * p)) c) + f (18 + 12 * p + 4 + 2 * ptO f (f (18 + 12 * p)) c + 1))) (by omega) rfl fr9 cst9; rw [e9] at this; first | exact this | (rw [eL] at this; exact this)
      · have e9 : mxN f v p (c + 1) = if mxN f v p c < lenF f v p c then lenF f v p c else mxN f v p c := if_pos (bI_n0 hb47)
        refine wa_iload_n (pc := 50) (y := mX1_lengthOf) dX1_lengthOf_50 rfl ?_
        refine wa_iload (pc := 51) (y := mX1_lengthOf) dX1_lengthOf_51 rfl ?_
        refine wa_max (pc := 53) dX1_lengthOf_53 q2114 q292 q94 q293 (Nat.le_of_ble_eq_true rfl) (by omega) ?_
        refine wa_goto (pc := 56) (y := mX1_lengthOf) 60 dX1_lengthOf_56 rfl ?_
        refine wa_istore_n (pc := 60) (y := mX1_lengthOf) dX1_lengthOf_60 (Nat.le_of_ble_eq_true rfl) (by first | rfl | (simp [okst, rf_cat] <;> assumption)) ?_
        change WA _ _ _ _ (List.set _ 2 _) _ _ _
        simp only [List.set_cons_zero, List.set_cons_succ]
        refine wa_iincN (pc := 61) (y := mX1_lengthOf) dX1_lengthOf_61 rfl (Nat.le_of_ble_eq_true rfl) (by first | rfl | (simp [okst, rf_cat] <;> assumption)) ?_
        simp only [List.set_cons_zero, List.set_cons_succ]
        refine wa_goto (pc := 64) (y := mX1_lengthOf) 4 dX1_lengthOf_64 rfl ?_
        have := ih (c + 1) h5 F5 (.int (f (18 + 12 * p + 4 + 2 * ptO f (f (18 + 12 * p)) c) + f (18 + 12 * p + 4 + 2 * ptO f (f (18 + 12 * p)) c + 1))) (by omega) rfl fr9 cst9; rw [e9] at this; first | exact this | (rw [eL] at this; exact this)
  change WA G d mX1_lengthOf 0 [.ref x, .int (Int32.ofNat p), .retAddr 0, .retAddr 0, .retAddr 0] [] _ _
  refine wa_iconst (pc := 0) (y := mX1_lengthOf) (Int32.ofNat 0) dX1_lengthOf_0 rfl ?_
  refine wa_istore_n (pc := 1) (y := mX1_lengthOf) dX1_lengthOf_1 (Nat.le_of_ble_eq_true rfl) (by first | rfl | (simp [okst, rf_cat] <;> assumption)) ?_
  change WA _ _ _ _ (List.set _ 2 _) _ _ _
  simp only [List.set_cons_zero, List.set_cons_succ]
  refine wa_iconst (pc := 2) (y := mX1_lengthOf) (Int32.ofNat 0) dX1_lengthOf_2 rfl ?_
  refine wa_istore_n (pc := 3) (y := mX1_lengthOf) dX1_lengthOf_3 (Nat.le_of_ble_eq_true rfl) (by first | rfl | (simp [okst, rf_cat] <;> assumption)) ?_
  change WA _ _ _ _ (List.set _ 3 _) _ _ _
  simp only [List.set_cons_zero, List.set_cons_succ]
  exact loop 12 0 h F (.retAddr 0) (by omega) rfl Fr.refl (Cst.refl.mono (Nat.zero_le _))
theorem sf_g2 {c : Nat} : ovcG f 2 c = nowF f c := if_pos rfl
theorem sf_g3 {c : Nat} : ovcG f 3 c = f (402 + 5 * c + 1) := (if_neg (by decide)).trans (if_pos rfl)
theorem s_X1_sumOfFades (hd : 8 ≤ d) (R : CompR G h F own x C f σ) (hw : w = 2 ∨ w = 3) : MA G d mX1_sumOfFades [.ref x, .int w] (sF h F) (fun r h' => r = .inl (some (.int (smN (ovcG f w) 12))) ∧ h' = sF h F) := by
  have i1 := R.is
  have e0 := R.f0
  have e2 := R.f2
  have k1 := R.sh.is
  have p1 := R.pa.1
  obtain ⟨gf, A, h60, S⟩ := id R.sh
  have h12 := gf.1.1
  have x0 := S.f0
  have x2 := S.f2
  have x3 := S.f3
  have x7 := S.f7
  have xh := S.hm
  have xc := S.cl.1
  have xl := S.fl.1
  have ch := Ch.refl (F := F) R.ob
  have loop : ∀ (m c : Nat), c + m = 12 → WA G d mX1_sumOfFades 4 [.ref x, .int w, .int (smN (ovcG f w) c), .int (Int32.ofNat c)] [] (sF h F) (fun r h' => r = .inl (some (.int (smN (ovcG f w) 12))) ∧ h' = sF h F) := by
    intro m
    induction m with
    | zero =>
      intro c hc
      have hc : c = 12 := hc
      subst hc
      refine wa_iload_n (pc := 4) (y := mX1_sumOfFades) dX1_sumOfFades_4 rfl ?_
      refine wa_bipush (pc := 5) (y := mX1_sumOfFades) (Int32.ofNat 12) dX1_sumOfFades_5 rfl ?_
      refine wa_icmp_ge (pc := 7) 61 dX1_sumOfFades_7 rfl (fun hb7 => ?_) (fun hb7 => absurd ((iN_le (by omega) (by omega)).mpr (Nat.le_refl 12)) hb7)
      refine wa_iload_n (pc := 61) (y := mX1_sumOfFades) dX1_sumOfFades_61 rfl ?_
      refine wa_ireturn (pc := 62) (y := mX1_sumOfFades) .int dX1_sumOfFades_62 rfl rfl ⟨rfl, rfl⟩
    | succ m ih =>
      intro c hc
      obtain ⟨a, ha⟩ : ∃ a, A.fs[c]? = some a := ⟨_, List.getElem?_eq_getElem (by have := S.nf; omega)⟩
      have T := S.fad c a ha
      have t1 := T.1
      have t2 := T.2.2.1
      refine wa_iload_n (pc := 4) (y := mX1_sumOfFades) dX1_sumOfFades_4 rfl ?_
      refine wa_bipush (pc := 5) (y := mX1_sumOfFades) (Int32.ofNat 12) dX1_sumOfFades_5 rfl ?_
      refine wa_icmp_ge (pc := 7) 61 dX1_sumOfFades_7 rfl (fun hb7 => absurd ((iN_le (by omega) (by omega)).mp hb7) (by omega)) (fun hb7 => ?_)
      refine wa_iload_n (pc := 10) (y := mX1_sumOfFades) dX1_sumOfFades_10 rfl ?_
      refine wa_iload_n (pc := 11) (y := mX1_sumOfFades) dX1_sumOfFades_11 rfl ?_
      refine wa_iconst (pc := 12) (y := mX1_sumOfFades) (Int32.ofNat 2) dX1_sumOfFades_12 rfl ?_
      refine wa_icmp_ne (pc := 13) 36 dX1_sumOfFades_13 rfl (fun hb13 => ?_) (fun hb13 => ?_)
      · have e9 : ovcG f w c = gz f (5 * c + 1) := by rw [hw.resolve_left hb13]; exact sf_g3
        refine wa_aloadV_n (pc := 36) (y := mX1_sumOfFades) dX1_sumOfFades_36 rfl (by first | exact rf_s _ | exact rf_n | exact rf_q _) ?_
        refine wf_get (k := 0) (l := 9) 0 dX1_sumOfFades_37 (by assumption) rfl q1111 (Or.inl rfl) (Nat.le_of_ble_eq_true rfl) (Nat.le_of_ble_eq_true rfl) (by (repeat (first | exact updF_self _ _ _ _ | (apply updF_i; · decide) | (apply updF_a; · first | assumption | (apply Ne.symm; assumption) | omega) | (apply newF_a; · first | assumption | (apply Ne.symm; assumption) | omega) | exact newL_self (by rfl) | exact newF_self (by rfl) | (apply cpyF_a; · first | assumption | (apply Ne.symm; assumption) | omega))) <;> first | assumption | rfl) ?_
        refine wf_getN (k := 1) (l := 8) 3 dX1_sumOfFades_40 (by assumption) rfl q362 (Or.inl rfl) (Nat.le_of_ble_eq_true rfl) (Nat.le_of_ble_eq_true rfl) (by (repeat (first | exact updF_self _ _ _ _ | (apply updF_i; · decide) | (apply updF_a; · first | assumption | (apply Ne.symm; assumption) | omega) | (apply newF_a; · first | assumption | (apply Ne.symm; assumption) | omega) | exact newL_self (by rfl) | exact newF_self (by rfl) | (apply cpyF_a; · first | assumption | (apply Ne.symm; assumption) | omega))) <;> first | assumption | rfl) ?_
        refine wa_iload_n (pc := 43) (y := mX1_sumOfFades) dX1_sumOfFades_43 rfl ?_
        refine wa_callV (pc := 44) (s_J2_get (d := d - 1) (by omega) S.fl ha) dX1_sumOfFades_44 okJ2_get q1164 q417 q418 (sF_at (by assumption)) rfl rfl rfl (Nat.le_of_ble_eq_true rfl) (Nat.le_of_ble_eq_true rfl) (by omega) ?_
        rintro _ _ - - ⟨rfl, rfl⟩
        refine aft_v (pc2 := 47) ?_ rfl
        refine wa_castS (pc := 47) (y := mX1_sumOfFades) (k := 2) dX1_sumOfFades_47 (sF_at (by assumption)) rfl q1165 ?_
        refine wf_getN (k := 2) (l := 5) 1 dX1_sumOfFades_50 (by assumption) rfl q255 (Or.inl rfl) (Nat.le_of_ble_eq_true rfl) (Nat.le_of_ble_eq_true rfl) (by (repeat (first | exact updF_self _ _ _ _ | (apply updF_i; · decide) | (apply updF_a; · first | assumption | (apply Ne.symm; assumption) | omega) | (apply newF_a; · first | assumption | (apply Ne.symm; assumption) | omega) | exact newL_self (by rfl) | exact newF_self (by rfl) | (apply cpyF_a; · first | assumption | (apply Ne.symm; assumption) | omega))) <;> first | assumption | rfl) ?_
        first | with_reducible refine wa_iaddN (pc := 53) (y := mX1_sumOfFades) dX1_sumOfFades_53 ?_ | refine wa_iadd (pc := 53) (y := mX1_sumOfFades) dX1_sumOfFades_53 ?_
        refine wa_istore_n (pc := 54) (y := mX1_sumOfFades) dX1_sumOfFades_54 (Nat.le_of_ble_eq_true rfl) (by first | rfl | (simp [okst, rf_cat] <;> assumption)) ?_
        change WA _ _ _ _ (List.set _ 2 _) _ _ _
        simp only [List.set_cons_zero, List.set_cons_succ]
        refine wa_iincN (pc := 55) (y := mX1_sumOfFades) dX1_sumOfFades_55 rfl (Nat.le_of_ble_eq_true rfl) (by first | rfl | (simp [okst, rf_cat] <;> assumption)) ?_
        simp only [List.set_cons_zero, List.set_cons_succ]
        refine wa_goto (pc := 58) (y := mX1_sumOfFades) 4 dX1_sumOfFades_58 rfl ?_
        have := ih (c + 1) (by omega); rw [show smN (ovcG f w) (c + 1) = smN (ovcG f w) c + ovcG f w c from rfl, e9] at this; exact this
      · have e9 : ovcG f w c = nowG (gz f) c := by rw [show w = 2 from hb13]; exact sf_g2
        refine wa_aloadV_n (pc := 16) (y := mX1_sumOfFades) dX1_sumOfFades_16 rfl (by first | exact rf_s _ | exact rf_n | exact rf_q _) ?_
        refine wf_get (k := 0) (l := 9) 0 dX1_sumOfFades_17 (by assumption) rfl q1111 (Or.inl rfl) (Nat.le_of_ble_eq_true rfl) (Nat.le_of_ble_eq_true rfl) (by (repeat (first | exact updF_self _ _ _ _ | (apply updF_i; · decide) | (apply updF_a; · first | assumption | (apply Ne.symm; assumption) | omega) | (apply newF_a; · first | assumption | (apply Ne.symm; assumption) | omega) | exact newL_self (by rfl) | exact newF_self (by rfl) | (apply cpyF_a; · first | assumption | (apply Ne.symm; assumption) | omega))) <;> first | assumption | rfl) ?_
        refine wf_getN (k := 1) (l := 8) 3 dX1_sumOfFades_20 (by assumption) rfl q362 (Or.inl rfl) (Nat.le_of_ble_eq_true rfl) (Nat.le_of_ble_eq_true rfl) (by (repeat (first | exact updF_self _ _ _ _ | (apply updF_i; · decide) | (apply updF_a; · first | assumption | (apply Ne.symm; assumption) | omega) | (apply newF_a; · first | assumption | (apply Ne.symm; assumption) | omega) | exact newL_self (by rfl) | exact newF_self (by rfl) | (apply cpyF_a; · first | assumption | (apply Ne.symm; assumption) | omega))) <;> first | assumption | rfl) ?_
        refine wa_iload_n (pc := 23) (y := mX1_sumOfFades) dX1_sumOfFades_23 rfl ?_
        refine wa_callV (pc := 24) (s_J2_get (d := d - 1) (by omega) S.fl ha) dX1_sumOfFades_24 okJ2_get q1164 q417 q418 (sF_at (by assumption)) rfl rfl rfl (Nat.le_of_ble_eq_true rfl) (Nat.le_of_ble_eq_true rfl) (by omega) ?_
        rintro _ _ - - ⟨rfl, rfl⟩
        refine aft_v (pc2 := 27) ?_ rfl
        refine wa_castS (pc := 27) (y := mX1_sumOfFades) (k := 2) dX1_sumOfFades_27 (sF_at (by assumption)) rfl q1165 ?_
        refine wa_callV (pc := 30) (s_X3_now (d := d - 1) T) dX1_sumOfFades_30 okX3_now q1166 q1167 q1168 (sF_at (by assumption)) rfl rfl rfl (Nat.le_of_ble_eq_true rfl) (Nat.le_of_ble_eq_true rfl) (by omega) ?_
        rintro _ _ - - ⟨rfl, rfl⟩
        refine aft_v (pc2 := 33) ?_ rfl
        refine wa_goto (pc := 33) (y := mX1_sumOfFades) 53 dX1_sumOfFades_33 rfl ?_
        first | with_reducible refine wa_iaddN (pc := 53) (y := mX1_sumOfFades) dX1_sumOfFades_53 ?_ | refine wa_iadd (pc := 53) (y := mX1_sumOfFades) dX1_sumOfFades_53 ?_
        refine wa_istore_n (pc := 54) (y := mX1_sumOfFades) dX1_sumOfFades_54 (Nat.le_of_ble_eq_true rfl) (by first | rfl | (simp [okst, rf_cat] <;> assumption)) ?_
        change WA _ _ _ _ (List.set _ 2 _) _ _ _
        simp only [List.set_cons_zero, List.set_cons_succ]
        refine wa_iincN (pc := 55) (y := mX1_sumOfFades) dX1_sumOfFades_55 rfl (Nat.le_of_ble_eq_true rfl) (by first | rfl | (simp [okst, rf_cat] <;> assumption)) ?_
        simp only [List.set_cons_zero, List.set_cons_succ]
        refine wa_goto (pc := 58) (y := mX1_sumOfFades) 4 dX1_sumOfFades_58 rfl ?_
        have := ih (c + 1) (by omega); rw [show smN (ovcG f w) (c + 1) = smN (ovcG f w) c + ovcG f w c from rfl, e9] at this; exact this
  change WA G d mX1_sumOfFades 0 [.ref x, .int w, .retAddr 0, .retAddr 0] [] _ _
  refine wa_iconst (pc := 0) (y := mX1_sumOfFades) (Int32.ofNat 0) dX1_sumOfFades_0 rfl ?_
  refine wa_istore_n (pc := 1) (y := mX1_sumOfFades) dX1_sumOfFades_1 (Nat.le_of_ble_eq_true rfl) (by first | rfl | (simp [okst, rf_cat] <;> assumption)) ?_
  change WA _ _ _ _ (List.set _ 2 _) _ _ _
  simp only [List.set_cons_zero, List.set_cons_succ]
  refine wa_iconst (pc := 2) (y := mX1_sumOfFades) (Int32.ofNat 0) dX1_sumOfFades_2 rfl ?_
  refine wa_istore_n (pc := 3) (y := mX1_sumOfFades) dX1_sumOfFades_3 (Nat.le_of_ble_eq_true rfl) (by first | rfl | (simp [okst, rf_cat] <;> assumption)) ?_
  change WA _ _ _ _ (List.set _ 3 _) _ _ _
  simp only [List.set_cons_zero, List.set_cons_succ]
  exact loop 12 0 (by omega)
end OPS7
