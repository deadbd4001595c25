/-! ===== CueStack: calls that set or read a number (written by tools/gen97.py) ===== -/
section OPS
variable {G : GG} {d n : Nat} {h h2 h3 : AH} {F F2 F3 : Nat → Nat → Value} {own own2 own3 : Nat → Option Nat} {x s s1 s2 k i j p q c a : Nat} {C : CA} {f f2 g : Nat → Int32} {σ σ2 : MS} {P O : Nat → Prop} {r : RR} {h' : AH} {A : SA} {v w z : Int32} {b : Bool}
theorem s_X1_cueAt (hd : 8 ≤ d) (R : CompR G h F own x C f σ) : MA G d mX1_cueAt [.ref x, .int v] (sF h F) (OpQ G h F own x [26] (O_cueAt f σ v)) := by
  have i1 := R.is
  have e0 := R.f0
  have e2 := R.f2
  have k1 := R.sh.is
  have p1 := R.pa.1
  obtain ⟨gf, A, h60, S⟩ := id R.sh
  have h12 := gf.1.1
  have x0 := S.f0
  have x2 := S.f2
  have x3 := S.f3
  have x7 := S.f7
  have xh := S.hm
  have xc := S.cl.1
  have xl := S.fl.1
  have ch := Ch.refl (F := F) R.ob
  have hnc := S.nc
  change WA G d mX1_cueAt 0 [.ref x, .int v] [] _ _
  by_cases hv : u v < u (f 0)
  · have hO : O_cueAt f σ v = oR f σ (f (18 + 12 * u v)) := if_pos hv
    obtain ⟨m, hmv⟩ : ∃ m, u v = m := ⟨_, rfl⟩
    have ev : v = Int32.ofNat m := by rw [← hmv]; exact (u_self v).symm
    rw [hmv] at hv hO
    subst ev
    obtain ⟨a, ha⟩ := S.cu hv
    have Cc := S.cue _ a ha
    have c1 := Cc.1
    have c2 := Cc.2.2.1
    refine wa_iload_n (pc := 0) (y := mX1_cueAt) dX1_cueAt_0 rfl ?_
    refine wa_iconst (pc := 1) (y := mX1_cueAt) (Int32.ofNat 0) dX1_cueAt_1 rfl ?_
    refine wa_aloadV_n (pc := 2) (y := mX1_cueAt) dX1_cueAt_2 rfl (by first | exact rf_s _ | exact rf_n | exact rf_q _) ?_
    refine wf_get (k := 0) (l := 9) 0 dX1_cueAt_3 (by assumption) rfl q1111 (Or.inl rfl) (Nat.le_of_ble_eq_true rfl) (Nat.le_of_ble_eq_true rfl) (by (repeat (first | exact updF_self _ _ _ _ | (apply updF_i; · decide) | (apply updF_a; · first | assumption | (apply Ne.symm; assumption) | omega) | (apply newF_a; · first | assumption | (apply Ne.symm; assumption) | omega) | exact newL_self (by rfl) | exact newF_self (by rfl) | (apply cpyF_a; · first | assumption | (apply Ne.symm; assumption) | omega))) <;> first | assumption | rfl) ?_
    refine wf_getN (k := 1) (l := 8) 0 dX1_cueAt_6 (by assumption) rfl q356 (Or.inl rfl) (Nat.le_of_ble_eq_true rfl) (Nat.le_of_ble_eq_true rfl) (by (repeat (first | exact updF_self _ _ _ _ | (apply updF_i; · decide) | (apply updF_a; · first | assumption | (apply Ne.symm; assumption) | omega) | (apply newF_a; · first | assumption | (apply Ne.symm; assumption) | omega) | exact newL_self (by rfl) | exact newF_self (by rfl) | (apply cpyF_a; · first | assumption | (apply Ne.symm; assumption) | omega))) <;> first | assumption | rfl) ?_
    refine wa_callV (pc := 9) (s_J2_size (d := d - 1) S.cl) dX1_cueAt_9 okJ2_size q1144 q1145 q1146 (sF_at (by assumption)) rfl rfl rfl (Nat.le_of_ble_eq_true rfl) (Nat.le_of_ble_eq_true rfl) (by omega) ?_
    rintro _ _ - - ⟨rfl, rfl⟩
    refine aft_v (pc2 := 12) ?_ rfl
    refine wa_iconst (pc := 12) (y := mX1_cueAt) (Int32.ofNat 1) dX1_cueAt_12 rfl ?_
    refine wa_isub (pc := 13) (y := mX1_cueAt) dX1_cueAt_13 ?_
    refine wa_callS (pc := 14) (s_X1_isIn (d := d - 1)) dX1_cueAt_14 okX1_isIn q2020 q1692 rfl rfl (Nat.le_of_ble_eq_true rfl) (Nat.le_of_ble_eq_true rfl) (by omega) ?_
    rintro _ _ - - ⟨rfl, rfl⟩
    refine aft_v (pc2 := 17) ?_ rfl
    rw [show inb _ (Int32.ofNat 0) (Int32.ofNat A.cs.length - Int32.ofNat 1) = true from (inb_n (n := A.cs.length) (by omega)).trans (decide_eq_true (by omega))]
    refine wa_callS (pc := 17) (s_X1_checkElement (d := d - 1) (b := true) (by omega)) dX1_cueAt_17 okX1_checkElement q2021 q2022 rfl rfl (Nat.le_of_ble_eq_true rfl) (Nat.le_of_ble_eq_true rfl) (by omega) ?_
    rintro r h' - - (⟨-, rfl, rfl⟩ | ⟨hb, -⟩)
    rotate_left
    · cases hb
    refine aft_0 (pc2 := 20) ?_ rfl
    refine wa_aloadV_n (pc := 20) (y := mX1_cueAt) dX1_cueAt_20 rfl (by first | exact rf_s _ | exact rf_n | exact rf_q _) ?_
    refine wf_get (k := 0) (l := 9) 0 dX1_cueAt_21 (by assumption) rfl q1111 (Or.inl rfl) (Nat.le_of_ble_eq_true rfl) (Nat.le_of_ble_eq_true rfl) (by (repeat (first | exact updF_self _ _ _ _ | (apply updF_i; · decide) | (apply updF_a; · first | assumption | (apply Ne.symm; assumption) | omega) | (apply newF_a; · first | assumption | (apply Ne.symm; assumption) | omega) | exact newL_self (by rfl) | exact newF_self (by rfl) | (apply cpyF_a; · first | assumption | (apply Ne.symm; assumption) | omega))) <;> first | assumption | rfl) ?_
    refine wf_getN (k := 1) (l := 8) 0 dX1_cueAt_24 (by assumption) rfl q356 (Or.inl rfl) (Nat.le_of_ble_eq_true rfl) (Nat.le_of_ble_eq_true rfl) (by (repeat (first | exact updF_self _ _ _ _ | (apply updF_i; · decide) | (apply updF_a; · first | assumption | (apply Ne.symm; assumption) | omega) | (apply newF_a; · first | assumption | (apply Ne.symm; assumption) | omega) | exact newL_self (by rfl) | exact newF_self (by rfl) | (apply cpyF_a; · first | assumption | (apply Ne.symm; assumption) | omega))) <;> first | assumption | rfl) ?_
    refine wa_iload_n (pc := 27) (y := mX1_cueAt) dX1_cueAt_27 rfl ?_
    refine wa_callV (pc := 28) (s_J2_get (d := d - 1) (by omega) S.cl ha) dX1_cueAt_28 okJ2_get q1164 q417 q418 (sF_at (by assumption)) rfl rfl rfl (Nat.le_of_ble_eq_true rfl) (Nat.le_of_ble_eq_true rfl) (by omega) ?_
    rintro _ _ - - ⟨rfl, rfl⟩
    refine aft_v (pc2 := 31) ?_ rfl
    refine wa_castS (pc := 31) (y := mX1_cueAt) (k := 6) dX1_cueAt_31 (sF_at (by assumption)) rfl q2026 ?_
    refine wf_getN (k := 6) (l := 6) 0 dX1_cueAt_34 (by assumption) rfl q1194 (Or.inl rfl) (Nat.le_of_ble_eq_true rfl) (Nat.le_of_ble_eq_true rfl) (by (repeat (first | exact updF_self _ _ _ _ | (apply updF_i; · decide) | (apply updF_a; · first | assumption | (apply Ne.symm; assumption) | omega) | (apply newF_a; · first | assumption | (apply Ne.symm; assumption) | omega) | exact newL_self (by rfl) | exact newF_self (by rfl) | (apply cpyF_a; · first | assumption | (apply Ne.symm; assumption) | omega))) <;> first | assumption | rfl) ?_
    refine wa_ireturn (pc := 37) (y := mX1_cueAt) .int dX1_cueAt_37 rfl rfl (OpQ.val ch (by omega) R (by rw [hO]; rfl) (by rw [hO]; rfl) (by rw [hO]; rfl) (by rw [hO]; exact SgE.v7))
  · have hO : O_cueAt f σ v = oX f σ 1 := if_neg hv
    refine wa_iload_n (pc := 0) (y := mX1_cueAt) dX1_cueAt_0 rfl ?_
    refine wa_iconst (pc := 1) (y := mX1_cueAt) (Int32.ofNat 0) dX1_cueAt_1 rfl ?_
    refine wa_aloadV_n (pc := 2) (y := mX1_cueAt) dX1_cueAt_2 rfl (by first | exact rf_s _ | exact rf_n | exact rf_q _) ?_
    refine wf_get (k := 0) (l := 9) 0 dX1_cueAt_3 (by assumption) rfl q1111 (Or.inl rfl) (Nat.le_of_ble_eq_true rfl) (Nat.le_of_ble_eq_true rfl) (by (repeat (first | exact updF_self _ _ _ _ | (apply updF_i; · decide) | (apply updF_a; · first | assumption | (apply Ne.symm; assumption) | omega) | (apply newF_a; · first | assumption | (apply Ne.symm; assumption) | omega) | exact newL_self (by rfl) | exact newF_self (by rfl) | (apply cpyF_a; · first | assumption | (apply Ne.symm; assumption) | omega))) <;> first | assumption | rfl) ?_
    refine wf_getN (k := 1) (l := 8) 0 dX1_cueAt_6 (by assumption) rfl q356 (Or.inl rfl) (Nat.le_of_ble_eq_true rfl) (Nat.le_of_ble_eq_true rfl) (by (repeat (first | exact updF_self _ _ _ _ | (apply updF_i; · decide) | (apply updF_a; · first | assumption | (apply Ne.symm; assumption) | omega) | (apply newF_a; · first | assumption | (apply Ne.symm; assumption) | omega) | exact newL_self (by rfl) | exact newF_self (by rfl) | (apply cpyF_a; · first | assumption | (apply Ne.symm; assumption) | omega))) <;> first | assumption | rfl) ?_
    refine wa_callV (pc := 9) (s_J2_size (d := d - 1) S.cl) dX1_cueAt_9 okJ2_size q1144 q1145 q1146 (sF_at (by assumption)) rfl rfl rfl (Nat.le_of_ble_eq_true rfl) (Nat.le_of_ble_eq_true rfl) (by omega) ?_
    rintro _ _ - - ⟨rfl, rfl⟩
    refine aft_v (pc2 := 12) ?_ rfl
    refine wa_iconst (pc := 12) (y := mX1_cueAt) (Int32.ofNat 1) dX1_cueAt_12 rfl ?_
    refine wa_isub (pc := 13) (y := mX1_cueAt) dX1_cueAt_13 ?_
    refine wa_callS (pc := 14) (s_X1_isIn (d := d - 1)) dX1_cueAt_14 okX1_isIn q2020 q1692 rfl rfl (Nat.le_of_ble_eq_true rfl) (Nat.le_of_ble_eq_true rfl) (by omega) ?_
    rintro _ _ - - ⟨rfl, rfl⟩
    refine aft_v (pc2 := 17) ?_ rfl
    rw [show inb v (Int32.ofNat 0) (Int32.ofNat A.cs.length - Int32.ofNat 1) = false from (inb_n (n := A.cs.length) (by omega)).trans (decide_eq_false (by omega))]
    refine wa_callS (pc := 17) (s_X1_checkElement (d := d - 1) (b := false) (by omega)) dX1_cueAt_17 okX1_checkElement q2021 q2022 rfl rfl (Nat.le_of_ble_eq_true rfl) (Nat.le_of_ble_eq_true rfl) (by omega) ?_
    rintro r h' - - (⟨hb, -, -⟩ | ⟨-, T⟩)
    · cases hb
    exact T.after ⟨_, rfl⟩ rfl fun h3 F3 q fr cst iq => OpQ.thr ch (by omega) R fr cst iq (by rw [hO]; exact Nat.succ_ne_zero _) (by rw [hO]; rfl) (by rw [hO]; rfl) (by rw [hO]; exact SgE.v7)
theorem s_X1_checkChannel (hd : 7 ≤ d) : MA G d mX1_checkChannel [.int v] (sF h F) (ChkQ 25 (decide (u v < 12)) h F) := by
  change WA G d mX1_checkChannel 0 [.int v] [] _ _
  refine wa_iload_n (pc := 0) (y := mX1_checkChannel) dX1_checkChannel_0 rfl ?_
  refine wa_iconst (pc := 1) (y := mX1_checkChannel) (Int32.ofNat 0) dX1_checkChannel_1 rfl ?_
  refine wa_bipush (pc := 2) (y := mX1_checkChannel) (Int32.ofNat 11) dX1_checkChannel_2 rfl ?_
  refine wa_callS (pc := 4) (s_X1_isIn (d := d - 1)) dX1_checkChannel_4 okX1_isIn q2020 q1692 rfl rfl (Nat.le_of_ble_eq_true rfl) (Nat.le_of_ble_eq_true rfl) (by omega) ?_
  rintro _ _ - - ⟨rfl, rfl⟩
  refine aft_v (pc2 := 7) ?_ rfl
  change WA G d mX1_checkChannel 7 [.int v] [.int (bI (inb v 0 11))] _ _; rw [inb11]
  refine wa_callS (pc := 7) (s_X1_checkIndex (d := d - 1) (b := decide (u v < 12)) (by omega)) dX1_checkChannel_7 okX1_checkIndex q2087 q1834 rfl rfl (Nat.le_of_ble_eq_true rfl) (Nat.le_of_ble_eq_true rfl) (by omega) ?_
  rintro r h' - - (⟨hb, rfl, rfl⟩ | ⟨hb, T⟩)
  rotate_left
  · exact T.after ⟨_, rfl⟩ rfl fun h3 F3 q fr cst iq => Or.inr ⟨hb, h3, F3, q, rfl, rfl, fr, cst, iq⟩
  refine aft_0 (pc2 := 10) ?_ rfl
  refine wa_return (pc := 10) (y := mX1_checkChannel) dX1_checkChannel_10 rfl (Or.inl ⟨hb, rfl, rfl⟩)
theorem s_X1_checkPart (hd : 7 ≤ d) : MA G d mX1_checkPart [.int v] (sF h F) (ChkQ 25 (decide (u v < 4)) h F) := by
  change WA G d mX1_checkPart 0 [.int v] [] _ _
  refine wa_iload_n (pc := 0) (y := mX1_checkPart) dX1_checkPart_0 rfl ?_
  refine wa_iconst (pc := 1) (y := mX1_checkPart) (Int32.ofNat 0) dX1_checkPart_1 rfl ?_
  refine wa_iconst (pc := 2) (y := mX1_checkPart) (Int32.ofNat 3) dX1_checkPart_2 rfl ?_
  refine wa_callS (pc := 3) (s_X1_isIn (d := d - 1)) dX1_checkPart_3 okX1_isIn q2020 q1692 rfl rfl (Nat.le_of_ble_eq_true rfl) (Nat.le_of_ble_eq_true rfl) (by omega) ?_
  rintro _ _ - - ⟨rfl, rfl⟩
  refine aft_v (pc2 := 6) ?_ rfl
  change WA G d mX1_checkPart 6 [.int v] [.int (bI (inb v 0 3))] _ _; rw [inb3]
  refine wa_callS (pc := 6) (s_X1_checkIndex (d := d - 1) (b := decide (u v < 4)) (by omega)) dX1_checkPart_6 okX1_checkIndex q2087 q1834 rfl rfl (Nat.le_of_ble_eq_true rfl) (Nat.le_of_ble_eq_true rfl) (by omega) ?_
  rintro r h' - - (⟨hb, rfl, rfl⟩ | ⟨hb, T⟩)
  rotate_left
  · exact T.after ⟨_, rfl⟩ rfl fun h3 F3 q fr cst iq => Or.inr ⟨hb, h3, F3, q, rfl, rfl, fr, cst, iq⟩
  refine aft_0 (pc2 := 9) ?_ rfl
  refine wa_return (pc := 9) (y := mX1_checkPart) dX1_checkPart_9 rfl (Or.inl ⟨hb, rfl, rfl⟩)
theorem s_X1_setFollow (hd : 20 ≤ d) (hG : StG G) (R : CompR G h F own x C f σ) : MA G d mX1_setFollow [.ref x, .int v, .int w] (sF h F) (OpQ G h F own x [25, 23] (O_setFollow f σ v w)) := by
  have i1 := R.is
  have e0 := R.f0
  have e2 := R.f2
  have k1 := R.sh.is
  have p1 := R.pa.1
  obtain ⟨gf, A, h60, S⟩ := id R.sh
  have h12 := gf.1.1
  have x0 := S.f0
  have x2 := S.f2
  have x3 := S.f3
  have x7 := S.f7
  have xh := S.hm
  have xc := S.cl.1
  have xl := S.fl.1
  have ch := Ch.refl (F := F) R.ob
  change WA G d mX1_setFollow 0 [.ref x, .int v, .int w, .retAddr 0] [] _ _
  cases hpl : pl f v with
  | none =>
    have hO : O_setFollow f σ v w = oX f σ 1 := by unfold O_setFollow; rw [hpl]
    refine wa_aloadV_n (pc := 0) (y := mX1_setFollow) dX1_setFollow_0 rfl (by first | exact rf_s _ | exact rf_n | exact rf_q _) ?_
    refine wf_get (k := 0) (l := 9) 0 dX1_setFollow_1 (by assumption) rfl q1111 (Or.inl rfl) (Nat.le_of_ble_eq_true rfl) (Nat.le_of_ble_eq_true rfl) (by (repeat (first | exact updF_self _ _ _ _ | (apply updF_i; · decide) | (apply updF_a; · first | assumption | (apply Ne.symm; assumption) | omega) | (apply newF_a; · first | assumption | (apply Ne.symm; assumption) | omega) | exact newL_self (by rfl) | exact newF_self (by rfl) | (apply cpyF_a; · first | assumption | (apply Ne.symm; assumption) | omega))) <;> first | assumption | rfl) ?_
    refine wa_iload_n (pc := 4) (y := mX1_setFollow) dX1_setFollow_4 rfl ?_
    refine wa_callV (pc := 5) (s_X2_cue (d := d - 1) (v := v) (by omega) S) dX1_setFollow_5 okX2_cue q2034 q2035 q2036 (sF_at (by assumption)) rfl rfl rfl (Nat.le_of_ble_eq_true rfl) (Nat.le_of_ble_eq_true rfl) (by omega) ?_
    rintro r h' - - (⟨p, a, hp, -⟩ | ⟨-, T⟩)
    · rw [hpl] at hp; cases hp
    exact T.after ⟨_, rfl⟩ rfl fun h3 F3 q fr cst iq => OpQ.thr ch (by omega) R fr cst iq (by rw [hO]; exact Nat.succ_ne_zero _) (by rw [hO]; rfl) (by rw [hO]; rfl) (by rw [hO]; exact SgE.v7)
  | some p =>
    have hp := (pl_some hpl).1
    obtain ⟨a, ha⟩ := S.cu hp
    have Cc := S.cue p a ha
    have c1 := Cc.1
    have c3 := Cc.2.2.2.2.2.1
    have k33 : ∀ bb : Bool, (bb = true ↔ ¬ (w ≠ -1 ∧ inb w 1 6000 = false)) → WA G d mX1_setFollow 33 [.ref x, .int v, .int w, .int (f (18 + 12 * p + 1))] [.int (bI bb)] (sF h F) (OpQ G h F own x [25, 23] (O_setFollow f σ v w)) := by
      intro bb hbb
      cases bb with
      | false =>
        have hc : w ≠ -1 ∧ inb w 1 6000 = false := by
          by_cases e : w ≠ -1 ∧ inb w 1 6000 = false
          · exact e
          · exact absurd (hbb.mpr e) (by decide)
        have hO : O_setFollow f σ v w = oX f σ 2 := by unfold O_setFollow; rw [hpl]; exact if_pos hc
        refine wa_callS (pc := 33) (s_X1_checkArgument (d := d - 1) (b := false) (by omega)) dX1_setFollow_33 okX1_checkArgument q2038 q1699 rfl rfl (Nat.le_of_ble_eq_true rfl) (Nat.le_of_ble_eq_true rfl) (by omega) ?_
        rintro r h' - - (⟨hb, -, -⟩ | ⟨-, T⟩)
        · cases hb
        exact T.after ⟨_, rfl⟩ rfl fun h3 F3 q fr cst iq => OpQ.thr ch (by omega) R fr cst iq (by rw [hO]; exact Nat.succ_ne_zero _) (by rw [hO]; rfl) (by rw [hO]; rfl) (by rw [hO]; exact SgE.v7)
      | true =>
        have hc := hbb.mp rfl
        have hO : O_setFollow f σ v w = (0, f (18 + 12 * p + 1), upd f (18 + 12 * p + 1) w, oC f σ) := by unfold O_setFollow; rw [hpl]; exact if_neg hc
        have hw : w = -1 ∨ 1 ≤ w := by
          by_cases e : w = -1
          · exact Or.inl e
          · refine Or.inr ?_
            cases e2 : inb w 1 6000 with
            | false => exact absurd ⟨e, e2⟩ hc
            | true => unfold inb at e2; simp only [Bool.and_eq_true, decide_eq_true_eq] at e2; exact e2.1
        refine wa_callS (pc := 33) (s_X1_checkArgument (d := d - 1) (b := true) (by omega)) dX1_setFollow_33 okX1_checkArgument q2038 q1699 rfl rfl (Nat.le_of_ble_eq_true rfl) (Nat.le_of_ble_eq_true rfl) (by omega) ?_
        rintro r h' - - (⟨-, rfl, rfl⟩ | ⟨hb, -⟩)
        rotate_left
        · cases hb
        refine aft_0 (pc2 := 36) ?_ rfl
        refine wa_aloadV_n (pc := 36) (y := mX1_setFollow) dX1_setFollow_36 rfl (by first | exact rf_s _ | exact rf_n | exact rf_q _) ?_
        refine wf_get (k := 0) (l := 9) 2 dX1_setFollow_37 (by assumption) rfl q1113 (Or.inl rfl) (Nat.le_of_ble_eq_true rfl) (Nat.le_of_ble_eq_true rfl) (by (repeat (first | exact updF_self _ _ _ _ | (apply updF_i; · decide) | (apply updF_a; · first | assumption | (apply Ne.symm; assumption) | omega) | (apply newF_a; · first | assumption | (apply Ne.symm; assumption) | omega) | exact newL_self (by rfl) | exact newF_self (by rfl) | (apply cpyF_a; · first | assumption | (apply Ne.symm; assumption) | omega))) <;> first | assumption | rfl) ?_
        refine wa_aloadV_n (pc := 40) (y := mX1_setFollow) dX1_setFollow_40 rfl (by first | exact rf_s _ | exact rf_n | exact rf_q _) ?_
        refine wf_get (k := 0) (l := 9) 0 dX1_setFollow_41 (by assumption) rfl q1111 (Or.inl rfl) (Nat.le_of_ble_eq_true rfl) (Nat.le_of_ble_eq_true rfl) (by (repeat (first | exact updF_self _ _ _ _ | (apply updF_i; · decide) | (apply updF_a; · first | assumption | (apply Ne.symm; assumption) | omega) | (apply newF_a; · first | assumption | (apply Ne.symm; assumption) | omega) | exact newL_self (by rfl) | exact newF_self (by rfl) | (apply cpyF_a; · first | assumption | (apply Ne.symm; assumption) | omega))) <;> first | assumption | rfl) ?_
        refine wa_callV (pc := 44) (s_X4_keep (d := d - 1) (by omega) hG R.em R.ob R.pa R.sh R.sx R.is.lt) dX1_setFollow_44 okX4_keep q1764 q1765 q1766 (sF_at (by assumption)) rfl rfl rfl (Nat.le_of_ble_eq_true rfl) (Nat.le_of_ble_eq_true rfl) (by omega) ?_
        rintro r h' - - K
        obtain ⟨h3, F3, own3, C3, rfl, rfl, ext, hnone, cst, t, R3, c1, c2, c3, hx3, shw, csv, chs⟩ := R.keepR K
        refine aft_0 (pc2 := 47) ?_ rfl
        have ch3 : Ch 8060 h F own h3 F3 own3 := ⟨hnone, ext, cst, t⟩
        have j1 := R3.is; have j2 := R3.f0; have j4 := R3.sh.is; have j3 := R3.f2; have j5 := R3.pa.1
        obtain ⟨gf3, A3, h603, S3⟩ := id R3.sh
        have y0 := S3.f0; have y3 := S3.f3; have y2 := S3.f2; have yh := S3.hm; have yc := S3.cl.1; have yl := S3.fl.1; have y7 := S3.f7
        refine wa_aloadV_n (pc := 47) (y := mX1_setFollow) dX1_setFollow_47 rfl (by first | exact rf_s _ | exact rf_n | exact rf_q _) ?_
        refine wf_get (k := 0) (l := 9) 0 dX1_setFollow_48 (by assumption) rfl q1111 (Or.inl rfl) (Nat.le_of_ble_eq_true rfl) (Nat.le_of_ble_eq_true rfl) (by (repeat (first | exact updF_self _ _ _ _ | (apply updF_i; · decide) | (apply updF_a; · first | assumption | (apply Ne.symm; assumption) | omega) | (apply newF_a; · first | assumption | (apply Ne.symm; assumption) | omega) | exact newL_self (by rfl) | exact newF_self (by rfl) | (apply cpyF_a; · first | assumption | (apply Ne.symm; assumption) | omega))) <;> first | assumption | rfl) ?_
        refine wa_iload_n (pc := 51) (y := mX1_setFollow) dX1_setFollow_51 rfl ?_
        refine wa_callV (pc := 52) (s_X2_cue (d := d - 1) (v := v) (by omega) S3) dX1_setFollow_52 okX2_cue q2034 q2035 q2036 (sF_at (by assumption)) rfl rfl rfl (Nat.le_of_ble_eq_true rfl) (Nat.le_of_ble_eq_true rfl) (by omega) ?_
        rintro r h' - - (⟨p3, a3, hp3, ha3, rfl, rfl⟩ | ⟨hp3, -⟩)
        rotate_left
        · rw [hpl] at hp3; cases hp3
        rw [hpl] at hp3; cases hp3
        have Cd := S3.cue p a3 ha3; have d1 := Cd.1
        refine aft_v (pc2 := 55) ?_ rfl
        refine wa_iload_n (pc := 55) (y := mX1_setFollow) dX1_setFollow_55 rfl ?_
        refine wf_putN (k := 6) (l := 6) 3 .int dX1_setFollow_56 (by assumption) rfl q1202 (Or.inl rfl) (Nat.le_of_ble_eq_true rfl) rfl (by decide +kernel) rfl rfl ?_
        refine wa_iload_n (pc := 59) (y := mX1_setFollow) dX1_setFollow_59 rfl ?_
        refine wa_ireturn (pc := 60) (y := mX1_setFollow) .int dX1_setFollow_60 rfl rfl ?_
        obtain ⟨R4, ch4⟩ := R3.inp (f2 := upd f (18 + 12 * p + 1) w) (S3.ownC (List.mem_of_getElem? ha3)).1 (nkil d1 (by decide)) (Fr.upd (i := 3) (v := .int w) rfl) ⟨good_fld gf3 hp (Or.inl ⟨rfl, hw⟩), A3, by rw [upd_o _ _ (by omega)]; exact h603, (S3.setC ha3 (Or.inr (Or.inr ⟨rfl, rfl⟩))).cg (fun _ _ => rfl) (fun _ _ _ => rfl) (fun j hj => upd_o _ _ (by omega))⟩
        exact OpQ.val (ch3.trans ch4) (by omega) R4 (by rw [hO]) (by rw [hO]) (by rw [hO]) (by rw [hO]; exact SgE.ofC)
    refine wa_aloadV_n (pc := 0) (y := mX1_setFollow) dX1_setFollow_0 rfl (by first | exact rf_s _ | exact rf_n | exact rf_q _) ?_
    refine wf_get (k := 0) (l := 9) 0 dX1_setFollow_1 (by assumption) rfl q1111 (Or.inl rfl) (Nat.le_of_ble_eq_true rfl) (Nat.le_of_ble_eq_true rfl) (by (repeat (first | exact updF_self _ _ _ _ | (apply updF_i; · decide) | (apply updF_a; · first | assumption | (apply Ne.symm; assumption) | omega) | (apply newF_a; · first | assumption | (apply Ne.symm; assumption) | omega) | exact newL_self (by rfl) | exact newF_self (by rfl) | (apply cpyF_a; · first | assumption | (apply Ne.symm; assumption) | omega))) <;> first | assumption | rfl) ?_
    refine wa_iload_n (pc := 4) (y := mX1_setFollow) dX1_setFollow_4 rfl ?_
    refine wa_callV (pc := 5) (s_X2_cue (d := d - 1) (v := v) (by omega) S) dX1_setFollow_5 okX2_cue q2034 q2035 q2036 (sF_at (by assumption)) rfl rfl rfl (Nat.le_of_ble_eq_true rfl) (Nat.le_of_ble_eq_true rfl) (by omega) ?_
    rintro r h' - - (⟨p3, a3, hp3, ha3, rfl, rfl⟩ | ⟨hp3, -⟩)
    rotate_left
    · rw [hpl] at hp3; cases hp3
    rw [hpl] at hp3; cases hp3; rw [ha] at ha3; cases ha3
    refine aft_v (pc2 := 8) ?_ rfl
    refine wf_getN (k := 6) (l := 6) 3 dX1_setFollow_8 (by assumption) rfl q1202 (Or.inl rfl) (Nat.le_of_ble_eq_true rfl) (Nat.le_of_ble_eq_true rfl) (by (repeat (first | exact updF_self _ _ _ _ | (apply updF_i; · decide) | (apply updF_a; · first | assumption | (apply Ne.symm; assumption) | omega) | (apply newF_a; · first | assumption | (apply Ne.symm; assumption) | omega) | exact newL_self (by rfl) | exact newF_self (by rfl) | (apply cpyF_a; · first | assumption | (apply Ne.symm; assumption) | omega))) <;> first | assumption | rfl) ?_
    refine wa_istore_n (pc := 11) (y := mX1_setFollow) dX1_setFollow_11 (Nat.le_of_ble_eq_true rfl) (by first | rfl | (simp [okst, rf_cat] <;> assumption)) ?_
    change WA _ _ _ _ (List.set _ 3 _) _ _ _
    simp only [List.set_cons_zero, List.set_cons_succ]
    refine wa_iload_n (pc := 12) (y := mX1_setFollow) dX1_setFollow_12 rfl ?_
    refine wa_iconst (pc := 13) (y := mX1_setFollow) (-1) dX1_setFollow_13 rfl ?_
    refine wa_icmp_eq (pc := 14) 28 dX1_setFollow_14 rfl (fun hb14 => ?_) (fun hb14 => ?_)
    · have hw9 : w = -1 := hb14
      refine wa_iconst (pc := 28) (y := mX1_setFollow) (Int32.ofNat 1) dX1_setFollow_28 rfl ?_
      refine wa_goto (pc := 29) (y := mX1_setFollow) 33 dX1_setFollow_29 rfl ?_
      first | exact k33 true ⟨fun _ q => q.1 hw9, fun _ => rfl⟩ | exact k33 true ⟨fun _ q => (by rw [hin] at q; cases q.2), fun _ => rfl⟩ | exact k33 false ⟨fun q => (by cases q), fun q => absurd ⟨hw9, hin⟩ q⟩
    · have hw9 : w ≠ -1 := hb14
      refine wa_iload_n (pc := 17) (y := mX1_setFollow) dX1_setFollow_17 rfl ?_
      refine wa_iconst (pc := 18) (y := mX1_setFollow) (Int32.ofNat 1) dX1_setFollow_18 rfl ?_
      refine wa_sipush (pc := 19) (y := mX1_setFollow) (Int32.ofNat 6000) dX1_setFollow_19 rfl ?_
      refine wa_callS (pc := 22) (s_X1_isIn (d := d - 1)) dX1_setFollow_22 okX1_isIn q2020 q1692 rfl rfl (Nat.le_of_ble_eq_true rfl) (Nat.le_of_ble_eq_true rfl) (by omega) ?_
      rintro _ _ - - ⟨rfl, rfl⟩
      refine aft_v (pc2 := 25) ?_ rfl
      refine wa_if_eq (pc := 25) 32 dX1_setFollow_25 rfl (fun hb25 => ?_) (fun hb25 => ?_)
      · have hin : inb w 1 6000 = false := bI_0.mp hb25
        refine wa_iconst (pc := 32) (y := mX1_setFollow) (Int32.ofNat 0) dX1_setFollow_32 rfl ?_
        first | exact k33 true ⟨fun _ q => q.1 hw9, fun _ => rfl⟩ | exact k33 true ⟨fun _ q => (by rw [hin] at q; cases q.2), fun _ => rfl⟩ | exact k33 false ⟨fun q => (by cases q), fun q => absurd ⟨hw9, hin⟩ q⟩
      · have hin : inb w 1 6000 = true := bI_n0 hb25
        refine wa_iconst (pc := 28) (y := mX1_setFollow) (Int32.ofNat 1) dX1_setFollow_28 rfl ?_
        refine wa_goto (pc := 29) (y := mX1_setFollow) 33 dX1_setFollow_29 rfl ?_
        first | exact k33 true ⟨fun _ q => q.1 hw9, fun _ => rfl⟩ | exact k33 true ⟨fun _ q => (by rw [hin] at q; cases q.2), fun _ => rfl⟩ | exact k33 false ⟨fun q => (by cases q), fun q => absurd ⟨hw9, hin⟩ q⟩
end OPS
