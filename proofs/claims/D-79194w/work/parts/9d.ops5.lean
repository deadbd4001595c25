/-! ===== CueStack: history, saving, small answers (written by tools/gen9d.py) ===== -/
section OPS5
variable {G : GG} {d n N : Nat} {h h2 h3 : AH} {F F2 F3 : Nat → Nat → Value} {own own2 own3 : Nat → Option Nat} {x s s1 s2 k i j m p q c a e kd : Nat} {C C2 : CA} {f f2 g : Nat → Int32} {σ σ2 : MS} {P O : Nat → Prop} {r : RR} {h' : AH} {A : SA} {v w z : Int32} {b : Bool} {ks : List Nat} {oo : OO}
theorem s_X1_reason (hd : 8 ≤ d) (R : CompR G h F own x C f σ) : MA G d mX1_reason [.ref x] (sF h F) (OpQ G h F own x [26] (O_reason f σ)) := by
  have i1 := R.is
  have e8 := R.f8
  have ch := Ch.refl (F := F) R.ob
  change WA G d mX1_reason 0 [.ref x] [] _ _
  rcases R.rf with ⟨h0, hn⟩ | ⟨h0, q, hq, iq, vq, oq⟩
  · have hO : O_reason f σ = (1, σ.2 6, f, mV σ 7 (Int32.ofNat 1)) := if_pos h0
    rw [hn] at e8
    have e8 : F x 8 = .null := e8
    refine wa_aloadV_n (pc := 0) (y := mX1_reason) dX1_reason_0 rfl (by first | exact rf_s _ | exact rf_n | exact rf_q _) ?_
    refine wf_get (k := 0) (l := 9) 8 dX1_reason_1 (by assumption) rfl q1119 (Or.inl rfl) (Nat.le_of_ble_eq_true rfl) (Nat.le_of_ble_eq_true rfl) (by (repeat (first | exact updF_self _ _ _ _ | (apply updF_i; · decide) | (apply updF_a; · first | assumption | (apply Ne.symm; assumption) | omega) | (apply newF_a; · first | assumption | (apply Ne.symm; assumption) | omega) | exact newL_self (by rfl) | exact newF_self (by rfl) | (apply cpyF_a; · first | assumption | (apply Ne.symm; assumption) | omega))) <;> first | assumption | rfl) ?_
    refine wa_ifnullN (pc := 4) (y := mX1_reason) 11 dX1_reason_4 rfl ?_
    refine wa_iconst (pc := 11) (y := mX1_reason) (Int32.ofNat 0) dX1_reason_11 rfl ?_
    refine wa_callS (pc := 12) (s_X1_checkElement (d := d - 1) (b := false) (by omega)) dX1_reason_12 okX1_checkElement q2021 q2022 rfl rfl (Nat.le_of_ble_eq_true rfl) (Nat.le_of_ble_eq_true rfl) (by omega) ?_
    rintro r h' - - (⟨hb, -, -⟩ | ⟨-, T⟩)
    · cases hb
    exact T.after ⟨_, rfl⟩ rfl fun h3 F3 q fr cst iq => OpQ.thr ch (by omega) R fr cst iq (by rw [hO]; exact Nat.succ_ne_zero _) (by rw [hO]; rfl) (by rw [hO]; try rfl) (by rw [hO]; exact SgE.v7)
  · have hO : O_reason f σ = oR f σ (σ.2 6) := if_neg h0
    rw [hq] at e8
    have e8 : F x 8 = .ref q := e8
    refine wa_aloadV_n (pc := 0) (y := mX1_reason) dX1_reason_0 rfl (by first | exact rf_s _ | exact rf_n | exact rf_q _) ?_
    refine wf_get (k := 0) (l := 9) 8 dX1_reason_1 (by assumption) rfl q1119 (Or.inl rfl) (Nat.le_of_ble_eq_true rfl) (Nat.le_of_ble_eq_true rfl) (by (repeat (first | exact updF_self _ _ _ _ | (apply updF_i; · decide) | (apply updF_a; · first | assumption | (apply Ne.symm; assumption) | omega) | (apply newF_a; · first | assumption | (apply Ne.symm; assumption) | omega) | exact newL_self (by rfl) | exact newF_self (by rfl) | (apply cpyF_a; · first | assumption | (apply Ne.symm; assumption) | omega))) <;> first | assumption | rfl) ?_
    refine wa_ifnull (pc := 4) (y := mX1_reason) dX1_reason_4 ?_
    refine wa_iconst (pc := 7) (y := mX1_reason) (Int32.ofNat 1) dX1_reason_7 rfl ?_
    refine wa_goto (pc := 8) (y := mX1_reason) 12 dX1_reason_8 rfl ?_
    refine wa_callS (pc := 12) (s_X1_checkElement (d := d - 1) (b := true) (by omega)) dX1_reason_12 okX1_checkElement q2021 q2022 rfl rfl (Nat.le_of_ble_eq_true rfl) (Nat.le_of_ble_eq_true rfl) (by omega) ?_
    rintro r h' - - (⟨-, rfl, rfl⟩ | ⟨hb, -⟩)
    rotate_left
    · cases hb
    refine aft_0 (pc2 := 15) ?_ rfl
    refine wa_aloadV_n (pc := 15) (y := mX1_reason) dX1_reason_15 rfl (by first | exact rf_s _ | exact rf_n | exact rf_q _) ?_
    refine wf_get (k := 0) (l := 9) 8 dX1_reason_16 (by assumption) rfl q1119 (Or.inl rfl) (Nat.le_of_ble_eq_true rfl) (Nat.le_of_ble_eq_true rfl) (by (repeat (first | exact updF_self _ _ _ _ | (apply updF_i; · decide) | (apply updF_a; · first | assumption | (apply Ne.symm; assumption) | omega) | (apply newF_a; · first | assumption | (apply Ne.symm; assumption) | omega) | exact newL_self (by rfl) | exact newF_self (by rfl) | (apply cpyF_a; · first | assumption | (apply Ne.symm; assumption) | omega))) <;> first | assumption | rfl) ?_
    refine wf_getN (k := 21) (l := 1) 0 dX1_reason_19 (by assumption) rfl q1984 (Or.inl rfl) (Nat.le_of_ble_eq_true rfl) (Nat.le_of_ble_eq_true rfl) (by (repeat (first | exact updF_self _ _ _ _ | (apply updF_i; · decide) | (apply updF_a; · first | assumption | (apply Ne.symm; assumption) | omega) | (apply newF_a; · first | assumption | (apply Ne.symm; assumption) | omega) | exact newL_self (by rfl) | exact newF_self (by rfl) | (apply cpyF_a; · first | assumption | (apply Ne.symm; assumption) | omega))) <;> first | assumption | rfl) ?_
    refine wa_ireturn (pc := 22) (y := mX1_reason) .int dX1_reason_22 rfl rfl (OpQ.val ch (by omega) R (by rw [hO]; rfl) (by rw [hO]; rfl) (by rw [hO]; rfl) (by rw [hO]; exact SgE.v7))
theorem s_X1_errorPosition (hd : 8 ≤ d) (R : CompR G h F own x C f σ) : MA G d mX1_errorPosition [.ref x] (sF h F) (OpQ G h F own x [26] (O_errorPosition f σ)) := by
  have i1 := R.is
  have e8 := R.f7
  have ch := Ch.refl (F := F) R.ob
  change WA G d mX1_errorPosition 0 [.ref x] [] _ _
  rcases R.bt with ⟨h0, hn⟩ | ⟨h0, q, hq, iq, vq, oq⟩
  · have hO : O_errorPosition f σ = oX f σ 1 := if_pos h0
    rw [hn] at e8
    have e8 : F x 7 = .null := e8
    refine wa_aloadV_n (pc := 0) (y := mX1_errorPosition) dX1_errorPosition_0 rfl (by first | exact rf_s _ | exact rf_n | exact rf_q _) ?_
    refine wf_get (k := 0) (l := 9) 7 dX1_errorPosition_1 (by assumption) rfl q1118 (Or.inl rfl) (Nat.le_of_ble_eq_true rfl) (Nat.le_of_ble_eq_true rfl) (by (repeat (first | exact updF_self _ _ _ _ | (apply updF_i; · decide) | (apply updF_a; · first | assumption | (apply Ne.symm; assumption) | omega) | (apply newF_a; · first | assumption | (apply Ne.symm; assumption) | omega) | exact newL_self (by rfl) | exact newF_self (by rfl) | (apply cpyF_a; · first | assumption | (apply Ne.symm; assumption) | omega))) <;> first | assumption | rfl) ?_
    refine wa_ifnullN (pc := 4) (y := mX1_errorPosition) 11 dX1_errorPosition_4 rfl ?_
    refine wa_iconst (pc := 11) (y := mX1_errorPosition) (Int32.ofNat 0) dX1_errorPosition_11 rfl ?_
    refine wa_callS (pc := 12) (s_X1_checkElement (d := d - 1) (b := false) (by omega)) dX1_errorPosition_12 okX1_checkElement q2021 q2022 rfl rfl (Nat.le_of_ble_eq_true rfl) (Nat.le_of_ble_eq_true rfl) (by omega) ?_
    rintro r h' - - (⟨hb, -, -⟩ | ⟨-, T⟩)
    · cases hb
    exact T.after ⟨_, rfl⟩ rfl fun h3 F3 q fr cst iq => OpQ.thr ch (by omega) R fr cst iq (by rw [hO]; exact Nat.succ_ne_zero _) (by rw [hO]; rfl) (by rw [hO]; try rfl) (by rw [hO]; exact SgE.v7)
  · have hO : O_errorPosition f σ = oR f σ (σ.2 13) := if_neg h0
    rw [hq] at e8
    have e8 : F x 7 = .ref q := e8
    refine wa_aloadV_n (pc := 0) (y := mX1_errorPosition) dX1_errorPosition_0 rfl (by first | exact rf_s _ | exact rf_n | exact rf_q _) ?_
    refine wf_get (k := 0) (l := 9) 7 dX1_errorPosition_1 (by assumption) rfl q1118 (Or.inl rfl) (Nat.le_of_ble_eq_true rfl) (Nat.le_of_ble_eq_true rfl) (by (repeat (first | exact updF_self _ _ _ _ | (apply updF_i; · decide) | (apply updF_a; · first | assumption | (apply Ne.symm; assumption) | omega) | (apply newF_a; · first | assumption | (apply Ne.symm; assumption) | omega) | exact newL_self (by rfl) | exact newF_self (by rfl) | (apply cpyF_a; · first | assumption | (apply Ne.symm; assumption) | omega))) <;> first | assumption | rfl) ?_
    refine wa_ifnull (pc := 4) (y := mX1_errorPosition) dX1_errorPosition_4 ?_
    refine wa_iconst (pc := 7) (y := mX1_errorPosition) (Int32.ofNat 1) dX1_errorPosition_7 rfl ?_
    refine wa_goto (pc := 8) (y := mX1_errorPosition) 12 dX1_errorPosition_8 rfl ?_
    refine wa_callS (pc := 12) (s_X1_checkElement (d := d - 1) (b := true) (by omega)) dX1_errorPosition_12 okX1_checkElement q2021 q2022 rfl rfl (Nat.le_of_ble_eq_true rfl) (Nat.le_of_ble_eq_true rfl) (by omega) ?_
    rintro r h' - - (⟨-, rfl, rfl⟩ | ⟨hb, -⟩)
    rotate_left
    · cases hb
    refine aft_0 (pc2 := 15) ?_ rfl
    refine wa_aloadV_n (pc := 15) (y := mX1_errorPosition) dX1_errorPosition_15 rfl (by first | exact rf_s _ | exact rf_n | exact rf_q _) ?_
    refine wf_get (k := 0) (l := 9) 7 dX1_errorPosition_16 (by assumption) rfl q1118 (Or.inl rfl) (Nat.le_of_ble_eq_true rfl) (Nat.le_of_ble_eq_true rfl) (by (repeat (first | exact updF_self _ _ _ _ | (apply updF_i; · decide) | (apply updF_a; · first | assumption | (apply Ne.symm; assumption) | omega) | (apply newF_a; · first | assumption | (apply Ne.symm; assumption) | omega) | exact newL_self (by rfl) | exact newF_self (by rfl) | (apply cpyF_a; · first | assumption | (apply Ne.symm; assumption) | omega))) <;> first | assumption | rfl) ?_
    refine wf_getN (k := 22) (l := 1) 0 dX1_errorPosition_19 (by assumption) rfl q2571 (Or.inl rfl) (Nat.le_of_ble_eq_true rfl) (Nat.le_of_ble_eq_true rfl) (by (repeat (first | exact updF_self _ _ _ _ | (apply updF_i; · decide) | (apply updF_a; · first | assumption | (apply Ne.symm; assumption) | omega) | (apply newF_a; · first | assumption | (apply Ne.symm; assumption) | omega) | exact newL_self (by rfl) | exact newF_self (by rfl) | (apply cpyF_a; · first | assumption | (apply Ne.symm; assumption) | omega))) <;> first | assumption | rfl) ?_
    refine wa_ireturn (pc := 22) (y := mX1_errorPosition) .int dX1_errorPosition_22 rfl rfl (OpQ.val ch (by omega) R (by rw [hO]; rfl) (by rw [hO]; rfl) (by rw [hO]; rfl) (by rw [hO]; exact SgE.v7))
theorem nar_ch (hc : u v < 65536) : narrow .char (.int v) = .int v := by
  have e : v = Int32.ofNat (u v) := (u_self v).symm
  rw [e]
  exact nar_char hc
theorem sg_app {t : Int32} {g : Nat → Int32} : SgE (mV (mA σ 9 g) 10 t) (mV (mA (mV σ 7 z) 9 g) 10 t) := ⟨by simp [mV, mA], by simp [mV, mA], by simp [mV, mA], by simp [mV, mA], by simp [mV, mA], by simp [mV, mA], by simp [mV, mA], by simp [mV, mA]⟩
theorem sg_und {t : Int32} : SgE (mV σ 5 t) (mV (mV σ 7 z) 5 t) := ⟨by simp [mV, mA], by simp [mV, mA], by simp [mV, mA], by simp [mV, mA], by simp [mV, mA], by simp [mV, mA], by simp [mV, mA], by simp [mV, mA]⟩
theorem sg_sav {t : Int32} {g : Nat → Int32} : SgE (mV (mA σ 2 g) 3 t) (mV (mA (mV σ 7 z) 2 g) 3 t) := ⟨by simp [mV, mA], by simp [mV, mA], by simp [mV, mA], by simp [mV, mA], by simp [mV, mA], by simp [mV, mA], by simp [mV, mA], by simp [mV, mA]⟩
theorem nd_take {l : List Nat} (hn : l.Nodup) (h : l[m]? = some s) : s ∉ l.take m := fun e => by
  obtain ⟨k, hk⟩ := List.mem_iff_getElem?.mp e
  have hk2 := (List.getElem?_eq_some_iff.mp hk).1
  rw [List.length_take] at hk2
  rw [List.getElem?_take, if_pos (by omega)] at hk
  have h1 := (List.getElem?_eq_some_iff.mp h).1
  have := (List.getElem?_inj h1 hn).mp (h.trans hk.symm)
  omega
theorem inb_ch (h : inb v 32 126 = true) : u v < 65536 := by
  have h1 := of_decide_eq_true (Bool.and_eq_true .. ▸ h : decide (32 ≤ v) = true ∧ decide (v ≤ 126) = true).1
  have h2 := of_decide_eq_true (Bool.and_eq_true .. ▸ h : decide (32 ≤ v) = true ∧ decide (v ≤ 126) = true).2
  have h3 : inb v 0 126 = true := by
    unfold inb
    rw [decide_eq_true h2, decide_eq_true (Int32.le_trans (by decide) h1)]
    rfl
  have h4 : decide (u v ≤ 126) = true := (inb_le (n := 126) (by decide)).symm.trans h3
  have := of_decide_eq_true h4
  omega
theorem s_X1_append (hd : 8 ≤ d) (R : CompR G h F own x C f σ) : MA G d mX1_append [.ref x, .int v] (sF h F) (OpQ G h F own x [23, 24] (O_append f σ v)) := by
  have i1 := R.is
  have e5 := R.f5
  have i2 := R.ii
  have hty := R.ty
  have ch := Ch.refl (F := F) R.ob
  obtain ⟨t, ht⟩ : ∃ t, u (σ.2 10) = t := ⟨_, rfl⟩
  have et : σ.2 10 = Int32.ofNat t := by rw [← ht]; exact (u_self _).symm
  have e6 := R.f6
  rw [et] at e6
  rw [ht] at hty
  change WA G d mX1_append 0 [.ref x, .int v] [] _ _
  cases hin : inb v 32 126 with
  | false =>
    have hO : O_append f σ v = oX f σ 1 := by unfold O_append; rw [if_pos hin]
    refine wa_iload_n (pc := 0) (y := mX1_append) dX1_append_0 rfl ?_
    refine wa_bipush (pc := 1) (y := mX1_append) (Int32.ofNat 32) dX1_append_1 rfl ?_
    refine wa_bipush (pc := 3) (y := mX1_append) (Int32.ofNat 126) dX1_append_3 rfl ?_
    refine wa_callS (pc := 5) (s_X1_isIn (d := d - 1)) dX1_append_5 okX1_isIn q2020 q1692 rfl rfl (Nat.le_of_ble_eq_true rfl) (Nat.le_of_ble_eq_true rfl) (by omega) ?_
    rintro _ _ - - ⟨rfl, rfl⟩
    refine aft_v (pc2 := 8) ?_ rfl
    rw [show inb v (Int32.ofNat 32) (Int32.ofNat 126) = false from hin]
    refine wa_callS (pc := 8) (s_X1_checkArgument (d := d - 1) (b := false) (by omega)) dX1_append_8 okX1_checkArgument q2038 q1699 rfl rfl (Nat.le_of_ble_eq_true rfl) (Nat.le_of_ble_eq_true rfl) (by omega) ?_
    rintro r h' - - (⟨hb, -, -⟩ | ⟨-, T⟩)
    · cases hb
    exact T.after ⟨_, rfl⟩ rfl fun h3 F3 q fr cst iq => OpQ.thr ch (by omega) R fr cst iq (by rw [hO]; exact Nat.succ_ne_zero _) (by rw [hO]; rfl) (by rw [hO]; rfl) (by rw [hO]; exact SgE.v7)
  | true =>
    have hc := inb_ch hin
    have hnar : narrow .char (.int v) = .int v := nar_ch hc
    by_cases h60 : t = 60
    · have hO : O_append f σ v = oX f σ 2 := by unfold O_append; rw [if_neg (by rw [hin]; decide), if_pos (by omega)]
      refine wa_iload_n (pc := 0) (y := mX1_append) dX1_append_0 rfl ?_
      refine wa_bipush (pc := 1) (y := mX1_append) (Int32.ofNat 32) dX1_append_1 rfl ?_
      refine wa_bipush (pc := 3) (y := mX1_append) (Int32.ofNat 126) dX1_append_3 rfl ?_
      refine wa_callS (pc := 5) (s_X1_isIn (d := d - 1)) dX1_append_5 okX1_isIn q2020 q1692 rfl rfl (Nat.le_of_ble_eq_true rfl) (Nat.le_of_ble_eq_true rfl) (by omega) ?_
      rintro _ _ - - ⟨rfl, rfl⟩
      refine aft_v (pc2 := 8) ?_ rfl
      rw [show inb v (Int32.ofNat 32) (Int32.ofNat 126) = true from hin]
      refine wa_callS (pc := 8) (s_X1_checkArgument (d := d - 1) (b := true) (by omega)) dX1_append_8 okX1_checkArgument q2038 q1699 rfl rfl (Nat.le_of_ble_eq_true rfl) (Nat.le_of_ble_eq_true rfl) (by omega) ?_
      rintro r h' - - (⟨-, rfl, rfl⟩ | ⟨hb, -⟩)
      rotate_left
      · cases hb
      refine aft_0 (pc2 := 11) ?_ rfl
      refine wa_aloadV_n (pc := 11) (y := mX1_append) dX1_append_11 rfl (by first | exact rf_s _ | exact rf_n | exact rf_q _) ?_
      refine wf_get (k := 0) (l := 9) 6 dX1_append_12 (by assumption) rfl q1117 (Or.inl rfl) (Nat.le_of_ble_eq_true rfl) (Nat.le_of_ble_eq_true rfl) (by (repeat (first | exact updF_self _ _ _ _ | (apply updF_i; · decide) | (apply updF_a; · first | assumption | (apply Ne.symm; assumption) | omega) | (apply newF_a; · first | assumption | (apply Ne.symm; assumption) | omega) | exact newL_self (by rfl) | exact newF_self (by rfl) | (apply cpyF_a; · first | assumption | (apply Ne.symm; assumption) | omega))) <;> first | assumption | rfl) ?_
      refine wa_bipush (pc := 15) (y := mX1_append) (Int32.ofNat 60) dX1_append_15 rfl ?_
      refine wa_icmp_ge (pc := 17) 24 dX1_append_17 rfl (fun hb17 => ?_) (fun hb17 => absurd ((iN_le (by omega) (by omega)).mpr (by omega)) hb17)
      refine wa_iconst (pc := 24) (y := mX1_append) (Int32.ofNat 0) dX1_append_24 rfl ?_
      refine wa_callS (pc := 25) (s_X1_checkState (d := d - 1) (b := false) (by omega)) dX1_append_25 okX1_checkState q2331 q1707 rfl rfl (Nat.le_of_ble_eq_true rfl) (Nat.le_of_ble_eq_true rfl) (by omega) ?_
      rintro r h' - - (⟨hb, -, -⟩ | ⟨-, T⟩)
      · cases hb
      exact T.after ⟨_, rfl⟩ rfl fun h3 F3 q fr cst iq => OpQ.thr ch (by omega) R fr cst iq (by rw [hO]; exact Nat.succ_ne_zero _) (by rw [hO]; rfl) (by rw [hO]; rfl) (by rw [hO]; exact SgE.v7)
    · have hO : O_append f σ v = (0, Int32.ofNat (t + 1), f, mV (mA (mV σ 7 (Int32.ofNat 0)) 9 (upd (σ.1 9) t v)) 10 (Int32.ofNat (t + 1))) := by unfold O_append; rw [if_neg (by rw [hin]; decide), if_neg (by omega), ht]
      refine wa_iload_n (pc := 0) (y := mX1_append) dX1_append_0 rfl ?_
      refine wa_bipush (pc := 1) (y := mX1_append) (Int32.ofNat 32) dX1_append_1 rfl ?_
      refine wa_bipush (pc := 3) (y := mX1_append) (Int32.ofNat 126) dX1_append_3 rfl ?_
      refine wa_callS (pc := 5) (s_X1_isIn (d := d - 1)) dX1_append_5 okX1_isIn q2020 q1692 rfl rfl (Nat.le_of_ble_eq_true rfl) (Nat.le_of_ble_eq_true rfl) (by omega) ?_
      rintro _ _ - - ⟨rfl, rfl⟩
      refine aft_v (pc2 := 8) ?_ rfl
      rw [show inb v (Int32.ofNat 32) (Int32.ofNat 126) = true from hin]
      refine wa_callS (pc := 8) (s_X1_checkArgument (d := d - 1) (b := true) (by omega)) dX1_append_8 okX1_checkArgument q2038 q1699 rfl rfl (Nat.le_of_ble_eq_true rfl) (Nat.le_of_ble_eq_true rfl) (by omega) ?_
      rintro r h' - - (⟨-, rfl, rfl⟩ | ⟨hb, -⟩)
      rotate_left
      · cases hb
      refine aft_0 (pc2 := 11) ?_ rfl
      refine wa_aloadV_n (pc := 11) (y := mX1_append) dX1_append_11 rfl (by first | exact rf_s _ | exact rf_n | exact rf_q _) ?_
      refine wf_get (k := 0) (l := 9) 6 dX1_append_12 (by assumption) rfl q1117 (Or.inl rfl) (Nat.le_of_ble_eq_true rfl) (Nat.le_of_ble_eq_true rfl) (by (repeat (first | exact updF_self _ _ _ _ | (apply updF_i; · decide) | (apply updF_a; · first | assumption | (apply Ne.symm; assumption) | omega) | (apply newF_a; · first | assumption | (apply Ne.symm; assumption) | omega) | exact newL_self (by rfl) | exact newF_self (by rfl) | (apply cpyF_a; · first | assumption | (apply Ne.symm; assumption) | omega))) <;> first | assumption | rfl) ?_
      refine wa_bipush (pc := 15) (y := mX1_append) (Int32.ofNat 60) dX1_append_15 rfl ?_
      refine wa_icmp_ge (pc := 17) 24 dX1_append_17 rfl (fun hb17 => absurd ((iN_le (by omega) (by omega)).mp hb17) (by omega)) (fun hb17 => ?_)
      refine wa_iconst (pc := 20) (y := mX1_append) (Int32.ofNat 1) dX1_append_20 rfl ?_
      refine wa_goto (pc := 21) (y := mX1_append) 25 dX1_append_21 rfl ?_
      refine wa_callS (pc := 25) (s_X1_checkState (d := d - 1) (b := true) (by omega)) dX1_append_25 okX1_checkState q2331 q1707 rfl rfl (Nat.le_of_ble_eq_true rfl) (Nat.le_of_ble_eq_true rfl) (by omega) ?_
      rintro r h' - - (⟨-, rfl, rfl⟩ | ⟨hb, -⟩)
      rotate_left
      · cases hb
      refine aft_0 (pc2 := 28) ?_ rfl
      refine wa_aloadV_n (pc := 28) (y := mX1_append) dX1_append_28 rfl (by first | exact rf_s _ | exact rf_n | exact rf_q _) ?_
      refine wf_get (k := 0) (l := 9) 5 dX1_append_29 (by assumption) rfl q1116 (Or.inl rfl) (Nat.le_of_ble_eq_true rfl) (Nat.le_of_ble_eq_true rfl) (by (repeat (first | exact updF_self _ _ _ _ | (apply updF_i; · decide) | (apply updF_a; · first | assumption | (apply Ne.symm; assumption) | omega) | (apply newF_a; · first | assumption | (apply Ne.symm; assumption) | omega) | exact newL_self (by rfl) | exact newF_self (by rfl) | (apply cpyF_a; · first | assumption | (apply Ne.symm; assumption) | omega))) <;> first | assumption | rfl) ?_
      refine wa_aloadV_n (pc := 32) (y := mX1_append) dX1_append_32 rfl (by first | exact rf_s _ | exact rf_n | exact rf_q _) ?_
      refine wf_get (k := 0) (l := 9) 6 dX1_append_33 (by assumption) rfl q1117 (Or.inl rfl) (Nat.le_of_ble_eq_true rfl) (Nat.le_of_ble_eq_true rfl) (by (repeat (first | exact updF_self _ _ _ _ | (apply updF_i; · decide) | (apply updF_a; · first | assumption | (apply Ne.symm; assumption) | omega) | (apply newF_a; · first | assumption | (apply Ne.symm; assumption) | omega) | exact newL_self (by rfl) | exact newF_self (by rfl) | (apply cpyF_a; · first | assumption | (apply Ne.symm; assumption) | omega))) <;> first | assumption | rfl) ?_
      refine wa_iload_n (pc := 36) (y := mX1_append) dX1_append_36 rfl ?_
      refine wf_castore dX1_append_37 (by assumption) (by omega) ?_
      rw [hnar]; have e6b : updF F C.inp t (.int v) x 6 = .int (Int32.ofNat t) := updF_a (i1.ne i2 (by decide)) e6
      have e5b : updF F C.inp t (.int v) x 5 = .ref C.inp := updF_a (i1.ne i2 (by decide)) e5
      have R2 := R.setInp (j := t) hc; have c1 : Ch 0 h F own h (updF F C.inp t (.int v)) own := Ch.ofX R (Fr.upd (P := (· = C.inp)) rfl) (fun b e ho => by rw [e, R.oi] at ho; cases ho)
      clear e6; generalize updF F C.inp t (.int v) = F2 at *
      refine wa_aloadV_n (pc := 38) (y := mX1_append) dX1_append_38 rfl (by first | exact rf_s _ | exact rf_n | exact rf_q _) ?_
      refine wa_dup (pc := 39) (y := mX1_append) dX1_append_39 (by first | rfl | exact rf_cat _) ?_
      refine wf_get (k := 0) (l := 9) 6 dX1_append_40 (by assumption) rfl q1117 (Or.inl rfl) (Nat.le_of_ble_eq_true rfl) (Nat.le_of_ble_eq_true rfl) (by (repeat (first | exact updF_self _ _ _ _ | (apply updF_i; · decide) | (apply updF_a; · first | assumption | (apply Ne.symm; assumption) | omega) | (apply newF_a; · first | assumption | (apply Ne.symm; assumption) | omega) | exact newL_self (by rfl) | exact newF_self (by rfl) | (apply cpyF_a; · first | assumption | (apply Ne.symm; assumption) | omega))) <;> first | assumption | rfl) ?_
      refine wa_iconst (pc := 43) (y := mX1_append) (Int32.ofNat 1) dX1_append_43 rfl ?_
      first | with_reducible refine wa_iaddN (pc := 44) (y := mX1_append) dX1_append_44 ?_ | refine wa_iadd (pc := 44) (y := mX1_append) dX1_append_44 ?_
      refine wf_put (k := 0) (l := 9) 6 .int dX1_append_45 (by assumption) rfl q1117 (Or.inl rfl) (Nat.le_of_ble_eq_true rfl) rfl (by decide +kernel) rfl rfl ?_
      refine wa_aloadV_n (pc := 48) (y := mX1_append) dX1_append_48 rfl (by first | exact rf_s _ | exact rf_n | exact rf_q _) ?_
      refine wf_get (k := 0) (l := 9) 6 dX1_append_49 (by assumption) rfl q1117 (Or.inl rfl) (Nat.le_of_ble_eq_true rfl) (Nat.le_of_ble_eq_true rfl) (by (repeat (first | exact updF_self _ _ _ _ | (apply updF_i; · decide) | (apply updF_a; · first | assumption | (apply Ne.symm; assumption) | omega) | (apply newF_a; · first | assumption | (apply Ne.symm; assumption) | omega) | exact newL_self (by rfl) | exact newF_self (by rfl) | (apply cpyF_a; · first | assumption | (apply Ne.symm; assumption) | omega))) <;> first | assumption | rfl) ?_
      refine wa_ireturn (pc := 52) (y := mX1_append) .int dX1_append_52 rfl rfl ?_
      have R3 := R2.setTy (z := Int32.ofNat (t + 1)) (by rw [u_of (by omega)]; omega)
      exact OpQ.val (ch.trans (c1.trans (Ch.setx R2))) (by omega) R3 (by rw [hO]) (by rw [hO]) (by rw [hO]) (by rw [hO]; exact sg_app)
theorem s_X1_undo (hd : 9 ≤ d) (R : CompR G h F own x C f σ) : MA G d mX1_undo [.ref x] (sF h F) (OpQ G h F own x [26] (O_undo f σ)) := by
  have i1 := R.is
  have e2 := R.f2
  have p1 := R.pa.1
  have hl := R.hl
  have h6 := R.pa.2.2.2.2.1
  have ch := Ch.refl (F := F) R.ob
  change WA G d mX1_undo 0 [.ref x] [] _ _
  refine wa_aloadV_n (pc := 0) (y := mX1_undo) dX1_undo_0 rfl (by first | exact rf_s _ | exact rf_n | exact rf_q _) ?_
  refine wa_aloadV_n (pc := 1) (y := mX1_undo) dX1_undo_1 rfl (by first | exact rf_s _ | exact rf_n | exact rf_q _) ?_
  refine wf_get (k := 0) (l := 9) 2 dX1_undo_2 (by assumption) rfl q1113 (Or.inl rfl) (Nat.le_of_ble_eq_true rfl) (Nat.le_of_ble_eq_true rfl) (by (repeat (first | exact updF_self _ _ _ _ | (apply updF_i; · decide) | (apply updF_a; · first | assumption | (apply Ne.symm; assumption) | omega) | (apply newF_a; · first | assumption | (apply Ne.symm; assumption) | omega) | exact newL_self (by rfl) | exact newF_self (by rfl) | (apply cpyF_a; · first | assumption | (apply Ne.symm; assumption) | omega))) <;> first | assumption | rfl) ?_
  refine wa_callV (pc := 5) (s_X4_takeLatest (d := d - 1) (by omega) R) dX1_undo_5 okX4_takeLatest q2617 q2618 q2619 (sF_at (by assumption)) rfl rfl rfl (Nat.le_of_ble_eq_true rfl) (Nat.le_of_ble_eq_true rfl) (by omega) ?_
  rintro r h' - - (⟨h0, T⟩ | ⟨m, s, F2, hm, hs, rfl, rfl, ch2, R2, S2⟩)
  · have hO : O_undo f σ = oX f σ 1 := if_pos (by omega)
    exact T.after ⟨_, rfl⟩ rfl fun h3 F3 q fr cst iq => OpQ.thr ch (by omega) R fr cst iq (by rw [hO]; exact Nat.succ_ne_zero _) (by rw [hO]; rfl) (by rw [hO]; try rfl) (by rw [hO]; exact SgE.v7)
  refine aft_v (pc2 := 8) ?_ rfl
  have is2 := S2.is; have j1 := R2.is; have j2 := R2.f2; have j3 := R2.pa.1
  have hs0 := hs; have hns : s ∉ C.hs.take m := nd_take R.hn hs
  refine wa_castS (pc := 8) (y := mX1_undo) (k := 1) dX1_undo_8 (sF_at (by assumption)) rfl q153 ?_
  refine wf_put (k := 0) (l := 9) 0 (.object "CueStack$Show") dX1_undo_11 (by assumption) rfl q1111 (Or.inl rfl) (Nat.le_of_ble_eq_true rfl) rfl (by decide +kernel) (by first | rfl | exact rf_nar _ | exact rf_nar2 _) (by first | rfl | exact rf_fit _ | exact rf_fit2 _) ?_
  have R3 := R2.setShow S2 (fun e => is2.ne j1 (by decide) e) (fun q => q.elim hns (fun q => by rcases R.sv with ⟨-, e2⟩ | ⟨-, s9, e2, -, -, e5⟩; rw [show C.sv = some s from q] at e2; cases e2; rw [show C.sv = some s from q] at e2; cases e2; exact e5 (List.mem_of_getElem? hs0)))
  have chx := Ch.setx (i := 0) (w := .ref s) R2
  generalize updF F2 x 0 (.ref s) = F3 at *
  have j4 := R3.is; have j5 := R3.f2; have j6 := R3.pa.1
  refine wa_aloadV_n (pc := 14) (y := mX1_undo) dX1_undo_14 rfl (by first | exact rf_s _ | exact rf_n | exact rf_q _) ?_
  refine wf_get (k := 0) (l := 9) 2 dX1_undo_15 (by assumption) rfl q1113 (Or.inl rfl) (Nat.le_of_ble_eq_true rfl) (Nat.le_of_ble_eq_true rfl) (by (repeat (first | exact updF_self _ _ _ _ | (apply updF_i; · decide) | (apply updF_a; · first | assumption | (apply Ne.symm; assumption) | omega) | (apply newF_a; · first | assumption | (apply Ne.symm; assumption) | omega) | exact newL_self (by rfl) | exact newF_self (by rfl) | (apply cpyF_a; · first | assumption | (apply Ne.symm; assumption) | omega))) <;> first | assumption | rfl) ?_
  refine wa_callV (pc := 18) (s_X4_size (d := d - 1) (by omega) R3) dX1_undo_18 okX4_size q2622 q2623 q2624 (sF_at (by assumption)) rfl rfl rfl (Nat.le_of_ble_eq_true rfl) (Nat.le_of_ble_eq_true rfl) (by omega) ?_
  rintro _ _ - - ⟨rfl, rfl⟩
  refine aft_v (pc2 := 21) ?_ rfl
  refine wa_ireturn (pc := 21) (y := mX1_undo) .int dX1_undo_21 rfl rfl ?_
  have hO : O_undo f σ = (0, Int32.ofNat m, (fun j => σ.1 4 (462 * m + j)), mV (mV σ 7 (Int32.ofNat 0)) 5 (Int32.ofNat m)) := by unfold O_undo; rw [if_neg (by omega), show u (σ.2 5) - 1 = m by omega]
  exact OpQ.val (ch.trans (ch2.trans chx)) (by omega) R3 (by rw [hO]) (by rw [hO]; show Int32.ofNat m = Int32.ofNat (C.hs.take m).length; rw [List.length_take]; congr 1; omega) (by rw [hO]) (by rw [hO]; exact sg_und)
theorem s_X1_save (hd : 18 ≤ d) (hG : StG G) (R : CompR G h F own x C f σ) : MA G d mX1_save [.ref x] (sF h F) (OpQ G h F own x [] (O_save f σ)) := by
  have i1 := R.is
  have e0 := R.f0
  have k1 := R.sh.is
  have ch := Ch.refl (F := F) R.ob
  change WA G d mX1_save 0 [.ref x] [] _ _
  refine wa_aloadV_n (pc := 0) (y := mX1_save) dX1_save_0 rfl (by first | exact rf_s _ | exact rf_n | exact rf_q _) ?_
  refine wa_aloadV_n (pc := 1) (y := mX1_save) dX1_save_1 rfl (by first | exact rf_s _ | exact rf_n | exact rf_q _) ?_
  refine wf_get (k := 0) (l := 9) 0 dX1_save_2 (by assumption) rfl q1111 (Or.inl rfl) (Nat.le_of_ble_eq_true rfl) (Nat.le_of_ble_eq_true rfl) (by (repeat (first | exact updF_self _ _ _ _ | (apply updF_i; · decide) | (apply updF_a; · first | assumption | (apply Ne.symm; assumption) | omega) | (apply newF_a; · first | assumption | (apply Ne.symm; assumption) | omega) | exact newL_self (by rfl) | exact newF_self (by rfl) | (apply cpyF_a; · first | assumption | (apply Ne.symm; assumption) | omega))) <;> first | assumption | rfl) ?_
  refine wa_callV (pc := 5) (s_X2_copyA (d := d - 1) (by omega) hG R.em R.ob R.sh) dX1_save_5 okX2_copy q1175 q1176 q1177 (sF_at (by assumption)) rfl rfl rfl (Nat.le_of_ble_eq_true rfl) (Nat.le_of_ble_eq_true rfl) (by omega) ?_
  rintro _ _ - - ⟨h2, F2, s2, own2, rfl, rfl, fr2, cst2, t2, S2, D2, hs2⟩
  refine aft_v (pc2 := 8) ?_ rfl
  have R2 := R.onS fr2 t2 S2
  have k2 := D2.is; have j1 := R2.is
  have hlt : ∀ s, s ∈ C.hs ∨ C.sv = some s → s ≠ s2 := fun s hs => by have := R.lts hs; omega
  refine wf_put (k := 0) (l := 9) 1 (.object "CueStack$Show") dX1_save_8 (by assumption) rfl q1112 (Or.inl rfl) (Nat.le_of_ble_eq_true rfl) rfl (by decide +kernel) (by first | rfl | exact rf_nar _ | exact rf_nar2 _) (by first | rfl | exact rf_fit _ | exact rf_fit2 _) ?_
  have R3 := R2.setSv D2 (by have := k1.lt; omega) (fun q => hlt s2 (Or.inl q) rfl)
  have D3 : ShowAt G h2 (updF F2 x 1 (.ref s2)) own2 s2 f := by rcases R3.sv with ⟨e, -⟩ | ⟨-, s, e, D, -⟩; exact absurd e (by show ¬ (1 : Int32) = 0; decide); cases e; exact D
  obtain ⟨gf3, A3, h603, S3⟩ := id D3
  have chx := Ch.setx (i := 1) (w := .ref s2) R2
  generalize updF F2 x 1 (.ref s2) = F3 at *
  have q1 := R3.is; have q2 := R3.f1; have q3 : F3 x 1 = .ref s2 := q2; have q4 := S3.f0; have q5 := S3.cl.1; have q6 := S3.is
  refine wa_aloadV_n (pc := 11) (y := mX1_save) dX1_save_11 rfl (by first | exact rf_s _ | exact rf_n | exact rf_q _) ?_
  refine wf_get (k := 0) (l := 9) 1 dX1_save_12 (by assumption) rfl q1112 (Or.inl rfl) (Nat.le_of_ble_eq_true rfl) (Nat.le_of_ble_eq_true rfl) (by (repeat (first | exact updF_self _ _ _ _ | (apply updF_i; · decide) | (apply updF_a; · first | assumption | (apply Ne.symm; assumption) | omega) | (apply newF_a; · first | assumption | (apply Ne.symm; assumption) | omega) | exact newL_self (by rfl) | exact newF_self (by rfl) | (apply cpyF_a; · first | assumption | (apply Ne.symm; assumption) | omega))) <;> first | assumption | rfl) ?_
  refine wf_getN (k := 1) (l := 8) 0 dX1_save_15 (by assumption) rfl q356 (Or.inl rfl) (Nat.le_of_ble_eq_true rfl) (Nat.le_of_ble_eq_true rfl) (by (repeat (first | exact updF_self _ _ _ _ | (apply updF_i; · decide) | (apply updF_a; · first | assumption | (apply Ne.symm; assumption) | omega) | (apply newF_a; · first | assumption | (apply Ne.symm; assumption) | omega) | exact newL_self (by rfl) | exact newF_self (by rfl) | (apply cpyF_a; · first | assumption | (apply Ne.symm; assumption) | omega))) <;> first | assumption | rfl) ?_
  refine wa_callV (pc := 18) (s_J2_size (d := d - 1) S3.cl) dX1_save_18 okJ2_size q1144 q1145 q1146 (sF_at (by assumption)) rfl rfl rfl (Nat.le_of_ble_eq_true rfl) (Nat.le_of_ble_eq_true rfl) (by omega) ?_
  rintro _ _ - - ⟨rfl, rfl⟩
  refine aft_v (pc2 := 21) ?_ rfl
  refine wa_ireturn (pc := 21) (y := mX1_save) .int dX1_save_21 rfl rfl (OpQ.val (ch.trans ((Ch.ofS fr2 cst2 t2).trans chx)) (by omega) R3 rfl (by show f 0 = _; rw [← S3.nc, u_self]) rfl sg_sav)
theorem s_X1_restore (hd : 18 ≤ d) (hG : StG G) (R : CompR G h F own x C f σ) : MA G d mX1_restore [.ref x] (sF h F) (OpQ G h F own x [24] (O_restore f σ)) := by
  have i1 := R.is
  have e0 := R.f0
  have e1 := R.f1
  have e2 := R.f2
  have p1 := R.pa.1
  have ch := Ch.refl (F := F) R.ob
  change WA G d mX1_restore 0 [.ref x] [] _ _
  rcases R.sv with ⟨h0, hn⟩ | ⟨h0, s, hq, D, hne, hmem⟩
  · have hO : O_restore f σ = oX f σ 1 := if_pos h0
    rw [hn] at e1
    have e1 : F x 1 = .null := e1
    refine wa_aloadV_n (pc := 0) (y := mX1_restore) dX1_restore_0 rfl (by first | exact rf_s _ | exact rf_n | exact rf_q _) ?_
    refine wf_get (k := 0) (l := 9) 1 dX1_restore_1 (by assumption) rfl q1112 (Or.inl rfl) (Nat.le_of_ble_eq_true rfl) (Nat.le_of_ble_eq_true rfl) (by (repeat (first | exact updF_self _ _ _ _ | (apply updF_i; · decide) | (apply updF_a; · first | assumption | (apply Ne.symm; assumption) | omega) | (apply newF_a; · first | assumption | (apply Ne.symm; assumption) | omega) | exact newL_self (by rfl) | exact newF_self (by rfl) | (apply cpyF_a; · first | assumption | (apply Ne.symm; assumption) | omega))) <;> first | assumption | rfl) ?_
    refine wa_ifnullN (pc := 4) (y := mX1_restore) 11 dX1_restore_4 rfl ?_
    refine wa_iconst (pc := 11) (y := mX1_restore) (Int32.ofNat 0) dX1_restore_11 rfl ?_
    refine wa_callS (pc := 12) (s_X1_checkState (d := d - 1) (b := false) (by omega)) dX1_restore_12 okX1_checkState q2331 q1707 rfl rfl (Nat.le_of_ble_eq_true rfl) (Nat.le_of_ble_eq_true rfl) (by omega) ?_
    rintro r h' - - (⟨hb, -, -⟩ | ⟨-, T⟩)
    · cases hb
    exact T.after ⟨_, rfl⟩ rfl fun h3 F3 q fr cst iq => OpQ.thr ch (by omega) R fr cst iq (by rw [hO]; exact Nat.succ_ne_zero _) (by rw [hO]; try rfl) (by rw [hO]; try rfl) (by rw [hO]; exact SgE.v7)
  · have hO : O_restore f σ = (0, σ.1 2 0, σ.1 2, mV (mV σ 7 (Int32.ofNat 0)) 5 (Int32.ofNat 0)) := if_neg h0
    rw [hq] at e1
    have e1 : F x 1 = .ref s := e1
    have k1 := D.is
    refine wa_aloadV_n (pc := 0) (y := mX1_restore) dX1_restore_0 rfl (by first | exact rf_s _ | exact rf_n | exact rf_q _) ?_
    refine wf_get (k := 0) (l := 9) 1 dX1_restore_1 (by assumption) rfl q1112 (Or.inl rfl) (Nat.le_of_ble_eq_true rfl) (Nat.le_of_ble_eq_true rfl) (by (repeat (first | exact updF_self _ _ _ _ | (apply updF_i; · decide) | (apply updF_a; · first | assumption | (apply Ne.symm; assumption) | omega) | (apply newF_a; · first | assumption | (apply Ne.symm; assumption) | omega) | exact newL_self (by rfl) | exact newF_self (by rfl) | (apply cpyF_a; · first | assumption | (apply Ne.symm; assumption) | omega))) <;> first | assumption | rfl) ?_
    refine wa_ifnull (pc := 4) (y := mX1_restore) dX1_restore_4 ?_
    refine wa_iconst (pc := 7) (y := mX1_restore) (Int32.ofNat 1) dX1_restore_7 rfl ?_
    refine wa_goto (pc := 8) (y := mX1_restore) 12 dX1_restore_8 rfl ?_
    refine wa_callS (pc := 12) (s_X1_checkState (d := d - 1) (b := true) (by omega)) dX1_restore_12 okX1_checkState q2331 q1707 rfl rfl (Nat.le_of_ble_eq_true rfl) (Nat.le_of_ble_eq_true rfl) (by omega) ?_
    rintro r h' - - (⟨-, rfl, rfl⟩ | ⟨hb, -⟩)
    rotate_left
    · cases hb
    refine aft_0 (pc2 := 15) ?_ rfl
    refine wa_aloadV_n (pc := 15) (y := mX1_restore) dX1_restore_15 rfl (by first | exact rf_s _ | exact rf_n | exact rf_q _) ?_
    refine wa_aloadV_n (pc := 16) (y := mX1_restore) dX1_restore_16 rfl (by first | exact rf_s _ | exact rf_n | exact rf_q _) ?_
    refine wf_get (k := 0) (l := 9) 1 dX1_restore_17 (by assumption) rfl q1112 (Or.inl rfl) (Nat.le_of_ble_eq_true rfl) (Nat.le_of_ble_eq_true rfl) (by (repeat (first | exact updF_self _ _ _ _ | (apply updF_i; · decide) | (apply updF_a; · first | assumption | (apply Ne.symm; assumption) | omega) | (apply newF_a; · first | assumption | (apply Ne.symm; assumption) | omega) | exact newL_self (by rfl) | exact newF_self (by rfl) | (apply cpyF_a; · first | assumption | (apply Ne.symm; assumption) | omega))) <;> first | assumption | rfl) ?_
    refine wa_callV (pc := 20) (s_X2_copyA (d := d - 1) (by omega) hG R.em R.ob D) dX1_restore_20 okX2_copy q1175 q1176 q1177 (sF_at (by assumption)) rfl rfl rfl (Nat.le_of_ble_eq_true rfl) (Nat.le_of_ble_eq_true rfl) (by omega) ?_
    rintro _ _ - - ⟨h2, F2, s2, own2, rfl, rfl, fr2, cst2, t2, S2, D2, hs2⟩
    refine aft_v (pc2 := 23) ?_ rfl
    have R2 := R.onV hq fr2 t2 S2
    have k2 := D2.is; have j1 := R2.is
    have hlt : ∀ s, s ∈ C.hs ∨ C.sv = some s → s ≠ s2 := fun s hs => by have := R.lts hs; omega
    refine wf_put (k := 0) (l := 9) 0 (.object "CueStack$Show") dX1_restore_23 (by assumption) rfl q1111 (Or.inl rfl) (Nat.le_of_ble_eq_true rfl) rfl (by decide +kernel) (by first | rfl | exact rf_nar _ | exact rf_nar2 _) (by first | rfl | exact rf_fit _ | exact rf_fit2 _) ?_
    have R3 := R2.setShow D2 (by have := i1.lt; omega) (fun q => hlt s2 q rfl)
    have chx := Ch.setx (i := 0) (w := .ref s2) R2
    generalize updF F2 x 0 (.ref s2) = F3 at *
    have j2 := R3.is; have j3 := R3.f2; have j4 := R3.pa.1
    refine wa_aloadV_n (pc := 26) (y := mX1_restore) dX1_restore_26 rfl (by first | exact rf_s _ | exact rf_n | exact rf_q _) ?_
    refine wf_get (k := 0) (l := 9) 2 dX1_restore_27 (by assumption) rfl q1113 (Or.inl rfl) (Nat.le_of_ble_eq_true rfl) (Nat.le_of_ble_eq_true rfl) (by (repeat (first | exact updF_self _ _ _ _ | (apply updF_i; · decide) | (apply updF_a; · first | assumption | (apply Ne.symm; assumption) | omega) | (apply newF_a; · first | assumption | (apply Ne.symm; assumption) | omega) | exact newL_self (by rfl) | exact newF_self (by rfl) | (apply cpyF_a; · first | assumption | (apply Ne.symm; assumption) | omega))) <;> first | assumption | rfl) ?_
    refine wa_callV (pc := 30) (s_X4_forget (d := d - 1) (by omega) R3) dX1_restore_30 okX4_forget q1148 q1149 q1150 (sF_at (by assumption)) rfl rfl rfl (Nat.le_of_ble_eq_true rfl) (Nat.le_of_ble_eq_true rfl) (by omega) ?_
    rintro _ _ - - ⟨rfl, F4, rfl, ch4, R4⟩
    refine aft_0 (pc2 := 33) ?_ rfl
    obtain ⟨gf4, A4, h604, S4⟩ := id R4.sh
    have q1 := R4.is; have q2 := R4.f0; have q4 := S4.f0; have q5 := S4.cl.1; have q6 := S4.is
    refine wa_aloadV_n (pc := 33) (y := mX1_restore) dX1_restore_33 rfl (by first | exact rf_s _ | exact rf_n | exact rf_q _) ?_
    refine wf_get (k := 0) (l := 9) 0 dX1_restore_34 (by assumption) rfl q1111 (Or.inl rfl) (Nat.le_of_ble_eq_true rfl) (Nat.le_of_ble_eq_true rfl) (by (repeat (first | exact updF_self _ _ _ _ | (apply updF_i; · decide) | (apply updF_a; · first | assumption | (apply Ne.symm; assumption) | omega) | (apply newF_a; · first | assumption | (apply Ne.symm; assumption) | omega) | exact newL_self (by rfl) | exact newF_self (by rfl) | (apply cpyF_a; · first | assumption | (apply Ne.symm; assumption) | omega))) <;> first | assumption | rfl) ?_
    refine wf_getN (k := 1) (l := 8) 0 dX1_restore_37 (by assumption) rfl q356 (Or.inl rfl) (Nat.le_of_ble_eq_true rfl) (Nat.le_of_ble_eq_true rfl) (by (repeat (first | exact updF_self _ _ _ _ | (apply updF_i; · decide) | (apply updF_a; · first | assumption | (apply Ne.symm; assumption) | omega) | (apply newF_a; · first | assumption | (apply Ne.symm; assumption) | omega) | exact newL_self (by rfl) | exact newF_self (by rfl) | (apply cpyF_a; · first | assumption | (apply Ne.symm; assumption) | omega))) <;> first | assumption | rfl) ?_
    refine wa_callV (pc := 40) (s_J2_size (d := d - 1) S4.cl) dX1_restore_40 okJ2_size q1144 q1145 q1146 (sF_at (by assumption)) rfl rfl rfl (Nat.le_of_ble_eq_true rfl) (Nat.le_of_ble_eq_true rfl) (by omega) ?_
    rintro _ _ - - ⟨rfl, rfl⟩
    refine aft_v (pc2 := 43) ?_ rfl
    refine wa_ireturn (pc := 43) (y := mX1_restore) .int dX1_restore_43 rfl rfl (OpQ.val (ch.trans ((Ch.ofS fr2 cst2 t2).trans (chx.trans ch4))) (by omega) R4 (by rw [hO]) (by rw [hO]; show σ.1 2 0 = _; rw [← S4.nc, u_self]) (by rw [hO]) (by rw [hO]; exact sg_und))
theorem good_zero : GoodF (fun _ => 0) := by
  have e : u (0 : Int32) = 0 := by decide
  refine ⟨⟨by show u (0 : Int32) ≤ 12; omega, by show u (0 : Int32) ≤ 60; omega, fun i hi => ?_, fun i j h1 h2 => ?_, fun k hk => ?_, fun j k h1 h2 => ?_⟩, fun c hc => by show (0 : Int32) ≠ -1; decide, Int32.le_refl 0⟩
  · have hi : i < u (0 : Int32) := hi
    omega
  · have h2 : j < u (0 : Int32) := h2
    omega
  · have hk : k < u (0 : Int32) := hk
    omega
  · have h2 : k < u (0 : Int32) := h2
    omega
theorem s_X1_clear (hd : 18 ≤ d) (hG : StG G) (R : CompR G h F own x C f σ) : MA G d mX1_clear [.ref x] (sF h F) (OpQ G h F own x [] (O_clear f σ)) := by
  have i1 := R.is
  have e0 := R.f0
  have e2 := R.f2
  have k1 := R.sh.is
  have p1 := R.pa.1
  obtain ⟨gf, A, h60, S⟩ := id R.sh
  have h12 := gf.1.1
  have x0 := S.f0
  have x2 := S.f2
  have x3 := S.f3
  have x7 := S.f7
  have xh := S.hm
  have xc := S.cl.1
  have xl := S.fl.1
  have ch := Ch.refl (F := F) R.ob
  change WA G d mX1_clear 0 [.ref x, .retAddr 0] [] _ _
  have hns : x ≠ h.1 := Nat.ne_of_lt i1.lt
  have hns2 : C.s ≠ h.1 := Nat.ne_of_lt k1.lt
  have s1 := i1.new (k2 := 1) (l2 := 8)
  have s2 := k1.new (k2 := 1) (l2 := 8)
  refine wa_aloadV_n (pc := 0) (y := mX1_clear) dX1_clear_0 rfl (by first | exact rf_s _ | exact rf_n | exact rf_q _) ?_
  refine wf_get (k := 0) (l := 9) 0 dX1_clear_1 (by assumption) rfl q1111 (Or.inl rfl) (Nat.le_of_ble_eq_true rfl) (Nat.le_of_ble_eq_true rfl) (by (repeat (first | exact updF_self _ _ _ _ | (apply updF_i; · decide) | (apply updF_a; · first | assumption | (apply Ne.symm; assumption) | omega) | (apply newF_a; · first | assumption | (apply Ne.symm; assumption) | omega) | exact newL_self (by rfl) | exact newF_self (by rfl) | (apply cpyF_a; · first | assumption | (apply Ne.symm; assumption) | omega))) <;> first | assumption | rfl) ?_
  refine wf_getN (k := 1) (l := 8) 0 dX1_clear_4 (by assumption) rfl q356 (Or.inl rfl) (Nat.le_of_ble_eq_true rfl) (Nat.le_of_ble_eq_true rfl) (by (repeat (first | exact updF_self _ _ _ _ | (apply updF_i; · decide) | (apply updF_a; · first | assumption | (apply Ne.symm; assumption) | omega) | (apply newF_a; · first | assumption | (apply Ne.symm; assumption) | omega) | exact newL_self (by rfl) | exact newF_self (by rfl) | (apply cpyF_a; · first | assumption | (apply Ne.symm; assumption) | omega))) <;> first | assumption | rfl) ?_
  refine wa_callV (pc := 7) (s_J2_size (d := d - 1) S.cl) dX1_clear_7 okJ2_size q1144 q1145 q1146 (sF_at (by assumption)) rfl rfl rfl (Nat.le_of_ble_eq_true rfl) (Nat.le_of_ble_eq_true rfl) (by omega) ?_
  rintro _ _ - - ⟨rfl, rfl⟩
  refine aft_v (pc2 := 10) ?_ rfl
  refine wa_istore_n (pc := 10) (y := mX1_clear) dX1_clear_10 (Nat.le_of_ble_eq_true rfl) (by first | rfl | (simp [okst, rf_cat] <;> assumption)) ?_
  change WA _ _ _ _ (List.set _ 1 _) _ _ _
  simp only [List.set_cons_zero, List.set_cons_succ]
  refine wa_aloadV_n (pc := 11) (y := mX1_clear) dX1_clear_11 rfl (by first | exact rf_s _ | exact rf_n | exact rf_q _) ?_
  refine wf_new (k := 1) (l := 8) [.null, .null, .null, .null, .int 0, .int 0, .int 0, .int 0] tyX2 dX1_clear_12 rfl q153 q154 q85 tyX2_ok rfl rfl ?_
  refine wa_dup (pc := 15) (y := mX1_clear) dX1_clear_15 (by first | rfl | exact rf_cat _) ?_
  refine wa_callI (pc := 16) (s_X2_init (d := d - 1) (s := h.1) (by omega) hG (Is.self (h := h)) (fun j h1 h2 => newF_self (by rcases (show j = 4 ∨ j = 5 ∨ j = 6 ∨ j = 7 by omega) with rfl | rfl | rfl | rfl <;> rfl)) (R.em.new (k2 := 1) (l2 := 8))) dX1_clear_16 okX2_init rfl rfl rfl q155 q156 rfl rfl (Nat.le_of_ble_eq_true rfl) (Nat.le_of_ble_eq_true rfl) (by omega) ?_
  rintro _ _ - - ⟨rfl, h3, F3, cl, im, hm, fl, fa, fc, fs, rfl, I, hl, fr3, cst3⟩
  refine aft_0 (pc2 := 19) ?_ rfl
  have fr : Fr NoP h F h3 F3 := (Fr.newT Fr.refl).trans fr3 (fun b hb e => absurd e (by omega))
  have cst : Cst 700 h h3 := ⟨by have := cst3.1; have e : (hNew h 1 8).1 = h.1 + 1 := rfl; omega, by have := cst3.2; have e : (hNew h 1 8).2.1 = h.2.1 + 8 := rfl; omega⟩
  have t := OwT.ext (h2 := h3) R.ob fr.1.1 h.1
  have R2 := R.gen fr (fun _ _ q => q) (fun _ _ _ _ q => q) (fun _ _ q => q) t (R.old t (R.sh.rd fr))
  have D := I.show hl
  have D2 : ShowAt G h3 F3 (fun b => if b < h.1 then own b else if b < h3.1 then some h.1 else none) h.1 (fun _ => 0) := ⟨good_zero, _, by decide, D.mono fun b hb q => by have hb9 : h.1 ≤ b := q.elim (fun e => by omega) (fun e => by have e9 : (hNew h 1 8).1 = h.1 + 1 := rfl; omega); exact (if_neg (by omega)).trans (if_pos hb)⟩
  have j1 := R2.is; have k2 := D2.is
  refine wf_put (k := 0) (l := 9) 0 (.object "CueStack$Show") dX1_clear_19 (by assumption) rfl q1111 (Or.inl rfl) (Nat.le_of_ble_eq_true rfl) rfl (by decide +kernel) (by first | rfl | exact rf_nar _ | exact rf_nar2 _) (by first | rfl | exact rf_fit _ | exact rf_fit2 _) ?_
  have R3 := R2.setShow D2 (Ne.symm hns) (fun q => by have := R.lts q; omega)
  have chx := Ch.setx (i := 0) (w := .ref h.1) R2
  generalize updF F3 x 0 (.ref h.1) = F5 at *
  have j2 := R3.is; have j3 := R3.f2; have j4 := R3.pa.1
  refine wa_aloadV_n (pc := 22) (y := mX1_clear) dX1_clear_22 rfl (by first | exact rf_s _ | exact rf_n | exact rf_q _) ?_
  refine wf_get (k := 0) (l := 9) 2 dX1_clear_23 (by assumption) rfl q1113 (Or.inl rfl) (Nat.le_of_ble_eq_true rfl) (Nat.le_of_ble_eq_true rfl) (by (repeat (first | exact updF_self _ _ _ _ | (apply updF_i; · decide) | (apply updF_a; · first | assumption | (apply Ne.symm; assumption) | omega) | (apply newF_a; · first | assumption | (apply Ne.symm; assumption) | omega) | exact newL_self (by rfl) | exact newF_self (by rfl) | (apply cpyF_a; · first | assumption | (apply Ne.symm; assumption) | omega))) <;> first | assumption | rfl) ?_
  refine wa_callV (pc := 26) (s_X4_forget (d := d - 1) (by omega) R3) dX1_clear_26 okX4_forget q1148 q1149 q1150 (sF_at (by assumption)) rfl rfl rfl (Nat.le_of_ble_eq_true rfl) (Nat.le_of_ble_eq_true rfl) (by omega) ?_
  rintro _ _ - - ⟨rfl, F4, rfl, ch4, R4⟩
  refine aft_0 (pc2 := 29) ?_ rfl
  refine wa_iload_n (pc := 29) (y := mX1_clear) dX1_clear_29 rfl ?_
  refine wa_ireturn (pc := 30) (y := mX1_clear) .int dX1_clear_30 rfl rfl (OpQ.val (ch.trans ((Ch.rd fr cst t).trans (chx.trans ch4))) (by omega) R4 rfl (by show f 0 = _; rw [← S.nc, u_self]) rfl sg_und)
end OPS5
