/-! ===== CueStack: more calls (written by tools/gen98.py) ===== -/
/-- what part answers -/
def PrtQ (f : Nat → Int32) (v z : Int32) (b : Bool) (h : AH) (F : Nat → Nat → Value) (r : RR) (h' : AH) : Prop := (pl f v = none ∨ ¬ u z < 4) ∧ ThQ 25 h F r h' ∨ ∃ p, pl f v = some p ∧ u z < 4 ∧ r = .inl (some (.int (f (18 + 12 * p + 4 + 2 * u z + (if b then 0 else 1))))) ∧ h' = sF h F
section OPS2
variable {G : GG} {d n : Nat} {h h2 h3 : AH} {F F2 F3 : Nat → Nat → Value} {own own2 own3 : Nat → Option Nat} {x s s1 s2 k i j p q c a : Nat} {C : CA} {f f2 g : Nat → Int32} {σ σ2 : MS} {P O : Nat → Prop} {r : RR} {h' : AH} {A : SA} {v w z : Int32} {b : Bool}
theorem dec01 (h : w = 0 ∨ w = 1) : bI (decide (w = 1)) = w := by rcases h with rfl | rfl <;> decide
theorem s_X1_setProtected (hd : 20 ≤ d) (hG : StG G) (R : CompR G h F own x C f σ) : MA G d mX1_setProtected [.ref x, .int v, .int (bI b)] (sF h F) (OpQ G h F own x [25] (O_setProtected f σ v b)) := by
  have i1 := R.is
  have e0 := R.f0
  have e2 := R.f2
  have k1 := R.sh.is
  have p1 := R.pa.1
  obtain ⟨gf, A, h60, S⟩ := id R.sh
  have h12 := gf.1.1
  have x0 := S.f0
  have x2 := S.f2
  have x3 := S.f3
  have x7 := S.f7
  have xh := S.hm
  have xc := S.cl.1
  have xl := S.fl.1
  have ch := Ch.refl (F := F) R.ob
  change WA G d mX1_setProtected 0 [.ref x, .int v, .int (bI b), .retAddr 0] [] _ _
  cases hpl : pl f v with
  | none =>
    have hO : O_setProtected f σ v b = oX f σ 1 := by unfold O_setProtected; rw [hpl]
    refine wa_aloadV_n (pc := 0) (y := mX1_setProtected) dX1_setProtected_0 rfl (by first | exact rf_s _ | exact rf_n | exact rf_q _) ?_
    refine wf_get (k := 0) (l := 9) 0 dX1_setProtected_1 (by assumption) rfl q1111 (Or.inl rfl) (Nat.le_of_ble_eq_true rfl) (Nat.le_of_ble_eq_true rfl) (by (repeat (first | exact updF_self _ _ _ _ | (apply updF_i; · decide) | (apply updF_a; · first | assumption | (apply Ne.symm; assumption) | omega) | (apply newF_a; · first | assumption | (apply Ne.symm; assumption) | omega) | exact newL_self (by rfl) | exact newF_self (by rfl) | (apply cpyF_a; · first | assumption | (apply Ne.symm; assumption) | omega))) <;> first | assumption | rfl) ?_
    refine wa_iload_n (pc := 4) (y := mX1_setProtected) dX1_setProtected_4 rfl ?_
    refine wa_callV (pc := 5) (s_X2_cue (d := d - 1) (v := v) (by omega) S) dX1_setProtected_5 okX2_cue q2034 q2035 q2036 (sF_at (by assumption)) rfl rfl rfl (Nat.le_of_ble_eq_true rfl) (Nat.le_of_ble_eq_true rfl) (by omega) ?_
    rintro r h' - - (⟨p, a, hp, -⟩ | ⟨-, T⟩)
    · rw [hpl] at hp; cases hp
    exact T.after ⟨_, rfl⟩ rfl fun h3 F3 q fr cst iq => OpQ.thr ch (by omega) R fr cst iq (by rw [hO]; exact Nat.succ_ne_zero _) (by rw [hO]; rfl) (by rw [hO]; rfl) (by rw [hO]; exact SgE.v7)
  | some p =>
    have hp := (pl_some hpl).1
    obtain ⟨a, ha⟩ := S.cu hp
    have Cc := S.cue p a ha
    have c1 := Cc.1
    have c3 := Cc.2.2.2.2.1
    have c4 := Cc.2.2.2.2.2.2.2.2.2.2.2.2
    have hO : O_setProtected f σ v b = (0, bI (decide (f (18 + 12 * p + 3) = 1)), upd f (18 + 12 * p + 3) (bI b), oC f σ) := by unfold O_setProtected; rw [hpl]
    refine wa_aloadV_n (pc := 0) (y := mX1_setProtected) dX1_setProtected_0 rfl (by first | exact rf_s _ | exact rf_n | exact rf_q _) ?_
    refine wf_get (k := 0) (l := 9) 0 dX1_setProtected_1 (by assumption) rfl q1111 (Or.inl rfl) (Nat.le_of_ble_eq_true rfl) (Nat.le_of_ble_eq_true rfl) (by (repeat (first | exact updF_self _ _ _ _ | (apply updF_i; · decide) | (apply updF_a; · first | assumption | (apply Ne.symm; assumption) | omega) | (apply newF_a; · first | assumption | (apply Ne.symm; assumption) | omega) | exact newL_self (by rfl) | exact newF_self (by rfl) | (apply cpyF_a; · first | assumption | (apply Ne.symm; assumption) | omega))) <;> first | assumption | rfl) ?_
    refine wa_iload_n (pc := 4) (y := mX1_setProtected) dX1_setProtected_4 rfl ?_
    refine wa_callV (pc := 5) (s_X2_cue (d := d - 1) (v := v) (by omega) S) dX1_setProtected_5 okX2_cue q2034 q2035 q2036 (sF_at (by assumption)) rfl rfl rfl (Nat.le_of_ble_eq_true rfl) (Nat.le_of_ble_eq_true rfl) (by omega) ?_
    rintro r h' - - (⟨p3, a3, hp3, ha3, rfl, rfl⟩ | ⟨hp3, -⟩)
    rotate_left
    · rw [hpl] at hp3; cases hp3
    rw [hpl] at hp3; cases hp3; rw [ha] at ha3; cases ha3
    refine aft_v (pc2 := 8) ?_ rfl
    refine wf_getN (k := 6) (l := 6) 2 dX1_setProtected_8 (by assumption) rfl q1200 (Or.inl rfl) (Nat.le_of_ble_eq_true rfl) (Nat.le_of_ble_eq_true rfl) (by (repeat (first | exact updF_self _ _ _ _ | (apply updF_i; · decide) | (apply updF_a; · first | assumption | (apply Ne.symm; assumption) | omega) | (apply newF_a; · first | assumption | (apply Ne.symm; assumption) | omega) | exact newL_self (by rfl) | exact newF_self (by rfl) | (apply cpyF_a; · first | assumption | (apply Ne.symm; assumption) | omega))) <;> first | assumption | rfl) ?_
    refine wa_istore_n (pc := 11) (y := mX1_setProtected) dX1_setProtected_11 (Nat.le_of_ble_eq_true rfl) (by first | rfl | (simp [okst, rf_cat] <;> assumption)) ?_
    change WA _ _ _ _ (List.set _ 3 _) _ _ _
    simp only [List.set_cons_zero, List.set_cons_succ]
    refine wa_aloadV_n (pc := 12) (y := mX1_setProtected) dX1_setProtected_12 rfl (by first | exact rf_s _ | exact rf_n | exact rf_q _) ?_
    refine wf_get (k := 0) (l := 9) 2 dX1_setProtected_13 (by assumption) rfl q1113 (Or.inl rfl) (Nat.le_of_ble_eq_true rfl) (Nat.le_of_ble_eq_true rfl) (by (repeat (first | exact updF_self _ _ _ _ | (apply updF_i; · decide) | (apply updF_a; · first | assumption | (apply Ne.symm; assumption) | omega) | (apply newF_a; · first | assumption | (apply Ne.symm; assumption) | omega) | exact newL_self (by rfl) | exact newF_self (by rfl) | (apply cpyF_a; · first | assumption | (apply Ne.symm; assumption) | omega))) <;> first | assumption | rfl) ?_
    refine wa_aloadV_n (pc := 16) (y := mX1_setProtected) dX1_setProtected_16 rfl (by first | exact rf_s _ | exact rf_n | exact rf_q _) ?_
    refine wf_get (k := 0) (l := 9) 0 dX1_setProtected_17 (by assumption) rfl q1111 (Or.inl rfl) (Nat.le_of_ble_eq_true rfl) (Nat.le_of_ble_eq_true rfl) (by (repeat (first | exact updF_self _ _ _ _ | (apply updF_i; · decide) | (apply updF_a; · first | assumption | (apply Ne.symm; assumption) | omega) | (apply newF_a; · first | assumption | (apply Ne.symm; assumption) | omega) | exact newL_self (by rfl) | exact newF_self (by rfl) | (apply cpyF_a; · first | assumption | (apply Ne.symm; assumption) | omega))) <;> first | assumption | rfl) ?_
    refine wa_callV (pc := 20) (s_X4_keep (d := d - 1) (by omega) hG R.em R.ob R.pa R.sh R.sx R.is.lt) dX1_setProtected_20 okX4_keep q1764 q1765 q1766 (sF_at (by assumption)) rfl rfl rfl (Nat.le_of_ble_eq_true rfl) (Nat.le_of_ble_eq_true rfl) (by omega) ?_
    rintro r h' - - K
    obtain ⟨h3, F3, own3, C3, rfl, rfl, ext, hnone, cst, t, R3, c1, c2, c3, hx3, shw, csv, chs⟩ := R.keepR K
    refine aft_0 (pc2 := 23) ?_ rfl
    have ch3 : Ch 8060 h F own h3 F3 own3 := ⟨hnone, ext, cst, t⟩
    have j1 := R3.is; have j2 := R3.f0; have j4 := R3.sh.is; have j3 := R3.f2; have j5 := R3.pa.1
    obtain ⟨gf3, A3, h603, S3⟩ := id R3.sh
    have y0 := S3.f0; have y3 := S3.f3; have y2 := S3.f2; have yh := S3.hm; have yc := S3.cl.1; have yl := S3.fl.1; have y7 := S3.f7
    refine wa_aloadV_n (pc := 23) (y := mX1_setProtected) dX1_setProtected_23 rfl (by first | exact rf_s _ | exact rf_n | exact rf_q _) ?_
    refine wf_get (k := 0) (l := 9) 0 dX1_setProtected_24 (by assumption) rfl q1111 (Or.inl rfl) (Nat.le_of_ble_eq_true rfl) (Nat.le_of_ble_eq_true rfl) (by (repeat (first | exact updF_self _ _ _ _ | (apply updF_i; · decide) | (apply updF_a; · first | assumption | (apply Ne.symm; assumption) | omega) | (apply newF_a; · first | assumption | (apply Ne.symm; assumption) | omega) | exact newL_self (by rfl) | exact newF_self (by rfl) | (apply cpyF_a; · first | assumption | (apply Ne.symm; assumption) | omega))) <;> first | assumption | rfl) ?_
    refine wa_iload_n (pc := 27) (y := mX1_setProtected) dX1_setProtected_27 rfl ?_
    refine wa_callV (pc := 28) (s_X2_cue (d := d - 1) (v := v) (by omega) S3) dX1_setProtected_28 okX2_cue q2034 q2035 q2036 (sF_at (by assumption)) rfl rfl rfl (Nat.le_of_ble_eq_true rfl) (Nat.le_of_ble_eq_true rfl) (by omega) ?_
    rintro r h' - - (⟨p3, a3, hp3, ha3, rfl, rfl⟩ | ⟨hp3, -⟩)
    rotate_left
    · rw [hpl] at hp3; cases hp3
    rw [hpl] at hp3; cases hp3
    have Cd := S3.cue p a3 ha3; have d1 := Cd.1
    refine aft_v (pc2 := 31) ?_ rfl
    refine wa_iload_n (pc := 31) (y := mX1_setProtected) dX1_setProtected_31 rfl ?_
    refine wf_putN (k := 6) (l := 6) 2 .boolean dX1_setProtected_32 (by assumption) rfl q1200 (Or.inl rfl) (Nat.le_of_ble_eq_true rfl) rfl (by decide +kernel) (by first | rfl | exact nar01 (by assumption) | exact fit01 (by assumption) | exact bI_nar _ | exact bI_fit _) (by first | rfl | exact nar01 (by assumption) | exact fit01 (by assumption) | exact bI_nar _ | exact bI_fit _) ?_
    refine wa_iload_n (pc := 35) (y := mX1_setProtected) dX1_setProtected_35 rfl ?_
    refine wa_ireturn (pc := 36) (y := mX1_setProtected) .boolean dX1_setProtected_36 rfl (by first | rfl | exact nar01 (by assumption) | exact fit01 (by assumption) | exact bI_nar _ | exact bI_fit _) ?_
    obtain ⟨R4, ch4⟩ := R3.inp (f2 := upd f (18 + 12 * p + 3) (bI b)) (S3.ownC (List.mem_of_getElem? ha3)).1 (nkil d1 (by decide)) (Fr.upd (i := 2) (v := .int (bI b)) rfl) ⟨good_fld gf3 hp (Or.inr (Or.inr ⟨rfl, by cases b; exact Or.inl rfl; exact Or.inr rfl⟩)), A3, by rw [upd_o _ _ (by omega)]; exact h603, (S3.setC ha3 (Or.inr (Or.inl ⟨rfl, rfl, by cases b; exact Or.inl rfl; exact Or.inr rfl⟩))).cg (fun _ _ => rfl) (fun _ _ _ => rfl) (fun j hj => upd_o _ _ (by omega))⟩
    exact OpQ.val (ch3.trans ch4) (by omega) R4 (by rw [hO]) (by rw [hO]; exact dec01 c4) (by rw [hO]) (by rw [hO]; exact SgE.ofC)
theorem s_X1_part (hd : 9 ≤ d) (R : CompR G h F own x C f σ) : MA G d mX1_part [.ref x, .int v, .int z, .int (bI b)] (sF h F) (PrtQ f v z b h F) := by
  have i1 := R.is
  have e0 := R.f0
  have e2 := R.f2
  have k1 := R.sh.is
  have p1 := R.pa.1
  obtain ⟨gf, A, h60, S⟩ := id R.sh
  have h12 := gf.1.1
  have x0 := S.f0
  have x2 := S.f2
  have x3 := S.f3
  have x7 := S.f7
  have xh := S.hm
  have xc := S.cl.1
  have xl := S.fl.1
  have ch := Ch.refl (F := F) R.ob
  change WA G d mX1_part 0 [.ref x, .int v, .int z, .int (bI b), .retAddr 0] [] _ _
  cases hpl : pl f v with
  | none =>
    refine wa_aloadV_n (pc := 0) (y := mX1_part) dX1_part_0 rfl (by first | exact rf_s _ | exact rf_n | exact rf_q _) ?_
    refine wf_get (k := 0) (l := 9) 0 dX1_part_1 (by assumption) rfl q1111 (Or.inl rfl) (Nat.le_of_ble_eq_true rfl) (Nat.le_of_ble_eq_true rfl) (by (repeat (first | exact updF_self _ _ _ _ | (apply updF_i; · decide) | (apply updF_a; · first | assumption | (apply Ne.symm; assumption) | omega) | (apply newF_a; · first | assumption | (apply Ne.symm; assumption) | omega) | exact newL_self (by rfl) | exact newF_self (by rfl) | (apply cpyF_a; · first | assumption | (apply Ne.symm; assumption) | omega))) <;> first | assumption | rfl) ?_
    refine wa_iload_n (pc := 4) (y := mX1_part) dX1_part_4 rfl ?_
    refine wa_callV (pc := 5) (s_X2_cue (d := d - 1) (v := v) (by omega) S) dX1_part_5 okX2_cue q2034 q2035 q2036 (sF_at (by assumption)) rfl rfl rfl (Nat.le_of_ble_eq_true rfl) (Nat.le_of_ble_eq_true rfl) (by omega) ?_
    rintro r h' - - (⟨p, a, hp, -⟩ | ⟨-, T⟩)
    · rw [hpl] at hp; cases hp
    exact T.after ⟨_, rfl⟩ rfl fun h3 F3 q fr cst iq => Or.inl ⟨Or.inl hpl, h3, F3, q, rfl, rfl, fr, cst, iq⟩
  | some p =>
    have hp := (pl_some hpl).1
    obtain ⟨a, ha⟩ := S.cu hp
    have Cc := S.cue p a ha
    have c1 := Cc.1
    have c5 := Cc.2.2.2.2.2.2.1
    have c6 := Cc.2.2.2.2.2.2.2.1
    have c9 := Cc.2.2.2.2.2.2.2.2.1
    have c10 := Cc.2.2.2.2.2.2.2.2.2.1
    by_cases hz : u z < 4
    · obtain ⟨m, hmv⟩ : ∃ m, u z = m := ⟨_, rfl⟩
      have ev : z = Int32.ofNat m := by rw [← hmv]; exact (u_self z).symm
      rw [hmv] at hz
      have ce := Cc.2.2.2.2.2.2.2.2.2.2.1 m hz
      have ce1 := ce.1
      have ce2 := ce.2
      subst ev
      refine wa_aloadV_n (pc := 0) (y := mX1_part) dX1_part_0 rfl (by first | exact rf_s _ | exact rf_n | exact rf_q _) ?_
      refine wf_get (k := 0) (l := 9) 0 dX1_part_1 (by assumption) rfl q1111 (Or.inl rfl) (Nat.le_of_ble_eq_true rfl) (Nat.le_of_ble_eq_true rfl) (by (repeat (first | exact updF_self _ _ _ _ | (apply updF_i; · decide) | (apply updF_a; · first | assumption | (apply Ne.symm; assumption) | omega) | (apply newF_a; · first | assumption | (apply Ne.symm; assumption) | omega) | exact newL_self (by rfl) | exact newF_self (by rfl) | (apply cpyF_a; · first | assumption | (apply Ne.symm; assumption) | omega))) <;> first | assumption | rfl) ?_
      refine wa_iload_n (pc := 4) (y := mX1_part) dX1_part_4 rfl ?_
      refine wa_callV (pc := 5) (s_X2_cue (d := d - 1) (v := v) (by omega) S) dX1_part_5 okX2_cue q2034 q2035 q2036 (sF_at (by assumption)) rfl rfl rfl (Nat.le_of_ble_eq_true rfl) (Nat.le_of_ble_eq_true rfl) (by omega) ?_
      rintro r h' - - (⟨p3, a3, hp3, ha3, rfl, rfl⟩ | ⟨hp3, -⟩)
      rotate_left
      · rw [hpl] at hp3; cases hp3
      rw [hpl] at hp3; cases hp3; rw [ha] at ha3; cases ha3
      refine aft_v (pc2 := 8) ?_ rfl
      refine wa_astoreV (pc := 8) (y := mX1_part) dX1_part_8 (Nat.le_of_ble_eq_true rfl) (by first | rfl | (simp [okst, rf_cat] <;> assumption)) (by first | exact rf_s _ | exact rf_n | exact rf_q _) ?_
      simp only [List.set_cons_zero, List.set_cons_succ]
      refine wa_iload_n (pc := 10) (y := mX1_part) dX1_part_10 rfl ?_
      refine wa_callS (pc := 11) (s_X1_checkPart (d := d - 1) (by omega)) dX1_part_11 okX1_checkPart q2084 q2085 rfl rfl (Nat.le_of_ble_eq_true rfl) (Nat.le_of_ble_eq_true rfl) (by omega) ?_
      rintro r h' - - (⟨-, rfl, rfl⟩ | ⟨hb, -⟩)
      rotate_left
      · rw [hmv, decide_eq_true hz] at hb; cases hb
      refine aft_0 (pc2 := 14) ?_ rfl
      refine wa_iload_n (pc := 14) (y := mX1_part) dX1_part_14 rfl ?_
      refine wa_if_eq (pc := 15) 28 dX1_part_15 rfl (fun hb15 => ?_) (fun hb15 => ?_)
      · have hb9 := bI_0.mp hb15
        refine wa_aloadV (pc := 28) (y := mX1_part) dX1_part_28 rfl (by first | exact rf_s _ | exact rf_n | exact rf_q _) ?_
        refine wf_getN (k := 6) (l := 6) 5 dX1_part_30 (by assumption) rfl q1208 (Or.inl rfl) (Nat.le_of_ble_eq_true rfl) (Nat.le_of_ble_eq_true rfl) (by (repeat (first | exact updF_self _ _ _ _ | (apply updF_i; · decide) | (apply updF_a; · first | assumption | (apply Ne.symm; assumption) | omega) | (apply newF_a; · first | assumption | (apply Ne.symm; assumption) | omega) | exact newL_self (by rfl) | exact newF_self (by rfl) | (apply cpyF_a; · first | assumption | (apply Ne.symm; assumption) | omega))) <;> first | assumption | rfl) ?_
        refine wa_iload_n (pc := 33) (y := mX1_part) dX1_part_33 rfl ?_
        refine wf_iaload dX1_part_34 (by assumption) (by omega) (by (repeat (first | exact updF_self _ _ _ _ | (apply updF_i; · decide) | (apply updF_a; · first | assumption | (apply Ne.symm; assumption) | omega) | (apply newF_a; · first | assumption | (apply Ne.symm; assumption) | omega) | exact newL_self (by rfl) | exact newF_self (by rfl) | (apply cpyF_a; · first | assumption | (apply Ne.symm; assumption) | omega))) <;> first | assumption | rfl) ?_
        refine wa_ireturn (pc := 35) (y := mX1_part) .int dX1_part_35 rfl rfl (Or.inr ⟨p, hpl, by rw [hmv]; exact hz, by rw [hmv, hb9]; rfl, rfl⟩)
      · have hb9 := bI_n0 hb15
        refine wa_aloadV (pc := 18) (y := mX1_part) dX1_part_18 rfl (by first | exact rf_s _ | exact rf_n | exact rf_q _) ?_
        refine wf_getN (k := 6) (l := 6) 4 dX1_part_20 (by assumption) rfl q1205 (Or.inl rfl) (Nat.le_of_ble_eq_true rfl) (Nat.le_of_ble_eq_true rfl) (by (repeat (first | exact updF_self _ _ _ _ | (apply updF_i; · decide) | (apply updF_a; · first | assumption | (apply Ne.symm; assumption) | omega) | (apply newF_a; · first | assumption | (apply Ne.symm; assumption) | omega) | exact newL_self (by rfl) | exact newF_self (by rfl) | (apply cpyF_a; · first | assumption | (apply Ne.symm; assumption) | omega))) <;> first | assumption | rfl) ?_
        refine wa_iload_n (pc := 23) (y := mX1_part) dX1_part_23 rfl ?_
        refine wf_iaload dX1_part_24 (by assumption) (by omega) (by (repeat (first | exact updF_self _ _ _ _ | (apply updF_i; · decide) | (apply updF_a; · first | assumption | (apply Ne.symm; assumption) | omega) | (apply newF_a; · first | assumption | (apply Ne.symm; assumption) | omega) | exact newL_self (by rfl) | exact newF_self (by rfl) | (apply cpyF_a; · first | assumption | (apply Ne.symm; assumption) | omega))) <;> first | assumption | rfl) ?_
        refine wa_goto (pc := 25) (y := mX1_part) 35 dX1_part_25 rfl ?_
        refine wa_ireturn (pc := 35) (y := mX1_part) .int dX1_part_35 rfl rfl (Or.inr ⟨p, hpl, by rw [hmv]; exact hz, by rw [hmv, hb9]; rfl, rfl⟩)
    · refine wa_aloadV_n (pc := 0) (y := mX1_part) dX1_part_0 rfl (by first | exact rf_s _ | exact rf_n | exact rf_q _) ?_
      refine wf_get (k := 0) (l := 9) 0 dX1_part_1 (by assumption) rfl q1111 (Or.inl rfl) (Nat.le_of_ble_eq_true rfl) (Nat.le_of_ble_eq_true rfl) (by (repeat (first | exact updF_self _ _ _ _ | (apply updF_i; · decide) | (apply updF_a; · first | assumption | (apply Ne.symm; assumption) | omega) | (apply newF_a; · first | assumption | (apply Ne.symm; assumption) | omega) | exact newL_self (by rfl) | exact newF_self (by rfl) | (apply cpyF_a; · first | assumption | (apply Ne.symm; assumption) | omega))) <;> first | assumption | rfl) ?_
      refine wa_iload_n (pc := 4) (y := mX1_part) dX1_part_4 rfl ?_
      refine wa_callV (pc := 5) (s_X2_cue (d := d - 1) (v := v) (by omega) S) dX1_part_5 okX2_cue q2034 q2035 q2036 (sF_at (by assumption)) rfl rfl rfl (Nat.le_of_ble_eq_true rfl) (Nat.le_of_ble_eq_true rfl) (by omega) ?_
      rintro r h' - - (⟨p3, a3, hp3, ha3, rfl, rfl⟩ | ⟨hp3, -⟩)
      rotate_left
      · rw [hpl] at hp3; cases hp3
      rw [hpl] at hp3; cases hp3; rw [ha] at ha3; cases ha3
      refine aft_v (pc2 := 8) ?_ rfl
      refine wa_astoreV (pc := 8) (y := mX1_part) dX1_part_8 (Nat.le_of_ble_eq_true rfl) (by first | rfl | (simp [okst, rf_cat] <;> assumption)) (by first | exact rf_s _ | exact rf_n | exact rf_q _) ?_
      simp only [List.set_cons_zero, List.set_cons_succ]
      refine wa_iload_n (pc := 10) (y := mX1_part) dX1_part_10 rfl ?_
      refine wa_callS (pc := 11) (s_X1_checkPart (d := d - 1) (by omega)) dX1_part_11 okX1_checkPart q2084 q2085 rfl rfl (Nat.le_of_ble_eq_true rfl) (Nat.le_of_ble_eq_true rfl) (by omega) ?_
      rintro r h' - - (⟨hb, -, -⟩ | ⟨-, T⟩)
      · rw [decide_eq_false hz] at hb; cases hb
      exact T.after ⟨_, rfl⟩ rfl fun h3 F3 q fr cst iq => Or.inl ⟨Or.inr hz, h3, F3, q, rfl, rfl, fr, cst, iq⟩
theorem s_X1_partO (hd : 9 ≤ d) (R : CompR G h F own x C f σ) : MA G d mX1_part [.ref x, .int v, .int z, .int (bI b)] (sF h F) (OpQ G h F own x [25] (O_part f σ v z b)) := by
  have ch := Ch.refl (F := F) R.ob
  refine WA.mono (s_X1_part hd R) ?_
  rintro r h' - - (⟨e, h3, F3, q, rfl, rfl, fr, cst, iq⟩ | ⟨p, hpl, hz, rfl, rfl⟩)
  · have hO : O_part f σ v z b = oX f σ 1 := by
      unfold O_part
      rcases e with e | e
      · rw [e]
      · cases pl f v with
        | none => rfl
        | some p => exact if_pos e
    exact OpQ.thr ch (by omega) R fr cst iq (by rw [hO]; exact Nat.succ_ne_zero _) (by rw [hO]; rfl) (by rw [hO]; rfl) (by rw [hO]; exact SgE.v7)
  · have hO : O_part f σ v z b = oR f σ (f (18 + 12 * p + 4 + 2 * u z + (if b then 0 else 1))) := by unfold O_part; rw [hpl]; exact if_neg (Decidable.not_not.mpr hz)
    exact OpQ.val ch (by omega) R (by rw [hO]; rfl) (by rw [hO]; rfl) (by rw [hO]; rfl) (by rw [hO]; exact SgE.v7)
theorem sp_end {m a3 : Nat} {A3 : SA} {h3 : AH} {F3 : Nat → Nat → Value} {own3 : Nat → Option Nat} {C3 : CA} {t3 : Nat} {oo : OO} {val : Int32} (ch3 : Ch 8060 h F own h3 F3 own3) (R3 : CompR G h3 F3 own3 x C3 f (chF σ f)) (S3 : ShowR G h3 F3 (fun b => own3 b = some C3.s) C3.s A3 f (gz f)) (gf3 : GoodF f) (h603 : u (f 1) ≤ 60) (hp : p < u (f 0)) (ha3 : A3.cs[p]? = some a3) (hz : m < 4) (ht : t3 = if b then A3.dl a3 else A3.tm a3) (hO : oo = (0, f (18 + 12 * p + 4 + 2 * m + (if b then 0 else 1)), upd f (18 + 12 * p + 4 + 2 * m + (if b then 0 else 1)) w, oC f σ)) (hval : val = f (18 + 12 * p + 4 + 2 * m + (if b then 0 else 1))) :
    OpQ G h F own x [25, 23] oo (.inl (some (.int val))) (sF h3 (updF F3 t3 m (.int w))) := by
  subst ht
  have h12 := gf3.1.1
  have hb2 : (if b then 0 else 1 : Nat) ≤ 1 := by cases b <;> decide
  have o3 := S3.ownC (List.mem_of_getElem? ha3)
  have Cd := S3.cue p a3 ha3
  have hi : own3 (if b then A3.dl a3 else A3.tm a3) = some C3.s ∧ Is h3 (if b then A3.dl a3 else A3.tm a3) 32 4 := by
    cases b
    · exact ⟨o3.2.2, Cd.2.2.2.2.2.2.2.2.2.1⟩
    · exact ⟨o3.2.1, Cd.2.2.2.2.2.2.2.2.1⟩
  have hS := S3.setP (v := w) ha3 hz b
  obtain ⟨R4, ch4⟩ := R3.inp (f2 := upd f (18 + 12 * p + 4 + 2 * m + (if b then 0 else 1)) w) hi.1 (nkil hi.2 (by decide)) (Fr.upd (i := m) (v := .int w) rfl) ⟨by rw [show 18 + 12 * p + 4 + 2 * m + (if b then 0 else 1) = 18 + 12 * p + (4 + 2 * m + (if b then 0 else 1)) by omega]; exact good_part gf3 (by omega) (by omega), A3, by rw [upd_o _ _ (by omega)]; exact h603, hS.cg (fun _ _ => rfl) (fun _ _ _ => rfl) (fun j hj => upd_o _ _ (by omega))⟩
  exact OpQ.val (ch3.trans ch4) (by omega) R4 (by rw [hO]) (by rw [hO]; exact hval.symm) (by rw [hO]) (by rw [hO]; exact SgE.ofC)
theorem s_X1_setPart (hd : 20 ≤ d) (hG : StG G) (R : CompR G h F own x C f σ) : MA G d mX1_setPart [.ref x, .int v, .int z, .int (bI b), .int w] (sF h F) (OpQ G h F own x [25, 23] (O_setPart f σ v z b w)) := by
  have i1 := R.is
  have e0 := R.f0
  have e2 := R.f2
  have k1 := R.sh.is
  have p1 := R.pa.1
  obtain ⟨gf, A, h60, S⟩ := id R.sh
  have h12 := gf.1.1
  have x0 := S.f0
  have x2 := S.f2
  have x3 := S.f3
  have x7 := S.f7
  have xh := S.hm
  have xc := S.cl.1
  have xl := S.fl.1
  have ch := Ch.refl (F := F) R.ob
  change WA G d mX1_setPart 0 [.ref x, .int v, .int z, .int (bI b), .int w, .retAddr 0, .retAddr 0] [] _ _
  have hin : inb w 0 600 = decide (u w ≤ 600) := inb_le (n := 600) (by decide)
  by_cases hok : pl f v = none ∨ ¬ u z < 4
  · have hO : O_setPart f σ v z b w = oX f σ 1 := by
      unfold O_setPart
      rcases hok with e | e
      · rw [e]
      · cases pl f v with
        | none => rfl
        | some p => exact if_pos e
    refine wa_aloadV_n (pc := 0) (y := mX1_setPart) dX1_setPart_0 rfl (by first | exact rf_s _ | exact rf_n | exact rf_q _) ?_
    refine wa_iload_n (pc := 1) (y := mX1_setPart) dX1_setPart_1 rfl ?_
    refine wa_iload_n (pc := 2) (y := mX1_setPart) dX1_setPart_2 rfl ?_
    refine wa_iload_n (pc := 3) (y := mX1_setPart) dX1_setPart_3 rfl ?_
    refine wa_callV (pc := 4) (s_X1_part (d := d - 1) (by omega) R) dX1_setPart_4 okX1_part q2080 q2081 q2082 (sF_at (by assumption)) rfl rfl rfl (Nat.le_of_ble_eq_true rfl) (Nat.le_of_ble_eq_true rfl) (by omega) ?_
    rintro r h' - - (⟨-, T⟩ | ⟨p, hpl, hz, -⟩)
    rotate_left
    · rcases hok with e | e; rw [hpl] at e; cases e; exact absurd hz e
    exact T.after ⟨_, rfl⟩ rfl fun h3 F3 q fr cst iq => OpQ.thr ch (by omega) R fr cst iq (by rw [hO]; exact Nat.succ_ne_zero _) (by rw [hO]; rfl) (by rw [hO]; rfl) (by rw [hO]; exact SgE.v7)
  · obtain ⟨hpl, hz0⟩ := not_or.mp hok
    have hz := Decidable.not_not.mp hz0
    clear hz0 hok
    obtain ⟨p, hpl⟩ := Option.ne_none_iff_exists'.mp hpl
    have hp := (pl_some hpl).1
    by_cases hw : u w ≤ 600
    · have hO : O_setPart f σ v z b w = (0, f (18 + 12 * p + 4 + 2 * u z + (if b then 0 else 1)), upd f (18 + 12 * p + 4 + 2 * u z + (if b then 0 else 1)) w, oC f σ) := by
        unfold O_setPart
        rw [hpl]
        exact (if_neg (Decidable.not_not.mpr hz)).trans (if_neg (Decidable.not_not.mpr hw))
      obtain ⟨m, hmv⟩ : ∃ m, u z = m := ⟨_, rfl⟩
      have ev : z = Int32.ofNat m := by rw [← hmv]; exact (u_self z).symm
      rw [hmv] at hz hO
      subst ev
      have hb2 : (if b then 0 else 1 : Nat) ≤ 1 := by cases b <;> decide
      refine wa_aloadV_n (pc := 0) (y := mX1_setPart) dX1_setPart_0 rfl (by first | exact rf_s _ | exact rf_n | exact rf_q _) ?_
      refine wa_iload_n (pc := 1) (y := mX1_setPart) dX1_setPart_1 rfl ?_
      refine wa_iload_n (pc := 2) (y := mX1_setPart) dX1_setPart_2 rfl ?_
      refine wa_iload_n (pc := 3) (y := mX1_setPart) dX1_setPart_3 rfl ?_
      refine wa_callV (pc := 4) (s_X1_part (d := d - 1) (by omega) R) dX1_setPart_4 okX1_part q2080 q2081 q2082 (sF_at (by assumption)) rfl rfl rfl (Nat.le_of_ble_eq_true rfl) (Nat.le_of_ble_eq_true rfl) (by omega) ?_
      rintro r h' - - (⟨hn, -⟩ | ⟨p9, hpl9, -, rfl, rfl⟩)
      · rcases hn with e | e; rw [hpl] at e; cases e; rw [hmv] at e; exact absurd hz e
      rw [hpl] at hpl9; cases hpl9
      refine aft_v (pc2 := 7) ?_ rfl
      refine wa_istore (pc := 7) (y := mX1_setPart) dX1_setPart_7 (Nat.le_of_ble_eq_true rfl) (by first | rfl | (simp [okst, rf_cat] <;> assumption)) ?_
      simp only [List.set_cons_zero, List.set_cons_succ]
      refine wa_iload (pc := 9) (y := mX1_setPart) dX1_setPart_9 rfl ?_
      refine wa_iconst (pc := 11) (y := mX1_setPart) (Int32.ofNat 0) dX1_setPart_11 rfl ?_
      refine wa_sipush (pc := 12) (y := mX1_setPart) (Int32.ofNat 600) dX1_setPart_12 rfl ?_
      refine wa_callS (pc := 15) (s_X1_isIn (d := d - 1)) dX1_setPart_15 okX1_isIn q2020 q1692 rfl rfl (Nat.le_of_ble_eq_true rfl) (Nat.le_of_ble_eq_true rfl) (by omega) ?_
      rintro _ _ - - ⟨rfl, rfl⟩
      refine aft_v (pc2 := 18) ?_ rfl
      rw [show inb w (Int32.ofNat 0) (Int32.ofNat 600) = true from hin.trans (decide_eq_true hw)]
      refine wa_callS (pc := 18) (s_X1_checkArgument (d := d - 1) (b := true) (by omega)) dX1_setPart_18 okX1_checkArgument q2038 q1699 rfl rfl (Nat.le_of_ble_eq_true rfl) (Nat.le_of_ble_eq_true rfl) (by omega) ?_
      rintro r h' - - (⟨-, rfl, rfl⟩ | ⟨hb, -⟩)
      rotate_left
      · cases hb
      refine aft_0 (pc2 := 21) ?_ rfl
      refine wa_aloadV_n (pc := 21) (y := mX1_setPart) dX1_setPart_21 rfl (by first | exact rf_s _ | exact rf_n | exact rf_q _) ?_
      refine wf_get (k := 0) (l := 9) 2 dX1_setPart_22 (by assumption) rfl q1113 (Or.inl rfl) (Nat.le_of_ble_eq_true rfl) (Nat.le_of_ble_eq_true rfl) (by (repeat (first | exact updF_self _ _ _ _ | (apply updF_i; · decide) | (apply updF_a; · first | assumption | (apply Ne.symm; assumption) | omega) | (apply newF_a; · first | assumption | (apply Ne.symm; assumption) | omega) | exact newL_self (by rfl) | exact newF_self (by rfl) | (apply cpyF_a; · first | assumption | (apply Ne.symm; assumption) | omega))) <;> first | assumption | rfl) ?_
      refine wa_aloadV_n (pc := 25) (y := mX1_setPart) dX1_setPart_25 rfl (by first | exact rf_s _ | exact rf_n | exact rf_q _) ?_
      refine wf_get (k := 0) (l := 9) 0 dX1_setPart_26 (by assumption) rfl q1111 (Or.inl rfl) (Nat.le_of_ble_eq_true rfl) (Nat.le_of_ble_eq_true rfl) (by (repeat (first | exact updF_self _ _ _ _ | (apply updF_i; · decide) | (apply updF_a; · first | assumption | (apply Ne.symm; assumption) | omega) | (apply newF_a; · first | assumption | (apply Ne.symm; assumption) | omega) | exact newL_self (by rfl) | exact newF_self (by rfl) | (apply cpyF_a; · first | assumption | (apply Ne.symm; assumption) | omega))) <;> first | assumption | rfl) ?_
      refine wa_callV (pc := 29) (s_X4_keep (d := d - 1) (by omega) hG R.em R.ob R.pa R.sh R.sx R.is.lt) dX1_setPart_29 okX4_keep q1764 q1765 q1766 (sF_at (by assumption)) rfl rfl rfl (Nat.le_of_ble_eq_true rfl) (Nat.le_of_ble_eq_true rfl) (by omega) ?_
      rintro r h' - - K
      obtain ⟨h3, F3, own3, C3, rfl, rfl, ext, hnone, cst, t, R3, c1, c2, c3, hx3, shw, csv, chs⟩ := R.keepR K
      refine aft_0 (pc2 := 32) ?_ rfl
      have ch3 : Ch 8060 h F own h3 F3 own3 := ⟨hnone, ext, cst, t⟩
      have j1 := R3.is; have j2 := R3.f0; have j4 := R3.sh.is; have j3 := R3.f2; have j5 := R3.pa.1
      obtain ⟨gf3, A3, h603, S3⟩ := id R3.sh
      have y0 := S3.f0; have y3 := S3.f3; have y2 := S3.f2; have yh := S3.hm; have yc := S3.cl.1; have yl := S3.fl.1; have y7 := S3.f7
      refine wa_iload_n (pc := 32) (y := mX1_setPart) dX1_setPart_32 rfl ?_
      refine wa_if_eq (pc := 33) 50 dX1_setPart_33 rfl (fun hb33 => ?_) (fun hb33 => ?_)
      · have hb9 := bI_0.mp hb33
        refine wa_aloadV_n (pc := 50) (y := mX1_setPart) dX1_setPart_50 rfl (by first | exact rf_s _ | exact rf_n | exact rf_q _) ?_
        refine wf_get (k := 0) (l := 9) 0 dX1_setPart_51 (by assumption) rfl q1111 (Or.inl rfl) (Nat.le_of_ble_eq_true rfl) (Nat.le_of_ble_eq_true rfl) (by (repeat (first | exact updF_self _ _ _ _ | (apply updF_i; · decide) | (apply updF_a; · first | assumption | (apply Ne.symm; assumption) | omega) | (apply newF_a; · first | assumption | (apply Ne.symm; assumption) | omega) | exact newL_self (by rfl) | exact newF_self (by rfl) | (apply cpyF_a; · first | assumption | (apply Ne.symm; assumption) | omega))) <;> first | assumption | rfl) ?_
        refine wa_iload_n (pc := 54) (y := mX1_setPart) dX1_setPart_54 rfl ?_
        refine wa_callV (pc := 55) (s_X2_cue (d := d - 1) (v := v) (by omega) S3) dX1_setPart_55 okX2_cue q2034 q2035 q2036 (sF_at (by assumption)) rfl rfl rfl (Nat.le_of_ble_eq_true rfl) (Nat.le_of_ble_eq_true rfl) (by omega) ?_
        rintro r h' - - (⟨p3, a3, hp3, ha3, rfl, rfl⟩ | ⟨hp3, -⟩)
        rotate_left
        · rw [hpl] at hp3; cases hp3
        rw [hpl] at hp3; cases hp3
        have Cd := S3.cue p a3 ha3; have d1 := Cd.1; have d5 := Cd.2.2.2.2.2.2.2.1; have d9 := Cd.2.2.2.2.2.2.2.2.2.1
        refine aft_v (pc2 := 58) ?_ rfl
        refine wf_getN (k := 6) (l := 6) 5 dX1_setPart_58 (by assumption) rfl q1208 (Or.inl rfl) (Nat.le_of_ble_eq_true rfl) (Nat.le_of_ble_eq_true rfl) (by (repeat (first | exact updF_self _ _ _ _ | (apply updF_i; · decide) | (apply updF_a; · first | assumption | (apply Ne.symm; assumption) | omega) | (apply newF_a; · first | assumption | (apply Ne.symm; assumption) | omega) | exact newL_self (by rfl) | exact newF_self (by rfl) | (apply cpyF_a; · first | assumption | (apply Ne.symm; assumption) | omega))) <;> first | assumption | rfl) ?_
        refine wa_astoreV (pc := 61) (y := mX1_setPart) dX1_setPart_61 (Nat.le_of_ble_eq_true rfl) (by first | rfl | (simp [okst, rf_cat] <;> assumption)) (by first | exact rf_s _ | exact rf_n | exact rf_q _) ?_
        simp only [List.set_cons_zero, List.set_cons_succ]
        refine wa_aloadV (pc := 63) (y := mX1_setPart) dX1_setPart_63 rfl (by first | exact rf_s _ | exact rf_n | exact rf_q _) ?_
        refine wa_iload_n (pc := 65) (y := mX1_setPart) dX1_setPart_65 rfl ?_
        refine wa_iload (pc := 66) (y := mX1_setPart) dX1_setPart_66 rfl ?_
        refine wf_iastore dX1_setPart_68 (by assumption) (by omega) ?_
        refine wa_iload (pc := 69) (y := mX1_setPart) dX1_setPart_69 rfl ?_
        refine wa_ireturn (pc := 71) (y := mX1_setPart) .int dX1_setPart_71 rfl rfl (sp_end (b := b) ch3 R3 S3 gf3 h603 hp ha3 hz (by rw [hb9]; rfl) hO (by rw [hmv]))
      · have hb9 := bI_n0 hb33
        refine wa_aloadV_n (pc := 36) (y := mX1_setPart) dX1_setPart_36 rfl (by first | exact rf_s _ | exact rf_n | exact rf_q _) ?_
        refine wf_get (k := 0) (l := 9) 0 dX1_setPart_37 (by assumption) rfl q1111 (Or.inl rfl) (Nat.le_of_ble_eq_true rfl) (Nat.le_of_ble_eq_true rfl) (by (repeat (first | exact updF_self _ _ _ _ | (apply updF_i; · decide) | (apply updF_a; · first | assumption | (apply Ne.symm; assumption) | omega) | (apply newF_a; · first | assumption | (apply Ne.symm; assumption) | omega) | exact newL_self (by rfl) | exact newF_self (by rfl) | (apply cpyF_a; · first | assumption | (apply Ne.symm; assumption) | omega))) <;> first | assumption | rfl) ?_
        refine wa_iload_n (pc := 40) (y := mX1_setPart) dX1_setPart_40 rfl ?_
        refine wa_callV (pc := 41) (s_X2_cue (d := d - 1) (v := v) (by omega) S3) dX1_setPart_41 okX2_cue q2034 q2035 q2036 (sF_at (by assumption)) rfl rfl rfl (Nat.le_of_ble_eq_true rfl) (Nat.le_of_ble_eq_true rfl) (by omega) ?_
        rintro r h' - - (⟨p3, a3, hp3, ha3, rfl, rfl⟩ | ⟨hp3, -⟩)
        rotate_left
        · rw [hpl] at hp3; cases hp3
        rw [hpl] at hp3; cases hp3
        have Cd := S3.cue p a3 ha3; have d1 := Cd.1; have d5 := Cd.2.2.2.2.2.2.1; have d9 := Cd.2.2.2.2.2.2.2.2.1
        refine aft_v (pc2 := 44) ?_ rfl
        refine wf_getN (k := 6) (l := 6) 4 dX1_setPart_44 (by assumption) rfl q1205 (Or.inl rfl) (Nat.le_of_ble_eq_true rfl) (Nat.le_of_ble_eq_true rfl) (by (repeat (first | exact updF_self _ _ _ _ | (apply updF_i; · decide) | (apply updF_a; · first | assumption | (apply Ne.symm; assumption) | omega) | (apply newF_a; · first | assumption | (apply Ne.symm; assumption) | omega) | exact newL_self (by rfl) | exact newF_self (by rfl) | (apply cpyF_a; · first | assumption | (apply Ne.symm; assumption) | omega))) <;> first | assumption | rfl) ?_
        refine wa_goto (pc := 47) (y := mX1_setPart) 61 dX1_setPart_47 rfl ?_
        refine wa_astoreV (pc := 61) (y := mX1_setPart) dX1_setPart_61 (Nat.le_of_ble_eq_true rfl) (by first | rfl | (simp [okst, rf_cat] <;> assumption)) (by first | exact rf_s _ | exact rf_n | exact rf_q _) ?_
        simp only [List.set_cons_zero, List.set_cons_succ]
        refine wa_aloadV (pc := 63) (y := mX1_setPart) dX1_setPart_63 rfl (by first | exact rf_s _ | exact rf_n | exact rf_q _) ?_
        refine wa_iload_n (pc := 65) (y := mX1_setPart) dX1_setPart_65 rfl ?_
        refine wa_iload (pc := 66) (y := mX1_setPart) dX1_setPart_66 rfl ?_
        refine wf_iastore dX1_setPart_68 (by assumption) (by omega) ?_
        refine wa_iload (pc := 69) (y := mX1_setPart) dX1_setPart_69 rfl ?_
        refine wa_ireturn (pc := 71) (y := mX1_setPart) .int dX1_setPart_71 rfl rfl (sp_end (b := b) ch3 R3 S3 gf3 h603 hp ha3 hz (by rw [hb9]; rfl) hO (by rw [hmv]))
    · have hO : O_setPart f σ v z b w = oX f σ 2 := by
        unfold O_setPart
        rw [hpl]
        exact (if_neg (Decidable.not_not.mpr hz)).trans (if_pos hw)
      refine wa_aloadV_n (pc := 0) (y := mX1_setPart) dX1_setPart_0 rfl (by first | exact rf_s _ | exact rf_n | exact rf_q _) ?_
      refine wa_iload_n (pc := 1) (y := mX1_setPart) dX1_setPart_1 rfl ?_
      refine wa_iload_n (pc := 2) (y := mX1_setPart) dX1_setPart_2 rfl ?_
      refine wa_iload_n (pc := 3) (y := mX1_setPart) dX1_setPart_3 rfl ?_
      refine wa_callV (pc := 4) (s_X1_part (d := d - 1) (by omega) R) dX1_setPart_4 okX1_part q2080 q2081 q2082 (sF_at (by assumption)) rfl rfl rfl (Nat.le_of_ble_eq_true rfl) (Nat.le_of_ble_eq_true rfl) (by omega) ?_
      rintro r h' - - (⟨hn, -⟩ | ⟨p9, hpl9, -, rfl, rfl⟩)
      · rcases hn with e | e; rw [hpl] at e; cases e; exact absurd hz e
      refine aft_v (pc2 := 7) ?_ rfl
      refine wa_istore (pc := 7) (y := mX1_setPart) dX1_setPart_7 (Nat.le_of_ble_eq_true rfl) (by first | rfl | (simp [okst, rf_cat] <;> assumption)) ?_
      simp only [List.set_cons_zero, List.set_cons_succ]
      refine wa_iload (pc := 9) (y := mX1_setPart) dX1_setPart_9 rfl ?_
      refine wa_iconst (pc := 11) (y := mX1_setPart) (Int32.ofNat 0) dX1_setPart_11 rfl ?_
      refine wa_sipush (pc := 12) (y := mX1_setPart) (Int32.ofNat 600) dX1_setPart_12 rfl ?_
      refine wa_callS (pc := 15) (s_X1_isIn (d := d - 1)) dX1_setPart_15 okX1_isIn q2020 q1692 rfl rfl (Nat.le_of_ble_eq_true rfl) (Nat.le_of_ble_eq_true rfl) (by omega) ?_
      rintro _ _ - - ⟨rfl, rfl⟩
      refine aft_v (pc2 := 18) ?_ rfl
      rw [show inb w (Int32.ofNat 0) (Int32.ofNat 600) = false from hin.trans (decide_eq_false hw)]
      refine wa_callS (pc := 18) (s_X1_checkArgument (d := d - 1) (b := false) (by omega)) dX1_setPart_18 okX1_checkArgument q2038 q1699 rfl rfl (Nat.le_of_ble_eq_true rfl) (Nat.le_of_ble_eq_true rfl) (by omega) ?_
      rintro r h' - - (⟨hb, -, -⟩ | ⟨-, T⟩)
      · cases hb
      exact T.after ⟨_, rfl⟩ rfl fun h3 F3 q fr cst iq => OpQ.thr ch (by omega) R fr cst iq (by rw [hO]; exact Nat.succ_ne_zero _) (by rw [hO]; rfl) (by rw [hO]; rfl) (by rw [hO]; exact SgE.v7)
end OPS2
