/-! ===== CueStack: more calls (written by tools/gen9a.py) ===== -/
section OPS3
variable {G : GG} {d n : Nat} {h h2 h3 : AH} {F F2 F3 : Nat → Nat → Value} {own own2 own3 : Nat → Option Nat} {x s s1 s2 k i j p q c a : Nat} {C : CA} {f f2 g : Nat → Int32} {σ σ2 : MS} {P O : Nat → Prop} {r : RR} {h' : AH} {A : SA} {v w z : Int32} {b : Bool}
theorem good_go (gf : GoodF f) (hp : p < u (f 0)) : GoodF (goF f (f (18 + 12 * p)) p) :=
  ⟨goF_eqv.inv gf.1, fun c hc => by rw [goF_lo (by omega) (by omega) (by omega) (by omega)]; exact gf.2.1 c hc, by rw [goF_2]; exact Int32.le_of_lt (num_pos9 gf.1 hp).1⟩
theorem good_tk (gf : GoodF f) : GoodF (tk2 (tk1 f)) := by
  have hI1 := tk1_inv gf.1
  refine ⟨tk2_inv hI1, fun c hc => ?_, (tk_step gf.1 gf.2.2).1⟩
  have e1 : tk1 f (6 + c) = f (6 + c) := tk1_lo (by omega) (by omega) (by omega)
  cases hb : goB (tk1 f) with
  | false =>
    have h2 : tk2 (tk1 f) = tk1 f := by unfold tk2; rw [if_neg (by rw [hb]; decide)]
    rw [h2, e1]
    exact gf.2.1 c hc
  | true =>
    obtain ⟨p, hp, hp1, htk⟩ := goB_pl hI1 hb
    rw [htk, goF_lo (by omega) (by omega) (by omega) (by omega), e1]
    exact gf.2.1 c hc
theorem good_tkN (gf : GoodF f) : ∀ k, GoodF (tkN f k)
  | 0 => gf
  | k + 1 => good_tk (good_tkN gf k)
theorem s_X1_setHome (hd : 20 ≤ d) (hG : StG G) (R : CompR G h F own x C f σ) : MA G d mX1_setHome [.ref x, .int v, .int w] (sF h F) (OpQ G h F own x [25, 23] (O_setHome f σ v w)) := by
  have i1 := R.is
  have e0 := R.f0
  have e2 := R.f2
  have k1 := R.sh.is
  have p1 := R.pa.1
  obtain ⟨gf, A, h60, S⟩ := id R.sh
  have h12 := gf.1.1
  have x0 := S.f0
  have x2 := S.f2
  have x3 := S.f3
  have x7 := S.f7
  have xh := S.hm
  have xc := S.cl.1
  have xl := S.fl.1
  have ch := Ch.refl (F := F) R.ob
  have hin : inb w 0 100 = decide (u w ≤ 100) := inb_le (n := 100) (by decide)
  change WA G d mX1_setHome 0 [.ref x, .int v, .int w, .retAddr 0] [] _ _
  by_cases hc : u v < 12
  · by_cases hw : u w ≤ 100
    · obtain ⟨m, hmv⟩ : ∃ m, u v = m := ⟨_, rfl⟩
      have ev : v = Int32.ofNat m := by rw [← hmv]; exact (u_self v).symm
      have hO : O_setHome f σ v w = (0, f (6 + u v), upd f (6 + u v) w, oC f σ) := by
        unfold O_setHome
        exact (if_neg (Decidable.not_not.mpr hc)).trans (if_neg (Decidable.not_not.mpr hw))
      rw [hmv] at hc hO
      subst ev
      have hh := S.hv m hc
      refine wa_iload_n (pc := 0) (y := mX1_setHome) dX1_setHome_0 rfl ?_
      refine wa_callS (pc := 1) (s_X1_checkChannel (d := d - 1) (by omega)) dX1_setHome_1 okX1_checkChannel q2126 q2127 rfl rfl (Nat.le_of_ble_eq_true rfl) (Nat.le_of_ble_eq_true rfl) (by omega) ?_
      rintro r h' - - (⟨-, rfl, rfl⟩ | ⟨hb, -⟩)
      rotate_left
      · rw [decide_eq_true (by rw [hmv]; exact hc)] at hb; cases hb
      refine aft_0 (pc2 := 4) ?_ rfl
      refine wa_iload_n (pc := 4) (y := mX1_setHome) dX1_setHome_4 rfl ?_
      refine wa_iconst (pc := 5) (y := mX1_setHome) (Int32.ofNat 0) dX1_setHome_5 rfl ?_
      refine wa_bipush (pc := 6) (y := mX1_setHome) (Int32.ofNat 100) dX1_setHome_6 rfl ?_
      refine wa_callS (pc := 8) (s_X1_isIn (d := d - 1)) dX1_setHome_8 okX1_isIn q2020 q1692 rfl rfl (Nat.le_of_ble_eq_true rfl) (Nat.le_of_ble_eq_true rfl) (by omega) ?_
      rintro _ _ - - ⟨rfl, rfl⟩
      refine aft_v (pc2 := 11) ?_ rfl
      rw [show inb w (Int32.ofNat 0) (Int32.ofNat 100) = true from hin.trans (decide_eq_true hw)]
      refine wa_callS (pc := 11) (s_X1_checkArgument (d := d - 1) (b := true) (by omega)) dX1_setHome_11 okX1_checkArgument q2038 q1699 rfl rfl (Nat.le_of_ble_eq_true rfl) (Nat.le_of_ble_eq_true rfl) (by omega) ?_
      rintro r h' - - (⟨-, rfl, rfl⟩ | ⟨hb, -⟩)
      rotate_left
      · cases hb
      refine aft_0 (pc2 := 14) ?_ rfl
      refine wa_aloadV_n (pc := 14) (y := mX1_setHome) dX1_setHome_14 rfl (by first | exact rf_s _ | exact rf_n | exact rf_q _) ?_
      refine wf_get (k := 0) (l := 9) 0 dX1_setHome_15 (by assumption) rfl q1111 (Or.inl rfl) (Nat.le_of_ble_eq_true rfl) (Nat.le_of_ble_eq_true rfl) (by (repeat (first | exact updF_self _ _ _ _ | (apply updF_i; · decide) | (apply updF_a; · first | assumption | (apply Ne.symm; assumption) | omega) | (apply newF_a; · first | assumption | (apply Ne.symm; assumption) | omega) | exact newL_self (by rfl) | exact newF_self (by rfl) | (apply cpyF_a; · first | assumption | (apply Ne.symm; assumption) | omega))) <;> first | assumption | rfl) ?_
      refine wf_getN (k := 1) (l := 8) 2 dX1_setHome_18 (by assumption) rfl q360 (Or.inl rfl) (Nat.le_of_ble_eq_true rfl) (Nat.le_of_ble_eq_true rfl) (by (repeat (first | exact updF_self _ _ _ _ | (apply updF_i; · decide) | (apply updF_a; · first | assumption | (apply Ne.symm; assumption) | omega) | (apply newF_a; · first | assumption | (apply Ne.symm; assumption) | omega) | exact newL_self (by rfl) | exact newF_self (by rfl) | (apply cpyF_a; · first | assumption | (apply Ne.symm; assumption) | omega))) <;> first | assumption | rfl) ?_
      refine wa_iload_n (pc := 21) (y := mX1_setHome) dX1_setHome_21 rfl ?_
      refine wf_iaload dX1_setHome_22 (by assumption) (by omega) (by (repeat (first | exact updF_self _ _ _ _ | (apply updF_i; · decide) | (apply updF_a; · first | assumption | (apply Ne.symm; assumption) | omega) | (apply newF_a; · first | assumption | (apply Ne.symm; assumption) | omega) | exact newL_self (by rfl) | exact newF_self (by rfl) | (apply cpyF_a; · first | assumption | (apply Ne.symm; assumption) | omega))) <;> first | assumption | rfl) ?_
      refine wa_istore_n (pc := 23) (y := mX1_setHome) dX1_setHome_23 (Nat.le_of_ble_eq_true rfl) (by first | rfl | (simp [okst, rf_cat] <;> assumption)) ?_
      change WA _ _ _ _ (List.set _ 3 _) _ _ _
      simp only [List.set_cons_zero, List.set_cons_succ]
      refine wa_aloadV_n (pc := 24) (y := mX1_setHome) dX1_setHome_24 rfl (by first | exact rf_s _ | exact rf_n | exact rf_q _) ?_
      refine wf_get (k := 0) (l := 9) 2 dX1_setHome_25 (by assumption) rfl q1113 (Or.inl rfl) (Nat.le_of_ble_eq_true rfl) (Nat.le_of_ble_eq_true rfl) (by (repeat (first | exact updF_self _ _ _ _ | (apply updF_i; · decide) | (apply updF_a; · first | assumption | (apply Ne.symm; assumption) | omega) | (apply newF_a; · first | assumption | (apply Ne.symm; assumption) | omega) | exact newL_self (by rfl) | exact newF_self (by rfl) | (apply cpyF_a; · first | assumption | (apply Ne.symm; assumption) | omega))) <;> first | assumption | rfl) ?_
      refine wa_aloadV_n (pc := 28) (y := mX1_setHome) dX1_setHome_28 rfl (by first | exact rf_s _ | exact rf_n | exact rf_q _) ?_
      refine wf_get (k := 0) (l := 9) 0 dX1_setHome_29 (by assumption) rfl q1111 (Or.inl rfl) (Nat.le_of_ble_eq_true rfl) (Nat.le_of_ble_eq_true rfl) (by (repeat (first | exact updF_self _ _ _ _ | (apply updF_i; · decide) | (apply updF_a; · first | assumption | (apply Ne.symm; assumption) | omega) | (apply newF_a; · first | assumption | (apply Ne.symm; assumption) | omega) | exact newL_self (by rfl) | exact newF_self (by rfl) | (apply cpyF_a; · first | assumption | (apply Ne.symm; assumption) | omega))) <;> first | assumption | rfl) ?_
      refine wa_callV (pc := 32) (s_X4_keep (d := d - 1) (by omega) hG R.em R.ob R.pa R.sh R.sx R.is.lt) dX1_setHome_32 okX4_keep q1764 q1765 q1766 (sF_at (by assumption)) rfl rfl rfl (Nat.le_of_ble_eq_true rfl) (Nat.le_of_ble_eq_true rfl) (by omega) ?_
      rintro r h' - - K
      obtain ⟨h3, F3, own3, C3, rfl, rfl, ext, hnone, cst, t, R3, c1, c2, c3, hx3, shw, csv, chs⟩ := R.keepR K
      refine aft_0 (pc2 := 35) ?_ rfl
      have ch3 : Ch 8060 h F own h3 F3 own3 := ⟨hnone, ext, cst, t⟩
      have j1 := R3.is; have j2 := R3.f0; have j4 := R3.sh.is; have j3 := R3.f2; have j5 := R3.pa.1
      obtain ⟨gf3, A3, h603, S3⟩ := id R3.sh
      have y0 := S3.f0; have y3 := S3.f3; have y2 := S3.f2; have yh := S3.hm; have yc := S3.cl.1; have yl := S3.fl.1; have y7 := S3.f7
      refine wa_aloadV_n (pc := 35) (y := mX1_setHome) dX1_setHome_35 rfl (by first | exact rf_s _ | exact rf_n | exact rf_q _) ?_
      refine wf_get (k := 0) (l := 9) 0 dX1_setHome_36 (by assumption) rfl q1111 (Or.inl rfl) (Nat.le_of_ble_eq_true rfl) (Nat.le_of_ble_eq_true rfl) (by (repeat (first | exact updF_self _ _ _ _ | (apply updF_i; · decide) | (apply updF_a; · first | assumption | (apply Ne.symm; assumption) | omega) | (apply newF_a; · first | assumption | (apply Ne.symm; assumption) | omega) | exact newL_self (by rfl) | exact newF_self (by rfl) | (apply cpyF_a; · first | assumption | (apply Ne.symm; assumption) | omega))) <;> first | assumption | rfl) ?_
      refine wf_getN (k := 1) (l := 8) 2 dX1_setHome_39 (by assumption) rfl q360 (Or.inl rfl) (Nat.le_of_ble_eq_true rfl) (Nat.le_of_ble_eq_true rfl) (by (repeat (first | exact updF_self _ _ _ _ | (apply updF_i; · decide) | (apply updF_a; · first | assumption | (apply Ne.symm; assumption) | omega) | (apply newF_a; · first | assumption | (apply Ne.symm; assumption) | omega) | exact newL_self (by rfl) | exact newF_self (by rfl) | (apply cpyF_a; · first | assumption | (apply Ne.symm; assumption) | omega))) <;> first | assumption | rfl) ?_
      refine wa_iload_n (pc := 42) (y := mX1_setHome) dX1_setHome_42 rfl ?_
      refine wa_iload_n (pc := 43) (y := mX1_setHome) dX1_setHome_43 rfl ?_
      refine wf_iastore dX1_setHome_44 (by assumption) (by omega) ?_
      refine wa_iload_n (pc := 45) (y := mX1_setHome) dX1_setHome_45 rfl ?_
      refine wa_ireturn (pc := 46) (y := mX1_setHome) .int dX1_setHome_46 rfl rfl ?_
      obtain ⟨R4, ch4⟩ := R3.inp (f2 := upd f (6 + m) w) (S3.own A3.hm (Or.inr (Or.inl rfl))) (nkil S3.hm (by decide)) (Fr.upd (i := m) (v := .int w) rfl) ⟨good_home gf3 hc hw, A3, by rw [upd_o _ _ (by omega)]; exact h603, (S3.setH hc).cg (fun _ _ => rfl) (fun _ _ _ => rfl) (fun j hj => upd_o _ _ (by omega))⟩
      exact OpQ.val (ch3.trans ch4) (by omega) R4 (by rw [hO]) (by rw [hO]) (by rw [hO]) (by rw [hO]; exact SgE.ofC)
    · have hO : O_setHome f σ v w = oX f σ 2 := by
        unfold O_setHome
        exact (if_neg (Decidable.not_not.mpr hc)).trans (if_pos hw)
      refine wa_iload_n (pc := 0) (y := mX1_setHome) dX1_setHome_0 rfl ?_
      refine wa_callS (pc := 1) (s_X1_checkChannel (d := d - 1) (by omega)) dX1_setHome_1 okX1_checkChannel q2126 q2127 rfl rfl (Nat.le_of_ble_eq_true rfl) (Nat.le_of_ble_eq_true rfl) (by omega) ?_
      rintro r h' - - (⟨-, rfl, rfl⟩ | ⟨hb, -⟩)
      rotate_left
      · rw [decide_eq_true hc] at hb; cases hb
      refine aft_0 (pc2 := 4) ?_ rfl
      refine wa_iload_n (pc := 4) (y := mX1_setHome) dX1_setHome_4 rfl ?_
      refine wa_iconst (pc := 5) (y := mX1_setHome) (Int32.ofNat 0) dX1_setHome_5 rfl ?_
      refine wa_bipush (pc := 6) (y := mX1_setHome) (Int32.ofNat 100) dX1_setHome_6 rfl ?_
      refine wa_callS (pc := 8) (s_X1_isIn (d := d - 1)) dX1_setHome_8 okX1_isIn q2020 q1692 rfl rfl (Nat.le_of_ble_eq_true rfl) (Nat.le_of_ble_eq_true rfl) (by omega) ?_
      rintro _ _ - - ⟨rfl, rfl⟩
      refine aft_v (pc2 := 11) ?_ rfl
      rw [show inb w (Int32.ofNat 0) (Int32.ofNat 100) = false from hin.trans (decide_eq_false hw)]
      refine wa_callS (pc := 11) (s_X1_checkArgument (d := d - 1) (b := false) (by omega)) dX1_setHome_11 okX1_checkArgument q2038 q1699 rfl rfl (Nat.le_of_ble_eq_true rfl) (Nat.le_of_ble_eq_true rfl) (by omega) ?_
      rintro r h' - - (⟨hb, -, -⟩ | ⟨-, T⟩)
      · cases hb
      exact T.after ⟨_, rfl⟩ rfl fun h3 F3 q fr cst iq => OpQ.thr ch (by omega) R fr cst iq (by rw [hO]; exact Nat.succ_ne_zero _) (by rw [hO]; rfl) (by rw [hO]; rfl) (by rw [hO]; exact SgE.v7)
  · have hO : O_setHome f σ v w = oX f σ 1 := if_pos hc
    refine wa_iload_n (pc := 0) (y := mX1_setHome) dX1_setHome_0 rfl ?_
    refine wa_callS (pc := 1) (s_X1_checkChannel (d := d - 1) (by omega)) dX1_setHome_1 okX1_checkChannel q2126 q2127 rfl rfl (Nat.le_of_ble_eq_true rfl) (Nat.le_of_ble_eq_true rfl) (by omega) ?_
    rintro r h' - - (⟨hb, -, -⟩ | ⟨-, T⟩)
    · rw [decide_eq_false hc] at hb; cases hb
    exact T.after ⟨_, rfl⟩ rfl fun h3 F3 q fr cst iq => OpQ.thr ch (by omega) R fr cst iq (by rw [hO]; exact Nat.succ_ne_zero _) (by rw [hO]; rfl) (by rw [hO]; rfl) (by rw [hO]; exact SgE.v7)
theorem s_X1_now (hd : 8 ≤ d) (R : CompR G h F own x C f σ) : MA G d mX1_now [.ref x, .int v] (sF h F) (OpQ G h F own x [25] (O_now f σ v)) := by
  have i1 := R.is
  have e0 := R.f0
  have e2 := R.f2
  have k1 := R.sh.is
  have p1 := R.pa.1
  obtain ⟨gf, A, h60, S⟩ := id R.sh
  have h12 := gf.1.1
  have x0 := S.f0
  have x2 := S.f2
  have x3 := S.f3
  have x7 := S.f7
  have xh := S.hm
  have xc := S.cl.1
  have xl := S.fl.1
  have ch := Ch.refl (F := F) R.ob
  change WA G d mX1_now 0 [.ref x, .int v] [] _ _
  by_cases hc : u v < 12
  · obtain ⟨m, hmv⟩ : ∃ m, u v = m := ⟨_, rfl⟩
    have ev : v = Int32.ofNat m := by rw [← hmv]; exact (u_self v).symm
    have hO : O_now f σ v = oR f σ (nowF f (u v)) := if_neg (Decidable.not_not.mpr hc)
    rw [hmv] at hc hO
    subst ev
    obtain ⟨a, ha⟩ : ∃ a, A.fs[m]? = some a := ⟨_, List.getElem?_eq_getElem (by have := S.nf; omega)⟩
    have T := S.fad m a ha
    have t1 := T.1
    have t2 := T.2.2.1
    refine wa_iload_n (pc := 0) (y := mX1_now) dX1_now_0 rfl ?_
    refine wa_callS (pc := 1) (s_X1_checkChannel (d := d - 1) (by omega)) dX1_now_1 okX1_checkChannel q2126 q2127 rfl rfl (Nat.le_of_ble_eq_true rfl) (Nat.le_of_ble_eq_true rfl) (by omega) ?_
    rintro r h' - - (⟨-, rfl, rfl⟩ | ⟨hb, -⟩)
    rotate_left
    · rw [decide_eq_true (by rw [hmv]; exact hc)] at hb; cases hb
    refine aft_0 (pc2 := 4) ?_ rfl
    refine wa_aloadV_n (pc := 4) (y := mX1_now) dX1_now_4 rfl (by first | exact rf_s _ | exact rf_n | exact rf_q _) ?_
    refine wf_get (k := 0) (l := 9) 0 dX1_now_5 (by assumption) rfl q1111 (Or.inl rfl) (Nat.le_of_ble_eq_true rfl) (Nat.le_of_ble_eq_true rfl) (by (repeat (first | exact updF_self _ _ _ _ | (apply updF_i; · decide) | (apply updF_a; · first | assumption | (apply Ne.symm; assumption) | omega) | (apply newF_a; · first | assumption | (apply Ne.symm; assumption) | omega) | exact newL_self (by rfl) | exact newF_self (by rfl) | (apply cpyF_a; · first | assumption | (apply Ne.symm; assumption) | omega))) <;> first | assumption | rfl) ?_
    refine wf_getN (k := 1) (l := 8) 3 dX1_now_8 (by assumption) rfl q362 (Or.inl rfl) (Nat.le_of_ble_eq_true rfl) (Nat.le_of_ble_eq_true rfl) (by (repeat (first | exact updF_self _ _ _ _ | (apply updF_i; · decide) | (apply updF_a; · first | assumption | (apply Ne.symm; assumption) | omega) | (apply newF_a; · first | assumption | (apply Ne.symm; assumption) | omega) | exact newL_self (by rfl) | exact newF_self (by rfl) | (apply cpyF_a; · first | assumption | (apply Ne.symm; assumption) | omega))) <;> first | assumption | rfl) ?_
    refine wa_iload_n (pc := 11) (y := mX1_now) dX1_now_11 rfl ?_
    refine wa_callV (pc := 12) (s_J2_get (d := d - 1) (by omega) S.fl ha) dX1_now_12 okJ2_get q1164 q417 q418 (sF_at (by assumption)) rfl rfl rfl (Nat.le_of_ble_eq_true rfl) (Nat.le_of_ble_eq_true rfl) (by omega) ?_
    rintro _ _ - - ⟨rfl, rfl⟩
    refine aft_v (pc2 := 15) ?_ rfl
    refine wa_castS (pc := 15) (y := mX1_now) (k := 2) dX1_now_15 (sF_at (by assumption)) rfl q1165 ?_
    refine wa_callV (pc := 18) (s_X3_now (d := d - 1) T) dX1_now_18 okX3_now q1166 q1167 q1168 (sF_at (by assumption)) rfl rfl rfl (Nat.le_of_ble_eq_true rfl) (Nat.le_of_ble_eq_true rfl) (by omega) ?_
    rintro _ _ - - ⟨rfl, rfl⟩
    refine aft_v (pc2 := 21) ?_ rfl
    refine wa_ireturn (pc := 21) (y := mX1_now) .int dX1_now_21 rfl rfl (OpQ.val ch (by omega) R (by rw [hO]; rfl) (by rw [hO]; rfl) (by rw [hO]; rfl) (by rw [hO]; exact SgE.v7))
  · have hO : O_now f σ v = oX f σ 1 := if_pos hc
    refine wa_iload_n (pc := 0) (y := mX1_now) dX1_now_0 rfl ?_
    refine wa_callS (pc := 1) (s_X1_checkChannel (d := d - 1) (by omega)) dX1_now_1 okX1_checkChannel q2126 q2127 rfl rfl (Nat.le_of_ble_eq_true rfl) (Nat.le_of_ble_eq_true rfl) (by omega) ?_
    rintro r h' - - (⟨hb, -, -⟩ | ⟨-, T⟩)
    · rw [decide_eq_false hc] at hb; cases hb
    exact T.after ⟨_, rfl⟩ rfl fun h3 F3 q fr cst iq => OpQ.thr ch (by omega) R fr cst iq (by rw [hO]; exact Nat.succ_ne_zero _) (by rw [hO]; rfl) (by rw [hO]; rfl) (by rw [hO]; exact SgE.v7)
theorem s_X1_target (hd : 8 ≤ d) (R : CompR G h F own x C f σ) : MA G d mX1_target [.ref x, .int v] (sF h F) (OpQ G h F own x [25] (O_target f σ v)) := by
  have i1 := R.is
  have e0 := R.f0
  have e2 := R.f2
  have k1 := R.sh.is
  have p1 := R.pa.1
  obtain ⟨gf, A, h60, S⟩ := id R.sh
  have h12 := gf.1.1
  have x0 := S.f0
  have x2 := S.f2
  have x3 := S.f3
  have x7 := S.f7
  have xh := S.hm
  have xc := S.cl.1
  have xl := S.fl.1
  have ch := Ch.refl (F := F) R.ob
  change WA G d mX1_target 0 [.ref x, .int v] [] _ _
  by_cases hc : u v < 12
  · obtain ⟨m, hmv⟩ : ∃ m, u v = m := ⟨_, rfl⟩
    have ev : v = Int32.ofNat m := by rw [← hmv]; exact (u_self v).symm
    have hO : O_target f σ v = oR f σ (f (402 + 5 * u v + 1)) := if_neg (Decidable.not_not.mpr hc)
    rw [hmv] at hc hO
    subst ev
    obtain ⟨a, ha⟩ : ∃ a, A.fs[m]? = some a := ⟨_, List.getElem?_eq_getElem (by have := S.nf; omega)⟩
    have T := S.fad m a ha
    have t1 := T.1
    have t2 := T.2.2.1
    refine wa_iload_n (pc := 0) (y := mX1_target) dX1_target_0 rfl ?_
    refine wa_callS (pc := 1) (s_X1_checkChannel (d := d - 1) (by omega)) dX1_target_1 okX1_checkChannel q2126 q2127 rfl rfl (Nat.le_of_ble_eq_true rfl) (Nat.le_of_ble_eq_true rfl) (by omega) ?_
    rintro r h' - - (⟨-, rfl, rfl⟩ | ⟨hb, -⟩)
    rotate_left
    · rw [decide_eq_true (by rw [hmv]; exact hc)] at hb; cases hb
    refine aft_0 (pc2 := 4) ?_ rfl
    refine wa_aloadV_n (pc := 4) (y := mX1_target) dX1_target_4 rfl (by first | exact rf_s _ | exact rf_n | exact rf_q _) ?_
    refine wf_get (k := 0) (l := 9) 0 dX1_target_5 (by assumption) rfl q1111 (Or.inl rfl) (Nat.le_of_ble_eq_true rfl) (Nat.le_of_ble_eq_true rfl) (by (repeat (first | exact updF_self _ _ _ _ | (apply updF_i; · decide) | (apply updF_a; · first | assumption | (apply Ne.symm; assumption) | omega) | (apply newF_a; · first | assumption | (apply Ne.symm; assumption) | omega) | exact newL_self (by rfl) | exact newF_self (by rfl) | (apply cpyF_a; · first | assumption | (apply Ne.symm; assumption) | omega))) <;> first | assumption | rfl) ?_
    refine wf_getN (k := 1) (l := 8) 3 dX1_target_8 (by assumption) rfl q362 (Or.inl rfl) (Nat.le_of_ble_eq_true rfl) (Nat.le_of_ble_eq_true rfl) (by (repeat (first | exact updF_self _ _ _ _ | (apply updF_i; · decide) | (apply updF_a; · first | assumption | (apply Ne.symm; assumption) | omega) | (apply newF_a; · first | assumption | (apply Ne.symm; assumption) | omega) | exact newL_self (by rfl) | exact newF_self (by rfl) | (apply cpyF_a; · first | assumption | (apply Ne.symm; assumption) | omega))) <;> first | assumption | rfl) ?_
    refine wa_iload_n (pc := 11) (y := mX1_target) dX1_target_11 rfl ?_
    refine wa_callV (pc := 12) (s_J2_get (d := d - 1) (by omega) S.fl ha) dX1_target_12 okJ2_get q1164 q417 q418 (sF_at (by assumption)) rfl rfl rfl (Nat.le_of_ble_eq_true rfl) (Nat.le_of_ble_eq_true rfl) (by omega) ?_
    rintro _ _ - - ⟨rfl, rfl⟩
    refine aft_v (pc2 := 15) ?_ rfl
    refine wa_castS (pc := 15) (y := mX1_target) (k := 2) dX1_target_15 (sF_at (by assumption)) rfl q1165 ?_
    refine wf_getN (k := 2) (l := 5) 1 dX1_target_18 (by assumption) rfl q255 (Or.inl rfl) (Nat.le_of_ble_eq_true rfl) (Nat.le_of_ble_eq_true rfl) (by (repeat (first | exact updF_self _ _ _ _ | (apply updF_i; · decide) | (apply updF_a; · first | assumption | (apply Ne.symm; assumption) | omega) | (apply newF_a; · first | assumption | (apply Ne.symm; assumption) | omega) | exact newL_self (by rfl) | exact newF_self (by rfl) | (apply cpyF_a; · first | assumption | (apply Ne.symm; assumption) | omega))) <;> first | assumption | rfl) ?_
    refine wa_ireturn (pc := 21) (y := mX1_target) .int dX1_target_21 rfl rfl (OpQ.val ch (by omega) R (by rw [hO]; rfl) (by rw [hO]; rfl) (by rw [hO]; rfl) (by rw [hO]; exact SgE.v7))
  · have hO : O_target f σ v = oX f σ 1 := if_pos hc
    refine wa_iload_n (pc := 0) (y := mX1_target) dX1_target_0 rfl ?_
    refine wa_callS (pc := 1) (s_X1_checkChannel (d := d - 1) (by omega)) dX1_target_1 okX1_checkChannel q2126 q2127 rfl rfl (Nat.le_of_ble_eq_true rfl) (Nat.le_of_ble_eq_true rfl) (by omega) ?_
    rintro r h' - - (⟨hb, -, -⟩ | ⟨-, T⟩)
    · rw [decide_eq_false hc] at hb; cases hb
    exact T.after ⟨_, rfl⟩ rfl fun h3 F3 q fr cst iq => OpQ.thr ch (by omega) R fr cst iq (by rw [hO]; exact Nat.succ_ne_zero _) (by rw [hO]; rfl) (by rw [hO]; rfl) (by rw [hO]; exact SgE.v7)
theorem s_X1_jump (hd : 20 ≤ d) (hG : StG G) (R : CompR G h F own x C f σ) : MA G d mX1_jump [.ref x, .int v] (sF h F) (OpQ G h F own x [25] (O_jump f σ v)) := by
  have i1 := R.is
  have e0 := R.f0
  have e2 := R.f2
  have k1 := R.sh.is
  have p1 := R.pa.1
  obtain ⟨gf, A, h60, S⟩ := id R.sh
  have h12 := gf.1.1
  have x0 := S.f0
  have x2 := S.f2
  have x3 := S.f3
  have x7 := S.f7
  have xh := S.hm
  have xc := S.cl.1
  have xl := S.fl.1
  have ch := Ch.refl (F := F) R.ob
  change WA G d mX1_jump 0 [.ref x, .int v, .retAddr 0] [] _ _
  cases hpl : pl f v with
  | none =>
    have hO : O_jump f σ v = oX f σ 1 := by unfold O_jump; rw [hpl]
    refine wa_aloadV_n (pc := 0) (y := mX1_jump) dX1_jump_0 rfl (by first | exact rf_s _ | exact rf_n | exact rf_q _) ?_
    refine wf_get (k := 0) (l := 9) 0 dX1_jump_1 (by assumption) rfl q1111 (Or.inl rfl) (Nat.le_of_ble_eq_true rfl) (Nat.le_of_ble_eq_true rfl) (by (repeat (first | exact updF_self _ _ _ _ | (apply updF_i; · decide) | (apply updF_a; · first | assumption | (apply Ne.symm; assumption) | omega) | (apply newF_a; · first | assumption | (apply Ne.symm; assumption) | omega) | exact newL_self (by rfl) | exact newF_self (by rfl) | (apply cpyF_a; · first | assumption | (apply Ne.symm; assumption) | omega))) <;> first | assumption | rfl) ?_
    refine wa_iload_n (pc := 4) (y := mX1_jump) dX1_jump_4 rfl ?_
    refine wa_callV (pc := 5) (s_X2_index (d := d - 1) (v := v) (by omega) S) dX1_jump_5 okX2_index q1829 q1830 q1831 (sF_at (by assumption)) rfl rfl rfl (Nat.le_of_ble_eq_true rfl) (Nat.le_of_ble_eq_true rfl) (by omega) ?_
    rintro r h' - - (⟨p, hp, -⟩ | ⟨-, T⟩)
    · rw [hpl] at hp; cases hp
    exact T.after ⟨_, rfl⟩ rfl fun h3 F3 q fr cst iq => OpQ.thr ch (by omega) R fr cst iq (by rw [hO]; exact Nat.succ_ne_zero _) (by rw [hO]; rfl) (by rw [hO]; rfl) (by rw [hO]; exact SgE.v7)
  | some p =>
    have hp := (pl_some hpl).1
    have hO : O_jump f σ v = (0, gsC f v p 12, goF f v p, oC f σ) := by unfold O_jump; rw [hpl]
    have ev := (pl_some hpl).2
    refine wa_aloadV_n (pc := 0) (y := mX1_jump) dX1_jump_0 rfl (by first | exact rf_s _ | exact rf_n | exact rf_q _) ?_
    refine wf_get (k := 0) (l := 9) 0 dX1_jump_1 (by assumption) rfl q1111 (Or.inl rfl) (Nat.le_of_ble_eq_true rfl) (Nat.le_of_ble_eq_true rfl) (by (repeat (first | exact updF_self _ _ _ _ | (apply updF_i; · decide) | (apply updF_a; · first | assumption | (apply Ne.symm; assumption) | omega) | (apply newF_a; · first | assumption | (apply Ne.symm; assumption) | omega) | exact newL_self (by rfl) | exact newF_self (by rfl) | (apply cpyF_a; · first | assumption | (apply Ne.symm; assumption) | omega))) <;> first | assumption | rfl) ?_
    refine wa_iload_n (pc := 4) (y := mX1_jump) dX1_jump_4 rfl ?_
    refine wa_callV (pc := 5) (s_X2_index (d := d - 1) (v := v) (by omega) S) dX1_jump_5 okX2_index q1829 q1830 q1831 (sF_at (by assumption)) rfl rfl rfl (Nat.le_of_ble_eq_true rfl) (Nat.le_of_ble_eq_true rfl) (by omega) ?_
    rintro r h' - - (⟨p3, hp3, rfl, rfl⟩ | ⟨hp3, -⟩)
    rotate_left
    · rw [hpl] at hp3; cases hp3
    rw [hpl] at hp3; cases hp3
    refine aft_v (pc2 := 8) ?_ rfl
    refine wa_istore_n (pc := 8) (y := mX1_jump) dX1_jump_8 (Nat.le_of_ble_eq_true rfl) (by first | rfl | (simp [okst, rf_cat] <;> assumption)) ?_
    change WA _ _ _ _ (List.set _ 2 _) _ _ _
    simp only [List.set_cons_zero, List.set_cons_succ]
    refine wa_aloadV_n (pc := 9) (y := mX1_jump) dX1_jump_9 rfl (by first | exact rf_s _ | exact rf_n | exact rf_q _) ?_
    refine wf_get (k := 0) (l := 9) 2 dX1_jump_10 (by assumption) rfl q1113 (Or.inl rfl) (Nat.le_of_ble_eq_true rfl) (Nat.le_of_ble_eq_true rfl) (by (repeat (first | exact updF_self _ _ _ _ | (apply updF_i; · decide) | (apply updF_a; · first | assumption | (apply Ne.symm; assumption) | omega) | (apply newF_a; · first | assumption | (apply Ne.symm; assumption) | omega) | exact newL_self (by rfl) | exact newF_self (by rfl) | (apply cpyF_a; · first | assumption | (apply Ne.symm; assumption) | omega))) <;> first | assumption | rfl) ?_
    refine wa_aloadV_n (pc := 13) (y := mX1_jump) dX1_jump_13 rfl (by first | exact rf_s _ | exact rf_n | exact rf_q _) ?_
    refine wf_get (k := 0) (l := 9) 0 dX1_jump_14 (by assumption) rfl q1111 (Or.inl rfl) (Nat.le_of_ble_eq_true rfl) (Nat.le_of_ble_eq_true rfl) (by (repeat (first | exact updF_self _ _ _ _ | (apply updF_i; · decide) | (apply updF_a; · first | assumption | (apply Ne.symm; assumption) | omega) | (apply newF_a; · first | assumption | (apply Ne.symm; assumption) | omega) | exact newL_self (by rfl) | exact newF_self (by rfl) | (apply cpyF_a; · first | assumption | (apply Ne.symm; assumption) | omega))) <;> first | assumption | rfl) ?_
    refine wa_callV (pc := 17) (s_X4_keep (d := d - 1) (by omega) hG R.em R.ob R.pa R.sh R.sx R.is.lt) dX1_jump_17 okX4_keep q1764 q1765 q1766 (sF_at (by assumption)) rfl rfl rfl (Nat.le_of_ble_eq_true rfl) (Nat.le_of_ble_eq_true rfl) (by omega) ?_
    rintro r h' - - K
    obtain ⟨h3, F3, own3, C3, rfl, rfl, ext, hnone, cst, t, R3, c1, c2, c3, hx3, shw, csv, chs⟩ := R.keepR K
    refine aft_0 (pc2 := 20) ?_ rfl
    have ch3 : Ch 8060 h F own h3 F3 own3 := ⟨hnone, ext, cst, t⟩
    have j1 := R3.is; have j2 := R3.f0; have j4 := R3.sh.is; have j3 := R3.f2; have j5 := R3.pa.1
    obtain ⟨gf3, A3, h603, S3⟩ := id R3.sh
    have y0 := S3.f0; have y3 := S3.f3; have y2 := S3.f2; have yh := S3.hm; have yc := S3.cl.1; have yl := S3.fl.1; have y7 := S3.f7
    refine wa_aloadV_n (pc := 20) (y := mX1_jump) dX1_jump_20 rfl (by first | exact rf_s _ | exact rf_n | exact rf_q _) ?_
    refine wf_get (k := 0) (l := 9) 0 dX1_jump_21 (by assumption) rfl q1111 (Or.inl rfl) (Nat.le_of_ble_eq_true rfl) (Nat.le_of_ble_eq_true rfl) (by (repeat (first | exact updF_self _ _ _ _ | (apply updF_i; · decide) | (apply updF_a; · first | assumption | (apply Ne.symm; assumption) | omega) | (apply newF_a; · first | assumption | (apply Ne.symm; assumption) | omega) | exact newL_self (by rfl) | exact newF_self (by rfl) | (apply cpyF_a; · first | assumption | (apply Ne.symm; assumption) | omega))) <;> first | assumption | rfl) ?_
    refine wa_iload_n (pc := 24) (y := mX1_jump) dX1_jump_24 rfl ?_
    refine wa_callV (pc := 25) (s_X2_goes (d := d - 1) (k := p) (by omega) S3 hp) dX1_jump_25 okX2_goes q2322 q2291 q2292 (sF_at (by assumption)) rfl rfl rfl (Nat.le_of_ble_eq_true rfl) (Nat.le_of_ble_eq_true rfl) (by omega) ?_
    rintro _ _ - - ⟨h4, F4, rfl, rfl, fr4, cst4, S4⟩
    refine aft_v (pc2 := 28) ?_ rfl
    refine wa_ireturn (pc := 28) (y := mX1_jump) .int dX1_jump_28 rfl rfl ?_
    have S5 := S4.goN gf3.1 hp
    have t4 := OwT.ext (h2 := h4) R3.ob fr4.1.1 C3.s
    have G5 := good_go gf3 hp
    rw [ev] at S5 G5
    have e1 : gsC f v p 12 = gC f (gz f) p 12 := by
      have := gsC_gC (f := f) (p := p) gf3.1 (by omega) (Nat.le_refl 12)
      rw [ev] at this
      exact this
    have R4 := R3.onS (f2 := goF f v p) fr4 t4 (R3.old t4 ⟨G5, A3, S5⟩)
    exact OpQ.val (ch3.trans (Ch.ofS fr4 cst4 t4)) (by omega) R4 (by rw [hO]) (by rw [hO]; dsimp only; exact e1) (by rw [hO]) (by rw [hO]; exact SgE.ofC)
theorem s_X1_pass (hd : 22 ≤ d) (hG : StG G) (R : CompR G h F own x C f σ) : MA G d mX1_pass [.ref x, .int v] (sF h F) (OpQ G h F own x [23, 24] (O_pass f σ v)) := by
  have i1 := R.is
  have e0 := R.f0
  have e2 := R.f2
  have k1 := R.sh.is
  have p1 := R.pa.1
  obtain ⟨gf, A, h60, S⟩ := id R.sh
  have h12 := gf.1.1
  have x0 := S.f0
  have x2 := S.f2
  have x3 := S.f3
  have x7 := S.f7
  have xh := S.hm
  have xc := S.cl.1
  have xl := S.fl.1
  have ch := Ch.refl (F := F) R.ob
  have x5 := S.f5
  have hin : inb v 0 6000 = decide (u v ≤ 6000) := inb_le (n := 6000) (by decide)
  change WA G d mX1_pass 0 [.ref x, .int v] [] _ _
  by_cases hv : u v ≤ 6000
  · have hin2 := hin.trans (decide_eq_true hv)
    have k31 : ∀ b : Bool, (b = false ↔ 100000 < f 5 + v) → WA G d mX1_pass 31 [.ref x, .int v] [.int (bI b)] (sF h F) (OpQ G h F own x [23, 24] (O_pass f σ v)) := by
      intro b hb
      cases b with
      | false =>
        have hlt := hb.mp rfl
        have hD : dPs f v = (2, f) := by unfold dPs; rw [if_neg (by rw [hin2]; decide), if_pos hlt]
        have hO : O_pass f σ v = (2, 0, f, mV (mA σ 1 f) 7 (Int32.ofNat 2)) := by unfold O_pass; rw [hD]; rfl
        refine wa_callS (pc := 31) (s_X1_checkState (d := d - 1) (b := false) (by omega)) dX1_pass_31 okX1_checkState q2331 q1707 rfl rfl (Nat.le_of_ble_eq_true rfl) (Nat.le_of_ble_eq_true rfl) (by omega) ?_
        rintro r h' - - (⟨hb, -, -⟩ | ⟨-, T⟩)
        · cases hb
        exact T.after ⟨_, rfl⟩ rfl fun h3 F3 q fr cst iq => OpQ.thr ch (by omega) R fr cst iq (by rw [hO]; exact Nat.succ_ne_zero _) (by rw [hO]; try rfl) (by rw [hO]; try rfl) (by rw [hO]; exact SgE.a1)
      | true =>
        have hlt : ¬ 100000 < f 5 + v := fun e => by have := hb.mpr e; cases this
        have hD : dPs f v = (0, tkN f (u v)) := by unfold dPs; rw [if_neg (by rw [hin2]; decide), if_neg hlt]
        have hO : O_pass f σ v = (0, tkN f (u v) 4 - f 4, tkN f (u v), chg (mV (mA σ 1 f) 7 (Int32.ofNat 0))) := by unfold O_pass; rw [hD]; rfl
        obtain ⟨m, hmv⟩ : ∃ m, u v = m := ⟨_, rfl⟩
        have ev : v = Int32.ofNat m := by rw [← hmv]; exact (u_self v).symm
        rw [hmv] at hv hO
        subst ev
        refine wa_callS (pc := 31) (s_X1_checkState (d := d - 1) (b := true) (by omega)) dX1_pass_31 okX1_checkState q2331 q1707 rfl rfl (Nat.le_of_ble_eq_true rfl) (Nat.le_of_ble_eq_true rfl) (by omega) ?_
        rintro r h' - - (⟨-, rfl, rfl⟩ | ⟨hb, -⟩)
        rotate_left
        · cases hb
        refine aft_0 (pc2 := 34) ?_ rfl
        refine wa_aloadV_n (pc := 34) (y := mX1_pass) dX1_pass_34 rfl (by first | exact rf_s _ | exact rf_n | exact rf_q _) ?_
        refine wf_get (k := 0) (l := 9) 2 dX1_pass_35 (by assumption) rfl q1113 (Or.inl rfl) (Nat.le_of_ble_eq_true rfl) (Nat.le_of_ble_eq_true rfl) (by (repeat (first | exact updF_self _ _ _ _ | (apply updF_i; · decide) | (apply updF_a; · first | assumption | (apply Ne.symm; assumption) | omega) | (apply newF_a; · first | assumption | (apply Ne.symm; assumption) | omega) | exact newL_self (by rfl) | exact newF_self (by rfl) | (apply cpyF_a; · first | assumption | (apply Ne.symm; assumption) | omega))) <;> first | assumption | rfl) ?_
        refine wa_aloadV_n (pc := 38) (y := mX1_pass) dX1_pass_38 rfl (by first | exact rf_s _ | exact rf_n | exact rf_q _) ?_
        refine wf_get (k := 0) (l := 9) 0 dX1_pass_39 (by assumption) rfl q1111 (Or.inl rfl) (Nat.le_of_ble_eq_true rfl) (Nat.le_of_ble_eq_true rfl) (by (repeat (first | exact updF_self _ _ _ _ | (apply updF_i; · decide) | (apply updF_a; · first | assumption | (apply Ne.symm; assumption) | omega) | (apply newF_a; · first | assumption | (apply Ne.symm; assumption) | omega) | exact newL_self (by rfl) | exact newF_self (by rfl) | (apply cpyF_a; · first | assumption | (apply Ne.symm; assumption) | omega))) <;> first | assumption | rfl) ?_
        refine wa_callV (pc := 42) (s_X4_keep (d := d - 1) (by omega) hG R.em R.ob R.pa R.sh R.sx R.is.lt) dX1_pass_42 okX4_keep q1764 q1765 q1766 (sF_at (by assumption)) rfl rfl rfl (Nat.le_of_ble_eq_true rfl) (Nat.le_of_ble_eq_true rfl) (by omega) ?_
        rintro r h' - - K
        obtain ⟨h3, F3, own3, C3, rfl, rfl, ext, hnone, cst, t, R3, c1, c2, c3, hx3, shw, csv, chs⟩ := R.keepR K
        refine aft_0 (pc2 := 45) ?_ rfl
        have ch3 : Ch 8060 h F own h3 F3 own3 := ⟨hnone, ext, cst, t⟩
        have j1 := R3.is; have j2 := R3.f0; have j4 := R3.sh.is; have j3 := R3.f2; have j5 := R3.pa.1
        obtain ⟨gf3, A3, h603, S3⟩ := id R3.sh
        have y0 := S3.f0; have y3 := S3.f3; have y2 := S3.f2; have yh := S3.hm; have yc := S3.cl.1; have yl := S3.fl.1; have y7 := S3.f7
        refine wa_aloadV_n (pc := 45) (y := mX1_pass) dX1_pass_45 rfl (by first | exact rf_s _ | exact rf_n | exact rf_q _) ?_
        refine wf_get (k := 0) (l := 9) 0 dX1_pass_46 (by assumption) rfl q1111 (Or.inl rfl) (Nat.le_of_ble_eq_true rfl) (Nat.le_of_ble_eq_true rfl) (by (repeat (first | exact updF_self _ _ _ _ | (apply updF_i; · decide) | (apply updF_a; · first | assumption | (apply Ne.symm; assumption) | omega) | (apply newF_a; · first | assumption | (apply Ne.symm; assumption) | omega) | exact newL_self (by rfl) | exact newF_self (by rfl) | (apply cpyF_a; · first | assumption | (apply Ne.symm; assumption) | omega))) <;> first | assumption | rfl) ?_
        refine wa_iload_n (pc := 49) (y := mX1_pass) dX1_pass_49 rfl ?_
        refine wa_callV (pc := 50) (s_X2_pass (d := d - 1) (n := m) (by omega) gf3.1 gf3.2.2 hv ⟨h603, S3⟩) dX1_pass_50 okX2_pass q2332 q2333 q2334 (sF_at (by assumption)) rfl rfl rfl (Nat.le_of_ble_eq_true rfl) (Nat.le_of_ble_eq_true rfl) (by omega) ?_
        rintro r h' - - (⟨e9, -⟩ | ⟨-, h4, F4, rfl, rfl, fr4, cst4, S4⟩)
        · exact absurd e9 hlt
        refine aft_v (pc2 := 53) ?_ rfl
        refine wa_ireturn (pc := 53) (y := mX1_pass) .int dX1_pass_53 rfl rfl ?_
        have t4 := OwT.ext (h2 := h4) R3.ob fr4.1.1 C3.s
        have R4 := R3.onS (f2 := tkN f m) fr4 t4 (R3.old t4 ⟨good_tkN gf3 m, A3, S4⟩)
        exact OpQ.val (ch3.trans (Ch.ofS fr4 cst4 t4)) (by omega) R4 (by rw [hO]) (by rw [hO]; exact wN_is gf3.1 gf3.2.2 m) (by rw [hO]) (by rw [hO]; exact SgE.chg1)
    refine wa_iload_n (pc := 0) (y := mX1_pass) dX1_pass_0 rfl ?_
    refine wa_iconst (pc := 1) (y := mX1_pass) (Int32.ofNat 0) dX1_pass_1 rfl ?_
    refine wa_sipush (pc := 2) (y := mX1_pass) (Int32.ofNat 6000) dX1_pass_2 rfl ?_
    refine wa_callS (pc := 5) (s_X1_isIn (d := d - 1)) dX1_pass_5 okX1_isIn q2020 q1692 rfl rfl (Nat.le_of_ble_eq_true rfl) (Nat.le_of_ble_eq_true rfl) (by omega) ?_
    rintro _ _ - - ⟨rfl, rfl⟩
    refine aft_v (pc2 := 8) ?_ rfl
    rw [show inb v (Int32.ofNat 0) (Int32.ofNat 6000) = true from hin2]
    refine wa_callS (pc := 8) (s_X1_checkArgument (d := d - 1) (b := true) (by omega)) dX1_pass_8 okX1_checkArgument q2038 q1699 rfl rfl (Nat.le_of_ble_eq_true rfl) (Nat.le_of_ble_eq_true rfl) (by omega) ?_
    rintro r h' - - (⟨-, rfl, rfl⟩ | ⟨hb, -⟩)
    rotate_left
    · cases hb
    refine aft_0 (pc2 := 11) ?_ rfl
    refine wa_aloadV_n (pc := 11) (y := mX1_pass) dX1_pass_11 rfl (by first | exact rf_s _ | exact rf_n | exact rf_q _) ?_
    refine wf_get (k := 0) (l := 9) 0 dX1_pass_12 (by assumption) rfl q1111 (Or.inl rfl) (Nat.le_of_ble_eq_true rfl) (Nat.le_of_ble_eq_true rfl) (by (repeat (first | exact updF_self _ _ _ _ | (apply updF_i; · decide) | (apply updF_a; · first | assumption | (apply Ne.symm; assumption) | omega) | (apply newF_a; · first | assumption | (apply Ne.symm; assumption) | omega) | exact newL_self (by rfl) | exact newF_self (by rfl) | (apply cpyF_a; · first | assumption | (apply Ne.symm; assumption) | omega))) <;> first | assumption | rfl) ?_
    refine wf_getN (k := 1) (l := 8) 7 dX1_pass_15 (by assumption) rfl q370 (Or.inl rfl) (Nat.le_of_ble_eq_true rfl) (Nat.le_of_ble_eq_true rfl) (by (repeat (first | exact updF_self _ _ _ _ | (apply updF_i; · decide) | (apply updF_a; · first | assumption | (apply Ne.symm; assumption) | omega) | (apply newF_a; · first | assumption | (apply Ne.symm; assumption) | omega) | exact newL_self (by rfl) | exact newF_self (by rfl) | (apply cpyF_a; · first | assumption | (apply Ne.symm; assumption) | omega))) <;> first | assumption | rfl) ?_
    refine wa_iload_n (pc := 18) (y := mX1_pass) dX1_pass_18 rfl ?_
    first | with_reducible refine wa_iaddN (pc := 19) (y := mX1_pass) dX1_pass_19 ?_ | refine wa_iadd (pc := 19) (y := mX1_pass) dX1_pass_19 ?_
    refine wa_ldcw (pc := 20) (y := mX1_pass) dX1_pass_20 q2330 ?_
    refine wa_icmp_gt (pc := 23) 30 dX1_pass_23 rfl (fun hb23 => ?_) (fun hb23 => ?_)
    · refine wa_iconst (pc := 30) (y := mX1_pass) (Int32.ofNat 0) dX1_pass_30 rfl ?_
      first | exact k31 true ⟨fun q => (by cases q), fun q => absurd q hb23⟩ | exact k31 false ⟨fun _ => hb23, fun _ => rfl⟩
    · refine wa_iconst (pc := 26) (y := mX1_pass) (Int32.ofNat 1) dX1_pass_26 rfl ?_
      refine wa_goto (pc := 27) (y := mX1_pass) 31 dX1_pass_27 rfl ?_
      first | exact k31 true ⟨fun q => (by cases q), fun q => absurd q hb23⟩ | exact k31 false ⟨fun _ => hb23, fun _ => rfl⟩
  · have hin2 := hin.trans (decide_eq_false hv)
    have hD : dPs f v = (1, f) := by unfold dPs; rw [if_pos hin2]
    have hO : O_pass f σ v = (1, 0, f, mV (mA σ 1 f) 7 (Int32.ofNat 1)) := by unfold O_pass; rw [hD]; rfl
    refine wa_iload_n (pc := 0) (y := mX1_pass) dX1_pass_0 rfl ?_
    refine wa_iconst (pc := 1) (y := mX1_pass) (Int32.ofNat 0) dX1_pass_1 rfl ?_
    refine wa_sipush (pc := 2) (y := mX1_pass) (Int32.ofNat 6000) dX1_pass_2 rfl ?_
    refine wa_callS (pc := 5) (s_X1_isIn (d := d - 1)) dX1_pass_5 okX1_isIn q2020 q1692 rfl rfl (Nat.le_of_ble_eq_true rfl) (Nat.le_of_ble_eq_true rfl) (by omega) ?_
    rintro _ _ - - ⟨rfl, rfl⟩
    refine aft_v (pc2 := 8) ?_ rfl
    rw [show inb v (Int32.ofNat 0) (Int32.ofNat 6000) = false from hin2]
    refine wa_callS (pc := 8) (s_X1_checkArgument (d := d - 1) (b := false) (by omega)) dX1_pass_8 okX1_checkArgument q2038 q1699 rfl rfl (Nat.le_of_ble_eq_true rfl) (Nat.le_of_ble_eq_true rfl) (by omega) ?_
    rintro r h' - - (⟨hb, -, -⟩ | ⟨-, T⟩)
    · cases hb
    exact T.after ⟨_, rfl⟩ rfl fun h3 F3 q fr cst iq => OpQ.thr ch (by omega) R fr cst iq (by rw [hO]; exact Nat.succ_ne_zero _) (by rw [hO]; try rfl) (by rw [hO]; try rfl) (by rw [hO]; exact SgE.a1)
end OPS3
