/-! ===== CueStack: removeCue, edit, set, release, unset (written by tools/gen9f.py) ===== -/
def EdQ (G : GG) (h : AH) (F : Nat → Nat → Value) (own : Nat → Option Nat) (x : Nat) (f : Nat → Int32) (σ : MS) (p c : Nat) (o : Option (Int32 × Int32)) (b : Bool) (r : RR) (h' : AH) : Prop :=
  ∃ (h2 : AH) (F2 : Nat → Nat → Value) (own2 : Nat → Option Nat) (C2 : CA), h' = sF h2 F2 ∧ Ch 30000 h F own h2 F2 own2 ∧ (edC f p c o b = 0 ∧ CompR G h2 F2 own2 x C2 (edR f p c o b) (chF σ f) ∧ r = .inl (some (.int (chN f (edR f p c o b) c (u (f 0))))) ∨ edC f p c o b ≠ 0 ∧ CompR G h2 F2 own2 x C2 f (mV σ 6 (Int32.ofNat (edC f p c o b))) ∧ ∃ q, r = .inr q ∧ Is h2 q 27 0)
section OPS6
variable {G : GG} {d n N : Nat} {h h2 h3 : AH} {F F2 F3 : Nat → Nat → Value} {own own2 own3 : Nat → Option Nat} {x s s1 s2 k i j m p q c a e kd : Nat} {C C2 : CA} {f f2 g : Nat → Int32} {σ σ2 : MS} {P O : Nat → Prop} {r : RR} {h' : AH} {A : SA} {v w z : Int32} {b : Bool} {ks : List Nat} {oo : OO} {t : Option Nat} {o : Option (Int32 × Int32)} {y l : Int32}
theorem ThQ.afterH {y : MD} {pc n : Nat} {ls st : List Value} {Q : RR → AH → Prop} (t : ThQ k h F r h') (hkk : ∃ q9 : vw_C, kl[k]? = some q9) (he : ∀ z ∈ tableOf y.2.2.2.2, covers z pc = false) (kk : ∀ (h2 : AH) (F2 : Nat → Nat → Value) (q : Nat), Fr NoP h F h2 F2 → Cst 2 h h2 → Is h2 q k 0 → Q (.inr q) (sF h2 F2)) : AFT G d y pc n ls st Q r h' := by
  obtain ⟨h2, F2, q, rfl, rfl, fr, cst, iq⟩ := t
  obtain ⟨q9, hq9⟩ := hkk
  exact wax_out (sF_at iq) hq9 (fun z hz => Or.inl (he z hz)) (kk h2 F2 q fr cst iq)
theorem TldO.fr (T : TldO h F t o) (fr : Fr P h F h2 F2) (hP : ∀ a, t = some a → ¬ P a) : TldO h2 F2 t o := by
  rcases T with e | ⟨a, e, h1, h9, u1, u2, u3⟩
  · exact Or.inl e
  · refine Or.inr ⟨a, e, h1, h9, u1, ?_⟩
    rcases u3 with ⟨v1, v2⟩ | ⟨v1, v2, v3⟩
    · exact ⟨(fr.at v2.lt (hP a h1) 0).trans u2, Or.inl ⟨v1, fr.is v2⟩⟩
    · exact ⟨(fr.at v2.lt (hP a h1) 0).trans u2, Or.inr ⟨v1, fr.is v2, (fr.at v2.lt (hP a h1) 1).trans v3⟩⟩
theorem ofN0 {k : Nat} (h : k ≤ 10) (e : k ≠ 0) : Int32.ofNat k ≠ 0 := fun q => e (by have := congrArg u q; rw [u_of (by omega)] at this; exact this)
theorem rmC_le : rmC f p b ≤ 10 := by
  unfold rmC
  split
  · decide
  · split <;> decide
theorem edC_le : edC f p c o b ≤ 10 := by
  unfold edC
  split
  · decide
  · split
    · decide
    · split <;> decide
theorem rmO_0 (gf : GoodF f) (hpl : pl f v = some p) (e : rmC f p b = 0) : ∃ σ2, O_removeCue f σ v b = (0, cntN f v (u (f 1)), (rmW f p b).2, σ2) ∧ SgE (chF σ f) σ2 := by
  obtain ⟨σ2, e2, sg, e3⟩ := (dRm_is (σ := mA σ 1 f) (b := b) gf.1 hpl (by simp [mA])).1 e
  have sg2 : SgE σ σ2 := SgE.trans (by refine ⟨?_, ?_, ?_, ?_, ?_, ?_, ?_, ?_⟩ <;> simp [mA]) sg
  refine ⟨chg (mV σ2 7 (Int32.ofNat 0)), ?_, SgE.chgE sg2 e3⟩
  unfold O_removeCue
  rw [e2]
  refine (if_neg (Nat.lt_irrefl 0)).trans ?_
  rw [rmg_smN]
theorem rmO_1 (gf : GoodF f) (hpl : pl f v = some p) (e : rmC f p b ≠ 0) : ∃ σ2, O_removeCue f σ v b = (2, 0, f, σ2) ∧ SgE (mV σ 6 (Int32.ofNat (rmC f p b))) σ2 := by
  obtain ⟨σ2, e2, sg⟩ := (dRm_is (σ := mA σ 1 f) (b := b) gf.1 hpl (by simp [mA])).2 e
  have sg2 : SgE σ σ2 := SgE.trans (by refine ⟨?_, ?_, ?_, ?_, ?_, ?_, ?_, ?_⟩ <;> simp [mA]) sg
  refine ⟨mV (mV σ2 6 (Int32.ofNat (rmC f p b))) 7 (Int32.ofNat 2), ?_, SgE.trans (SgE.m6 sg2) SgE.v7⟩
  unfold O_removeCue
  rw [e2]
  exact if_pos (Nat.succ_pos _)
/-- the handler of removeCue -/
theorem rc_38 {v3 v4 v6 : Value} (hd : 7 ≤ d) (ch : Ch N h F own h2 F2 own2) (hN : N ≤ 44000) (R : CompR G h2 F2 own2 x C f σ) (iq : Is h2 q 21 1) (vq : F2 q 0 = .int z) (oq : own2 q = some x) (hz : z ≠ 0) (hO : oo = (2, 0, f, σ2)) (hs : SgE (mV σ 6 z) σ2) (hv6 : v6.category = 1) : WA G d mX1_removeCue 38 [.ref x, .int v, .int (bI b), v3, v4, .ref s2, v6] [.ref q] (sF h2 F2) (OpQ G h F own x [25, 27] oo) := by
  have i1 := R.is
  refine wa_astoreV (pc := 38) (y := mX1_removeCue) dX1_removeCue_38 (Nat.le_of_ble_eq_true rfl) (by first | rfl | (simp [okst, rf_cat] <;> assumption)) (by first | exact rf_s _ | exact rf_n | exact rf_q _) ?_
  simp only [List.set_cons_zero, List.set_cons_succ]
  refine wa_aloadV_n (pc := 40) (y := mX1_removeCue) dX1_removeCue_40 rfl (by first | exact rf_s _ | exact rf_n | exact rf_q _) ?_
  refine wa_aloadV (pc := 41) (y := mX1_removeCue) dX1_removeCue_41 rfl (by first | exact rf_s _ | exact rf_n | exact rf_q _) ?_
  refine wa_callV (pc := 43) (s_X1_kept (d := d - 1) (by omega) R iq vq oq hz) dX1_removeCue_43 okX1_kept q1993 q1995 qs16 (sF_at (by assumption)) rfl rfl rfl (Nat.le_of_ble_eq_true rfl) (Nat.le_of_ble_eq_true rfl) (by omega) ?_
  rintro _ _ - - ⟨h3, F3, own3, C3, e, rfl, rfl, ch3, R3, ie⟩
  refine aft_v (pc2 := 46) ?_ rfl
  exact wa_athrow (pc := 46) (y := mX1_removeCue) dX1_removeCue_46 (wax_out (sF_at ie) rfl (fun z hz => Or.inl (by revert z hz; decide)) (OpQ.thr0 (ch.trans ch3) (by omega) R3 ie (by rw [hO]; exact Nat.succ_ne_zero _) (by rw [hO]; rfl) (by rw [hO]) (by rw [hO]; exact hs)))
theorem s_X1_removeCue (hd : 22 ≤ d) (hG : StG G) (R : CompR G h F own x C f σ) : MA G d mX1_removeCue [.ref x, .int v, .int (bI b)] (sF h F) (OpQ G h F own x [25, 27] (O_removeCue f σ v b)) := by
  have i1 := R.is
  have e0 := R.f0
  have e2 := R.f2
  have k1 := R.sh.is
  have p1 := R.pa.1
  obtain ⟨gf, A, h60, S⟩ := id R.sh
  have h12 := gf.1.1
  have x0 := S.f0
  have x2 := S.f2
  have x3 := S.f3
  have x7 := S.f7
  have xh := S.hm
  have xc := S.cl.1
  have xl := S.fl.1
  have ch := Ch.refl (F := F) R.ob
  change WA G d mX1_removeCue 0 [.ref x, .int v, .int (bI b), .retAddr 0, .retAddr 0, .retAddr 0, .retAddr 0] [] _ _
  cases hpl : pl f v with
  | none =>
    have hO : O_removeCue f σ v b = (1, 0, f, mV (mA σ 1 f) 7 (Int32.ofNat 1)) := by
      have hD : dRm f (mA σ 1 f) v b = (1, f, mA σ 1 f) := by unfold dRm; rw [hpl]
      unfold O_removeCue
      rw [hD]
      exact if_pos (Nat.succ_pos _)
    refine wa_aloadV_n (pc := 0) (y := mX1_removeCue) dX1_removeCue_0 rfl (by first | exact rf_s _ | exact rf_n | exact rf_q _) ?_
    refine wf_get (k := 0) (l := 9) 0 dX1_removeCue_1 (by assumption) rfl q1111 (Or.inl rfl) (Nat.le_of_ble_eq_true rfl) (Nat.le_of_ble_eq_true rfl) (by (repeat (first | exact updF_self _ _ _ _ | (apply updF_i; · decide) | (apply updF_a; · first | assumption | (apply Ne.symm; assumption) | omega) | (apply newF_a; · first | assumption | (apply Ne.symm; assumption) | omega) | exact newL_self (by rfl) | exact newF_self (by rfl) | (apply cpyF_a; · first | assumption | (apply Ne.symm; assumption) | omega))) <;> first | assumption | rfl) ?_
    refine wa_iload_n (pc := 4) (y := mX1_removeCue) dX1_removeCue_4 rfl ?_
    refine wa_callV (pc := 5) (s_X2_index (d := d - 1) (v := v) (by omega) S) dX1_removeCue_5 okX2_index q1829 q1830 q1831 (sF_at (by assumption)) rfl rfl rfl (Nat.le_of_ble_eq_true rfl) (Nat.le_of_ble_eq_true rfl) (by omega) ?_
    rintro r h' - - (⟨p, hp, -⟩ | ⟨-, T⟩)
    · rw [hpl] at hp; cases hp
    exact T.afterH ⟨_, rfl⟩ (by decide) fun h3 F3 q fr cst iq => OpQ.thr ch (by omega) R fr cst iq (by rw [hO]; exact Nat.succ_ne_zero _) (by rw [hO]; try rfl) (by rw [hO]; try rfl) (by rw [hO]; exact SgE.a1)
  | some p =>
    have hp := (pl_some hpl).1
    refine wa_aloadV_n (pc := 0) (y := mX1_removeCue) dX1_removeCue_0 rfl (by first | exact rf_s _ | exact rf_n | exact rf_q _) ?_
    refine wf_get (k := 0) (l := 9) 0 dX1_removeCue_1 (by assumption) rfl q1111 (Or.inl rfl) (Nat.le_of_ble_eq_true rfl) (Nat.le_of_ble_eq_true rfl) (by (repeat (first | exact updF_self _ _ _ _ | (apply updF_i; · decide) | (apply updF_a; · first | assumption | (apply Ne.symm; assumption) | omega) | (apply newF_a; · first | assumption | (apply Ne.symm; assumption) | omega) | exact newL_self (by rfl) | exact newF_self (by rfl) | (apply cpyF_a; · first | assumption | (apply Ne.symm; assumption) | omega))) <;> first | assumption | rfl) ?_
    refine wa_iload_n (pc := 4) (y := mX1_removeCue) dX1_removeCue_4 rfl ?_
    refine wa_callV (pc := 5) (s_X2_index (d := d - 1) (v := v) (by omega) S) dX1_removeCue_5 okX2_index q1829 q1830 q1831 (sF_at (by assumption)) rfl rfl rfl (Nat.le_of_ble_eq_true rfl) (Nat.le_of_ble_eq_true rfl) (by omega) ?_
    rintro r h' - - (⟨p3, hp3, rfl, rfl⟩ | ⟨hp3, -⟩)
    rotate_left
    · rw [hpl] at hp3; cases hp3
    rw [hpl] at hp3; cases hp3
    refine aft_v (pc2 := 8) ?_ rfl
    refine wa_istore_n (pc := 8) (y := mX1_removeCue) dX1_removeCue_8 (Nat.le_of_ble_eq_true rfl) (by first | rfl | (simp [okst, rf_cat] <;> assumption)) ?_
    change WA _ _ _ _ (List.set _ 3 _) _ _ _
    simp only [List.set_cons_zero, List.set_cons_succ]
    refine wa_aloadV_n (pc := 9) (y := mX1_removeCue) dX1_removeCue_9 rfl (by first | exact rf_s _ | exact rf_n | exact rf_q _) ?_
    refine wf_get (k := 0) (l := 9) 0 dX1_removeCue_10 (by assumption) rfl q1111 (Or.inl rfl) (Nat.le_of_ble_eq_true rfl) (Nat.le_of_ble_eq_true rfl) (by (repeat (first | exact updF_self _ _ _ _ | (apply updF_i; · decide) | (apply updF_a; · first | assumption | (apply Ne.symm; assumption) | omega) | (apply newF_a; · first | assumption | (apply Ne.symm; assumption) | omega) | exact newL_self (by rfl) | exact newF_self (by rfl) | (apply cpyF_a; · first | assumption | (apply Ne.symm; assumption) | omega))) <;> first | assumption | rfl) ?_
    refine wa_iload_n (pc := 13) (y := mX1_removeCue) dX1_removeCue_13 rfl ?_
    refine wa_callV (pc := 14) (s_X2_instructionsOf (d := d - 1) (v := v) (by omega) S) dX1_removeCue_14 okX2_instructionsOf q1841 q1842 q1843 (sF_at (by assumption)) rfl rfl rfl (Nat.le_of_ble_eq_true rfl) (Nat.le_of_ble_eq_true rfl) (by omega) ?_
    rintro _ _ - - ⟨h5, F5, rfl, rfl, fr5, cst5, S5⟩
    refine aft_v (pc2 := 17) ?_ rfl
    have t5 := OwT.ext (h2 := h5) R.ob fr5.1.1 C.s
    have R5 := R.onS fr5 t5 (ShowAt.new S5 R.ob fr5.1.1 gf (fun _ _ => rfl))
    have j1 := R5.is; have j2 := R5.f0; have j3 := R5.sh.is
    refine wa_istore (pc := 17) (y := mX1_removeCue) dX1_removeCue_17 (Nat.le_of_ble_eq_true rfl) (by first | rfl | (simp [okst, rf_cat] <;> assumption)) ?_
    simp only [List.set_cons_zero, List.set_cons_succ]
    refine wa_aloadV_n (pc := 19) (y := mX1_removeCue) dX1_removeCue_19 rfl (by first | exact rf_s _ | exact rf_n | exact rf_q _) ?_
    refine wf_get (k := 0) (l := 9) 0 dX1_removeCue_20 (by assumption) rfl q1111 (Or.inl rfl) (Nat.le_of_ble_eq_true rfl) (Nat.le_of_ble_eq_true rfl) (by (repeat (first | exact updF_self _ _ _ _ | (apply updF_i; · decide) | (apply updF_a; · first | assumption | (apply Ne.symm; assumption) | omega) | (apply newF_a; · first | assumption | (apply Ne.symm; assumption) | omega) | exact newL_self (by rfl) | exact newF_self (by rfl) | (apply cpyF_a; · first | assumption | (apply Ne.symm; assumption) | omega))) <;> first | assumption | rfl) ?_
    refine wa_callV (pc := 23) (s_X2_copyA (d := d - 1) (by omega) hG R5.em R5.ob R5.sh) dX1_removeCue_23 okX2_copy q1175 q1176 q1177 (sF_at (by assumption)) rfl rfl rfl (Nat.le_of_ble_eq_true rfl) (Nat.le_of_ble_eq_true rfl) (by omega) ?_
    rintro _ _ - - ⟨h2, F2, s2, own2, rfl, rfl, fr2, cst2, t2, S2, D2, hs2⟩
    refine aft_v (pc2 := 26) ?_ rfl
    have R2 := R5.onS fr2 t2 S2
    have ch2 := (Ch.ofS fr5 cst5 t5).trans (Ch.ofS fr2 cst2 t2)
    have k2 := D2.is
    have hlt : ∀ s, s ∈ C.hs ∨ C.sv = some s → s ≠ s2 := fun s hs => by have := R5.lts hs; omega
    have hne : s2 ≠ C.s := by have := j3.lt; omega
    have hsx : s2 ≠ x := by have := j1.lt; omega
    obtain ⟨gf2, A2, DA⟩ := id D2
    refine wa_astoreV (pc := 26) (y := mX1_removeCue) dX1_removeCue_26 (Nat.le_of_ble_eq_true rfl) (by first | rfl | (simp [okst, rf_cat] <;> assumption)) (by first | exact rf_s _ | exact rf_n | exact rf_q _) ?_
    simp only [List.set_cons_zero, List.set_cons_succ]
    refine wa_aloadV (pc := 28) (y := mX1_removeCue) dX1_removeCue_28 rfl (by first | exact rf_s _ | exact rf_n | exact rf_q _) ?_
    refine wa_iload_n (pc := 30) (y := mX1_removeCue) dX1_removeCue_30 rfl ?_
    refine wa_iload_n (pc := 31) (y := mX1_removeCue) dX1_removeCue_31 rfl ?_
    refine wa_callV (pc := 32) (s_X2_removeCue (d := d - 1) (v := v) (b := b) (by omega) hG gf2.1 gf2.2.1 DA.2 (fun b hb => R2.ob.lt hb)) dX1_removeCue_32 okX2_removeCue q1872 q1873 q1874 (sF_at (by assumption)) rfl rfl rfl (Nat.le_of_ble_eq_true rfl) (Nat.le_of_ble_eq_true rfl) (by omega) ?_
    rintro r h' - - (⟨e9, -⟩ | ⟨p9, hpl9, ⟨h0, h3, F3, A3, rfl, rfl, fr3, cst3, S3⟩ | ⟨h0, Q⟩⟩)
    · rw [hpl] at e9; cases e9
    rotate_left
    · rw [hpl] at hpl9; cases hpl9; obtain ⟨h4, F4, own4, q, rfl, rfl, ch4, R4, iq, vq, oq⟩ := R2.rfm Q hsx hne (fun q => hlt s2 q rfl)
      obtain ⟨σ2, hO, hs⟩ := rmO_1 (σ := σ) gf hpl h0
      exact wax_catch "CueStack$Refusal" [] (28, 35, 38, 16) [] (sF_at iq) rfl rfl (fun z hz => by cases hz) rfl (by decide) q1828 q1972 (rc_38 (by omega) (ch2.trans ch4) (by omega) R4 iq vq oq (ofN0 rmC_le h0) hO hs rfl)
    rw [hpl] at hpl9; cases hpl9
    refine aft_0 (pc2 := 35) ?_ rfl
    have t3 := OwT.ext (h2 := h3) R2.ob fr3.1.1 s2
    have R3 := R2.oth fr3 t3 hsx hne (fun q => hlt s2 q rfl)
    have D3 := ShowAt.new S3 R2.ob fr3.1.1 (rm_good gf hpl h0) (fun j hj => rmW_402 gf.1.1 h60 (rmC_60 h0) (by omega))
    have m1 := R3.is
    refine wa_goto (pc := 35) (y := mX1_removeCue) 47 dX1_removeCue_35 rfl ?_
    refine wa_aloadV_n (pc := 47) (y := mX1_removeCue) dX1_removeCue_47 rfl (by first | exact rf_s _ | exact rf_n | exact rf_q _) ?_
    refine wa_aloadV (pc := 48) (y := mX1_removeCue) dX1_removeCue_48 rfl (by first | exact rf_s _ | exact rf_n | exact rf_q _) ?_
    refine wa_callV (pc := 50) (s_X1_become (d := d - 1) (by omega) hG R3 D3 hne (fun q => hlt s2 q rfl)) dX1_removeCue_50 okX1_become q1760 q1762 qs12 (sF_at (by assumption)) rfl rfl rfl (Nat.le_of_ble_eq_true rfl) (Nat.le_of_ble_eq_true rfl) (by omega) ?_
    rintro _ _ - - ⟨h6, F6, own6, C6, rfl, rfl, ch6, R6, hC6⟩
    refine aft_0 (pc2 := 53) ?_ rfl
    refine wa_iload (pc := 53) (y := mX1_removeCue) dX1_removeCue_53 rfl ?_
    refine wa_ireturn (pc := 55) (y := mX1_removeCue) .int dX1_removeCue_55 rfl rfl ?_
    obtain ⟨σ2, hO, hs⟩ := rmO_0 (σ := σ) gf hpl h0
    exact OpQ.val ((ch2.trans (Ch.ofS fr3 cst3 t3)).trans ch6) (by omega) R6 (by rw [hO]) (by rw [hO]) (by rw [hO]) (by rw [hO]; exact hs)
/-- the handler of edit -/
theorem ed_22 {v6 v7 : Value} (hd : 7 ≤ d) (ch : Ch N h F own h2 F2 own2) (hN : N ≤ 29000) (R : CompR G h2 F2 own2 x C f σ) (iq : Is h2 q 21 1) (vq : F2 q 0 = .int (Int32.ofNat (edC f p c o b))) (oq : own2 q = some x) (hz : edC f p c o b ≠ 0) (hv6 : v6.category = 1) (hv7 : v7.category = 1) : WA G d mX1_edit 22 [.ref x, .int v, .int (Int32.ofNat c), va_rf t, .int (bI b), .ref s2, v6, v7] [.ref q] (sF h2 F2) (EdQ G h F own x f σ p c o b) := by
  have i1 := R.is
  refine wa_astoreV (pc := 22) (y := mX1_edit) dX1_edit_22 (Nat.le_of_ble_eq_true rfl) (by first | rfl | (simp [okst, rf_cat] <;> assumption)) (by first | exact rf_s _ | exact rf_n | exact rf_q _) ?_
  simp only [List.set_cons_zero, List.set_cons_succ]
  refine wa_aloadV_n (pc := 24) (y := mX1_edit) dX1_edit_24 rfl (by first | exact rf_s _ | exact rf_n | exact rf_q _) ?_
  refine wa_aloadV (pc := 25) (y := mX1_edit) dX1_edit_25 rfl (by first | exact rf_s _ | exact rf_n | exact rf_q _) ?_
  refine wa_callV (pc := 27) (s_X1_kept (d := d - 1) (by omega) R iq vq oq (ofN0 edC_le hz)) dX1_edit_27 okX1_kept q1993 q1995 qs16 (sF_at (by assumption)) rfl rfl rfl (Nat.le_of_ble_eq_true rfl) (Nat.le_of_ble_eq_true rfl) (by omega) ?_
  rintro _ _ - - ⟨h3, F3, own3, C3, e, rfl, rfl, ch3, R3, ie⟩
  refine aft_v (pc2 := 30) ?_ rfl
  exact wa_athrow (pc := 30) (y := mX1_edit) dX1_edit_30 (wax_out (sF_at ie) rfl (fun z hz => Or.inl (by revert z hz; decide)) ⟨h3, F3, own3, C3, rfl, (ch.trans ch3).mono (by omega), Or.inr ⟨hz, R3, e, rfl, ie⟩⟩)
/-- the counting of the changed levels -/
theorem ed_37 (hd : 21 ≤ d) (hG : StG G) (ch : Ch N h F own h3 F3 own3) (hN : N ≤ 12600) (R : CompR G h3 F3 own3 x C f σ) (D : ShowAt G h3 F3 own3 s2 (edR f p c o b)) (hne : s2 ≠ C.s) (hm : ¬ (s2 ∈ C.hs ∨ C.sv = some s2)) (hc : c < 12) (h0 : edC f p c o b = 0) : ∀ (m k : Nat) (h4 : AH) (F4 : Nat → Nat → Value), k + m = u (f 0) → Fr NoP h3 F3 h4 F4 → Cst (k * 30) h3 h4 →
    WA G d mX1_edit 37 [.ref x, .int v, .int (Int32.ofNat c), va_rf t, .int (bI b), .ref s2, .int (chN f (edR f p c o b) c k), .int (Int32.ofNat k)] [] (sF h4 F4) (EdQ G h F own x f σ p c o b) := by
  have hnlt := R.sh.1.1.1
  have e00 : edR f p c o b 0 = f 0 := edR_lo (by decide) (by decide)
  intro m
  induction m with
  | zero =>
    intro k h4 F4 hk fr cst
    have hk : k = u (f 0) := hk
    obtain ⟨own4, t4, R4⟩ := R.rd fr
    have D4 := R.old t4 (D.rd fr)
    have i1 := R4.is
    have e0 := R4.f0
    obtain ⟨gf4, A4, h604, S4⟩ := id R4.sh
    have x0 := S4.f0
    have x1 := S4.is
    have xc := S4.cl.1
    have hnc := S4.nc
    refine wa_iload (pc := 37) (y := mX1_edit) dX1_edit_37 rfl ?_
    refine wa_aloadV_n (pc := 39) (y := mX1_edit) dX1_edit_39 rfl (by first | exact rf_s _ | exact rf_n | exact rf_q _) ?_
    refine wf_get (k := 0) (l := 9) 0 dX1_edit_40 (by assumption) rfl q1111 (Or.inl rfl) (Nat.le_of_ble_eq_true rfl) (Nat.le_of_ble_eq_true rfl) (by (repeat (first | exact updF_self _ _ _ _ | (apply updF_i; · decide) | (apply updF_a; · first | assumption | (apply Ne.symm; assumption) | omega) | (apply newF_a; · first | assumption | (apply Ne.symm; assumption) | omega) | exact newL_self (by rfl) | exact newF_self (by rfl) | (apply cpyF_a; · first | assumption | (apply Ne.symm; assumption) | omega))) <;> first | assumption | rfl) ?_
    refine wf_getN (k := 1) (l := 8) 0 dX1_edit_43 (by assumption) rfl q356 (Or.inl rfl) (Nat.le_of_ble_eq_true rfl) (Nat.le_of_ble_eq_true rfl) (by (repeat (first | exact updF_self _ _ _ _ | (apply updF_i; · decide) | (apply updF_a; · first | assumption | (apply Ne.symm; assumption) | omega) | (apply newF_a; · first | assumption | (apply Ne.symm; assumption) | omega) | exact newL_self (by rfl) | exact newF_self (by rfl) | (apply cpyF_a; · first | assumption | (apply Ne.symm; assumption) | omega))) <;> first | assumption | rfl) ?_
    refine wa_callV (pc := 46) (s_J2_size (d := d - 1) S4.cl) dX1_edit_46 okJ2_size q1144 q1145 q1146 (sF_at (by assumption)) rfl rfl rfl (Nat.le_of_ble_eq_true rfl) (Nat.le_of_ble_eq_true rfl) (by omega) ?_
    rintro _ _ - - ⟨rfl, rfl⟩
    refine aft_v (pc2 := 49) ?_ rfl
    refine wa_icmp_ge (pc := 49) 89 dX1_edit_49 rfl (fun hb49 => ?_) (fun hb49 => absurd ((iN_le (by omega) (by omega)).mpr (by omega)) hb49)
    refine wa_aloadV_n (pc := 89) (y := mX1_edit) dX1_edit_89 rfl (by first | exact rf_s _ | exact rf_n | exact rf_q _) ?_
    refine wa_aloadV (pc := 90) (y := mX1_edit) dX1_edit_90 rfl (by first | exact rf_s _ | exact rf_n | exact rf_q _) ?_
    refine wa_callV (pc := 92) (s_X1_become (d := d - 1) (by omega) hG R4 D4 hne hm) dX1_edit_92 okX1_become q1760 q1762 qs12 (sF_at (by assumption)) rfl rfl rfl (Nat.le_of_ble_eq_true rfl) (Nat.le_of_ble_eq_true rfl) (by omega) ?_
    rintro _ _ - - ⟨h5, F5, own5, C5, rfl, rfl, ch5, R5, hC5⟩
    refine aft_0 (pc2 := 95) ?_ rfl
    refine wa_iload (pc := 95) (y := mX1_edit) dX1_edit_95 rfl ?_
    refine wa_ireturn (pc := 97) (y := mX1_edit) .int dX1_edit_97 rfl rfl ⟨h5, F5, own5, C5, rfl, ((ch.trans (Ch.rd fr cst t4)).trans ch5).mono (by omega), Or.inl ⟨h0, R5, by rw [← hk]⟩⟩
  | succ m ih =>
    intro k h4 F4 hk fr cst
    obtain ⟨own4, t4, R4⟩ := R.rd fr
    have D4 := R.old t4 (D.rd fr)
    have i1 := R4.is
    have e0 := R4.f0
    obtain ⟨gf4, A4, h604, S4⟩ := id R4.sh
    have x0 := S4.f0
    have x1 := S4.is
    have xc := S4.cl.1
    have hnc := S4.nc
    refine wa_iload (pc := 37) (y := mX1_edit) dX1_edit_37 rfl ?_
    refine wa_aloadV_n (pc := 39) (y := mX1_edit) dX1_edit_39 rfl (by first | exact rf_s _ | exact rf_n | exact rf_q _) ?_
    refine wf_get (k := 0) (l := 9) 0 dX1_edit_40 (by assumption) rfl q1111 (Or.inl rfl) (Nat.le_of_ble_eq_true rfl) (Nat.le_of_ble_eq_true rfl) (by (repeat (first | exact updF_self _ _ _ _ | (apply updF_i; · decide) | (apply updF_a; · first | assumption | (apply Ne.symm; assumption) | omega) | (apply newF_a; · first | assumption | (apply Ne.symm; assumption) | omega) | exact newL_self (by rfl) | exact newF_self (by rfl) | (apply cpyF_a; · first | assumption | (apply Ne.symm; assumption) | omega))) <;> first | assumption | rfl) ?_
    refine wf_getN (k := 1) (l := 8) 0 dX1_edit_43 (by assumption) rfl q356 (Or.inl rfl) (Nat.le_of_ble_eq_true rfl) (Nat.le_of_ble_eq_true rfl) (by (repeat (first | exact updF_self _ _ _ _ | (apply updF_i; · decide) | (apply updF_a; · first | assumption | (apply Ne.symm; assumption) | omega) | (apply newF_a; · first | assumption | (apply Ne.symm; assumption) | omega) | exact newL_self (by rfl) | exact newF_self (by rfl) | (apply cpyF_a; · first | assumption | (apply Ne.symm; assumption) | omega))) <;> first | assumption | rfl) ?_
    refine wa_callV (pc := 46) (s_J2_size (d := d - 1) S4.cl) dX1_edit_46 okJ2_size q1144 q1145 q1146 (sF_at (by assumption)) rfl rfl rfl (Nat.le_of_ble_eq_true rfl) (Nat.le_of_ble_eq_true rfl) (by omega) ?_
    rintro _ _ - - ⟨rfl, rfl⟩
    refine aft_v (pc2 := 49) ?_ rfl
    refine wa_icmp_ge (pc := 49) 89 dX1_edit_49 rfl (fun hb49 => absurd ((iN_le (by omega) (by omega)).mp hb49) (by omega)) (fun hb49 => ?_)
    refine wa_iload (pc := 52) (y := mX1_edit) dX1_edit_52 rfl ?_
    refine wa_aloadV_n (pc := 54) (y := mX1_edit) dX1_edit_54 rfl (by first | exact rf_s _ | exact rf_n | exact rf_q _) ?_
    refine wf_get (k := 0) (l := 9) 0 dX1_edit_55 (by assumption) rfl q1111 (Or.inl rfl) (Nat.le_of_ble_eq_true rfl) (Nat.le_of_ble_eq_true rfl) (by (repeat (first | exact updF_self _ _ _ _ | (apply updF_i; · decide) | (apply updF_a; · first | assumption | (apply Ne.symm; assumption) | omega) | (apply newF_a; · first | assumption | (apply Ne.symm; assumption) | omega) | exact newL_self (by rfl) | exact newF_self (by rfl) | (apply cpyF_a; · first | assumption | (apply Ne.symm; assumption) | omega))) <;> first | assumption | rfl) ?_
    refine wa_iload (pc := 58) (y := mX1_edit) dX1_edit_58 rfl ?_
    refine wa_iload_n (pc := 60) (y := mX1_edit) dX1_edit_60 rfl ?_
    refine wa_callV (pc := 61) (s_X2_level (d := d - 1) (k := k) (c := c) (by omega) S4 (by omega) hc) dX1_edit_61 okX2_level q406 q407 q408 (sF_at (by assumption)) rfl rfl rfl (Nat.le_of_ble_eq_true rfl) (Nat.le_of_ble_eq_true rfl) (by omega) ?_
    rintro _ _ - - ⟨h5, F5, rfl, rfl, fr5, cst5⟩
    refine aft_v (pc2 := 64) ?_ rfl
    obtain ⟨gf5, A5, h605, S5⟩ := D4.rd fr5
    have y1 := S5.is
    refine wa_aloadV (pc := 64) (y := mX1_edit) dX1_edit_64 rfl (by first | exact rf_s _ | exact rf_n | exact rf_q _) ?_
    refine wa_iload (pc := 66) (y := mX1_edit) dX1_edit_66 rfl ?_
    refine wa_iload_n (pc := 68) (y := mX1_edit) dX1_edit_68 rfl ?_
    refine wa_callV (pc := 69) (s_X2_level (d := d - 1) (k := k) (c := c) (by omega) S5 (by rw [e00]; omega) hc) dX1_edit_69 okX2_level q406 q407 q408 (sF_at (by assumption)) rfl rfl rfl (Nat.le_of_ble_eq_true rfl) (Nat.le_of_ble_eq_true rfl) (by omega) ?_
    rintro _ _ - - ⟨h6, F6, rfl, rfl, fr6, cst6⟩
    refine aft_v (pc2 := 72) ?_ rfl
    have fr7 : Fr NoP h3 F3 h6 F6 := fr.trans (fr5.trans fr6 fun _ _ q => q) fun _ _ q => q
    have cst7 : Cst ((k + 1) * 30) h3 h6 := (cst.trans (cst5.trans cst6)).mono (by omega)
    refine wa_icmp_eq (pc := 72) 79 dX1_edit_72 rfl (fun hb72 => ?_) (fun hb72 => ?_)
    · have e9 : chN f (edR f p c o b) c (k + 1) = chN f (edR f p c o b) c k + 0 := by show _ + (if _ then _ else _) = _; rw [if_neg (fun q => q hb72)]
      refine wa_iconst (pc := 79) (y := mX1_edit) (Int32.ofNat 0) dX1_edit_79 rfl ?_
      first | with_reducible refine wa_iaddN (pc := 80) (y := mX1_edit) dX1_edit_80 ?_ | refine wa_iadd (pc := 80) (y := mX1_edit) dX1_edit_80 ?_
      refine wa_istore (pc := 81) (y := mX1_edit) dX1_edit_81 (Nat.le_of_ble_eq_true rfl) (by first | rfl | (simp [okst, rf_cat] <;> assumption)) ?_
      simp only [List.set_cons_zero, List.set_cons_succ]
      refine wa_iincN (pc := 83) (y := mX1_edit) dX1_edit_83 rfl (Nat.le_of_ble_eq_true rfl) (by first | rfl | (simp [okst, rf_cat] <;> assumption)) ?_
      simp only [List.set_cons_zero, List.set_cons_succ]
      refine wa_goto (pc := 86) (y := mX1_edit) 37 dX1_edit_86 rfl ?_
      have := ih (k + 1) h6 F6 (by omega) fr7 cst7; rw [e9] at this; exact this
    · have e9 : chN f (edR f p c o b) c (k + 1) = chN f (edR f p c o b) c k + 1 := by show _ + (if _ then _ else _) = _; rw [if_pos hb72]
      refine wa_iconst (pc := 75) (y := mX1_edit) (Int32.ofNat 1) dX1_edit_75 rfl ?_
      refine wa_goto (pc := 76) (y := mX1_edit) 80 dX1_edit_76 rfl ?_
      first | with_reducible refine wa_iaddN (pc := 80) (y := mX1_edit) dX1_edit_80 ?_ | refine wa_iadd (pc := 80) (y := mX1_edit) dX1_edit_80 ?_
      refine wa_istore (pc := 81) (y := mX1_edit) dX1_edit_81 (Nat.le_of_ble_eq_true rfl) (by first | rfl | (simp [okst, rf_cat] <;> assumption)) ?_
      simp only [List.set_cons_zero, List.set_cons_succ]
      refine wa_iincN (pc := 83) (y := mX1_edit) dX1_edit_83 rfl (Nat.le_of_ble_eq_true rfl) (by first | rfl | (simp [okst, rf_cat] <;> assumption)) ?_
      simp only [List.set_cons_zero, List.set_cons_succ]
      refine wa_goto (pc := 86) (y := mX1_edit) 37 dX1_edit_86 rfl ?_
      have := ih (k + 1) h6 F6 (by omega) fr7 cst7; rw [e9] at this; exact this
theorem s_X1_edit (hd : 21 ≤ d) (hG : StG G) (R : CompR G h F own x C f σ) (hpl : pl f v = some p) (hc : c < 12) (T : TldO h F t o) (hT : ∀ a, t = some a → own a = some x) (hq : ∀ x, o = some x → u x.2 < 4) : MA G d mX1_edit [.ref x, .int v, .int (Int32.ofNat c), va_rf t, .int (bI b)] (sF h F) (EdQ G h F own x f σ p c o b) := by
  have i1 := R.is
  have e0 := R.f0
  have e2 := R.f2
  have k1 := R.sh.is
  have p1 := R.pa.1
  obtain ⟨gf, A, h60, S⟩ := id R.sh
  have h12 := gf.1.1
  have x0 := S.f0
  have x2 := S.f2
  have x3 := S.f3
  have x7 := S.f7
  have xh := S.hm
  have xc := S.cl.1
  have xl := S.fl.1
  have ch := Ch.refl (F := F) R.ob
  have hp := (pl_some hpl).1
  rcases t with _ | a
  · change WA G d mX1_edit 0 [.ref x, .int v, .int (Int32.ofNat c), .null, .int (bI b), .retAddr 0, .retAddr 0, .retAddr 0] [] _ _
    refine wa_aloadV_n (pc := 0) (y := mX1_edit) dX1_edit_0 rfl (by first | exact rf_s _ | exact rf_n | exact rf_q _) ?_
    refine wf_get (k := 0) (l := 9) 0 dX1_edit_1 (by assumption) rfl q1111 (Or.inl rfl) (Nat.le_of_ble_eq_true rfl) (Nat.le_of_ble_eq_true rfl) (by (repeat (first | exact updF_self _ _ _ _ | (apply updF_i; · decide) | (apply updF_a; · first | assumption | (apply Ne.symm; assumption) | omega) | (apply newF_a; · first | assumption | (apply Ne.symm; assumption) | omega) | exact newL_self (by rfl) | exact newF_self (by rfl) | (apply cpyF_a; · first | assumption | (apply Ne.symm; assumption) | omega))) <;> first | assumption | rfl) ?_
    refine wa_callV (pc := 4) (s_X2_copyA (d := d - 1) (by omega) hG R.em R.ob R.sh) dX1_edit_4 okX2_copy q1175 q1176 q1177 (sF_at (by assumption)) rfl rfl rfl (Nat.le_of_ble_eq_true rfl) (Nat.le_of_ble_eq_true rfl) (by omega) ?_
    rintro _ _ - - ⟨h2, F2, s2, own2, rfl, rfl, fr2, cst2, t2, S2, D2, hs2⟩
    refine aft_v (pc2 := 7) ?_ rfl
    have R2 := R.onS fr2 t2 S2
    have ch2 := Ch.ofS fr2 cst2 t2
    have k2 := D2.is
    have hlt : ∀ s, s ∈ C.hs ∨ C.sv = some s → s ≠ s2 := fun s hs => by have := R.lts hs; omega
    have hne : s2 ≠ C.s := by have := k1.lt; omega
    have hsx : s2 ≠ x := by have := i1.lt; omega
    obtain ⟨gf2, A2, DA⟩ := id D2
    have T2 := T.fr fr2 (fun a ha q => R.sx (Option.some.inj (q.1.symm.trans (hT a ha))))
    refine wa_astoreV (pc := 7) (y := mX1_edit) dX1_edit_7 (Nat.le_of_ble_eq_true rfl) (by first | rfl | (simp [okst, rf_cat] <;> assumption)) (by first | exact rf_s _ | exact rf_n | exact rf_q _) ?_
    simp only [List.set_cons_zero, List.set_cons_succ]
    refine wa_aloadV (pc := 9) (y := mX1_edit) dX1_edit_9 rfl (by first | exact rf_s _ | exact rf_n | exact rf_q _) ?_
    refine wa_iload_n (pc := 11) (y := mX1_edit) dX1_edit_11 rfl ?_
    refine wa_iload_n (pc := 12) (y := mX1_edit) dX1_edit_12 rfl ?_
    refine wa_aloadV_n (pc := 13) (y := mX1_edit) dX1_edit_13 rfl (by first | exact rf_s _ | exact rf_n | exact rf_q _) ?_
    refine wa_iload (pc := 14) (y := mX1_edit) dX1_edit_14 rfl ?_
    refine wa_callV (pc := 16) (show MA G (d - 1) mX2_edit [.ref s2, .int v, .int (Int32.ofNat c), .null, .int (bI b)] (sF h2 F2) _ from s_X2_edit (d := d - 1) (v := v) (c := c) (t := none) (o := o) (b := b) (by omega) hG gf2.1 gf2.2.1 hc DA.2 (fun b hb => R2.ob.lt hb) T2) dX1_edit_16 okX2_edit q2142 q2143 q2144 (sF_at (by assumption)) rfl rfl rfl (Nat.le_of_ble_eq_true rfl) (Nat.le_of_ble_eq_true rfl) (by omega) ?_
    rintro r h' - - (⟨e9, -⟩ | ⟨p9, hpl9, ⟨h0, h3, F3, ns3, ks3, rfl, rfl, fr3, cst3, S3⟩ | ⟨h0, Q⟩⟩)
    · rw [hpl] at e9; cases e9
    rotate_left
    · rw [hpl] at hpl9; cases hpl9; obtain ⟨h4, F4, own4, q, rfl, rfl, ch4, R4, iq, vq, oq⟩ := R2.rfm Q hsx hne (fun q => hlt s2 q rfl)
      exact wax_catch "CueStack$Refusal" [] (9, 19, 22, 16) [] (sF_at iq) rfl rfl (fun z hz => by cases hz) rfl (by decide) q1828 q1972 (ed_22 (t := none) (by omega) (ch2.trans ch4) (by omega) R4 iq vq oq h0 rfl rfl)
    rw [hpl] at hpl9; cases hpl9
    refine aft_0 (pc2 := 19) ?_ rfl
    refine wa_goto (pc := 19) (y := mX1_edit) 31 dX1_edit_19 rfl ?_
    refine wa_iconst (pc := 31) (y := mX1_edit) (Int32.ofNat 0) dX1_edit_31 rfl ?_
    refine wa_istore (pc := 32) (y := mX1_edit) dX1_edit_32 (Nat.le_of_ble_eq_true rfl) (by first | rfl | (simp [okst, rf_cat] <;> assumption)) ?_
    simp only [List.set_cons_zero, List.set_cons_succ]
    refine wa_iconst (pc := 34) (y := mX1_edit) (Int32.ofNat 0) dX1_edit_34 rfl ?_
    refine wa_istore (pc := 35) (y := mX1_edit) dX1_edit_35 (Nat.le_of_ble_eq_true rfl) (by first | rfl | (simp [okst, rf_cat] <;> assumption)) ?_
    simp only [List.set_cons_zero, List.set_cons_succ]
    have t3 := OwT.ext (h2 := h3) R2.ob fr3.1.1 s2
    have R3 := R2.oth fr3 t3 hsx hne (fun q => hlt s2 q rfl)
    have D3 := ShowAt.new S3 R2.ob fr3.1.1 (ed_good gf hp hc h0 hq) (fun j hj => edR_402 h60 (edC_60 h0).1 (by omega))
    exact ed_37 (t := none) hd hG (ch2.trans (Ch.ofS fr3 cst3 t3)) (by omega) R3 D3 hne (fun q => hlt s2 q rfl) hc h0 (u (f 0)) 0 h3 F3 (by omega) Fr.refl (Cst.refl.mono (Nat.zero_le _))
  · change WA G d mX1_edit 0 [.ref x, .int v, .int (Int32.ofNat c), .ref a, .int (bI b), .retAddr 0, .retAddr 0, .retAddr 0] [] _ _
    refine wa_aloadV_n (pc := 0) (y := mX1_edit) dX1_edit_0 rfl (by first | exact rf_s _ | exact rf_n | exact rf_q _) ?_
    refine wf_get (k := 0) (l := 9) 0 dX1_edit_1 (by assumption) rfl q1111 (Or.inl rfl) (Nat.le_of_ble_eq_true rfl) (Nat.le_of_ble_eq_true rfl) (by (repeat (first | exact updF_self _ _ _ _ | (apply updF_i; · decide) | (apply updF_a; · first | assumption | (apply Ne.symm; assumption) | omega) | (apply newF_a; · first | assumption | (apply Ne.symm; assumption) | omega) | exact newL_self (by rfl) | exact newF_self (by rfl) | (apply cpyF_a; · first | assumption | (apply Ne.symm; assumption) | omega))) <;> first | assumption | rfl) ?_
    refine wa_callV (pc := 4) (s_X2_copyA (d := d - 1) (by omega) hG R.em R.ob R.sh) dX1_edit_4 okX2_copy q1175 q1176 q1177 (sF_at (by assumption)) rfl rfl rfl (Nat.le_of_ble_eq_true rfl) (Nat.le_of_ble_eq_true rfl) (by omega) ?_
    rintro _ _ - - ⟨h2, F2, s2, own2, rfl, rfl, fr2, cst2, t2, S2, D2, hs2⟩
    refine aft_v (pc2 := 7) ?_ rfl
    have R2 := R.onS fr2 t2 S2
    have ch2 := Ch.ofS fr2 cst2 t2
    have k2 := D2.is
    have hlt : ∀ s, s ∈ C.hs ∨ C.sv = some s → s ≠ s2 := fun s hs => by have := R.lts hs; omega
    have hne : s2 ≠ C.s := by have := k1.lt; omega
    have hsx : s2 ≠ x := by have := i1.lt; omega
    obtain ⟨gf2, A2, DA⟩ := id D2
    have T2 := T.fr fr2 (fun a ha q => R.sx (Option.some.inj (q.1.symm.trans (hT a ha))))
    refine wa_astoreV (pc := 7) (y := mX1_edit) dX1_edit_7 (Nat.le_of_ble_eq_true rfl) (by first | rfl | (simp [okst, rf_cat] <;> assumption)) (by first | exact rf_s _ | exact rf_n | exact rf_q _) ?_
    simp only [List.set_cons_zero, List.set_cons_succ]
    refine wa_aloadV (pc := 9) (y := mX1_edit) dX1_edit_9 rfl (by first | exact rf_s _ | exact rf_n | exact rf_q _) ?_
    refine wa_iload_n (pc := 11) (y := mX1_edit) dX1_edit_11 rfl ?_
    refine wa_iload_n (pc := 12) (y := mX1_edit) dX1_edit_12 rfl ?_
    refine wa_aloadV_n (pc := 13) (y := mX1_edit) dX1_edit_13 rfl (by first | exact rf_s _ | exact rf_n | exact rf_q _) ?_
    refine wa_iload (pc := 14) (y := mX1_edit) dX1_edit_14 rfl ?_
    refine wa_callV (pc := 16) (show MA G (d - 1) mX2_edit [.ref s2, .int v, .int (Int32.ofNat c), .ref a, .int (bI b)] (sF h2 F2) _ from s_X2_edit (d := d - 1) (v := v) (c := c) (t := (some a)) (o := o) (b := b) (by omega) hG gf2.1 gf2.2.1 hc DA.2 (fun b hb => R2.ob.lt hb) T2) dX1_edit_16 okX2_edit q2142 q2143 q2144 (sF_at (by assumption)) rfl rfl rfl (Nat.le_of_ble_eq_true rfl) (Nat.le_of_ble_eq_true rfl) (by omega) ?_
    rintro r h' - - (⟨e9, -⟩ | ⟨p9, hpl9, ⟨h0, h3, F3, ns3, ks3, rfl, rfl, fr3, cst3, S3⟩ | ⟨h0, Q⟩⟩)
    · rw [hpl] at e9; cases e9
    rotate_left
    · rw [hpl] at hpl9; cases hpl9; obtain ⟨h4, F4, own4, q, rfl, rfl, ch4, R4, iq, vq, oq⟩ := R2.rfm Q hsx hne (fun q => hlt s2 q rfl)
      exact wax_catch "CueStack$Refusal" [] (9, 19, 22, 16) [] (sF_at iq) rfl rfl (fun z hz => by cases hz) rfl (by decide) q1828 q1972 (ed_22 (t := (some a)) (by omega) (ch2.trans ch4) (by omega) R4 iq vq oq h0 rfl rfl)
    rw [hpl] at hpl9; cases hpl9
    refine aft_0 (pc2 := 19) ?_ rfl
    refine wa_goto (pc := 19) (y := mX1_edit) 31 dX1_edit_19 rfl ?_
    refine wa_iconst (pc := 31) (y := mX1_edit) (Int32.ofNat 0) dX1_edit_31 rfl ?_
    refine wa_istore (pc := 32) (y := mX1_edit) dX1_edit_32 (Nat.le_of_ble_eq_true rfl) (by first | rfl | (simp [okst, rf_cat] <;> assumption)) ?_
    simp only [List.set_cons_zero, List.set_cons_succ]
    refine wa_iconst (pc := 34) (y := mX1_edit) (Int32.ofNat 0) dX1_edit_34 rfl ?_
    refine wa_istore (pc := 35) (y := mX1_edit) dX1_edit_35 (Nat.le_of_ble_eq_true rfl) (by first | rfl | (simp [okst, rf_cat] <;> assumption)) ?_
    simp only [List.set_cons_zero, List.set_cons_succ]
    have t3 := OwT.ext (h2 := h3) R2.ob fr3.1.1 s2
    have R3 := R2.oth fr3 t3 hsx hne (fun q => hlt s2 q rfl)
    have D3 := ShowAt.new S3 R2.ob fr3.1.1 (ed_good gf hp hc h0 hq) (fun j hj => edR_402 h60 (edC_60 h0).1 (by omega))
    exact ed_37 (t := (some a)) hd hG (ch2.trans (Ch.ofS fr3 cst3 t3)) (by omega) R3 D3 hne (fun q => hlt s2 q rfl) hc h0 (u (f 0)) 0 h3 F3 (by omega) Fr.refl (Cst.refl.mono (Nat.zero_le _))
theorem CompR.rdE (R : CompR G h F own x C f σ) (fr : Fr NoP h F h2 F2) : ∃ own2, OwT own own2 h h2 ∧ CompR G h2 F2 own2 x C f σ ∧ ∀ b, h.1 ≤ b → b < h2.1 → own2 b = some x := by
  have t := OwT.ext R.ob fr.1.1 (h2 := h2) x
  exact ⟨_, t, R.gen fr (fun _ _ q => q) (fun _ _ _ _ q => q) (fun _ _ q => q) t ((R.sh.rd fr).ow fun b hb e => by
    by_cases e9 : b < h.1
    · exact (t.2.1 b e9).trans e
    · rw [R.ob b (by omega)] at e; cases e), fun b h1 h3 => (if_neg (by omega)).trans (if_pos h3)⟩
theorem s_X1_set (hd : 23 ≤ d) (hG : StG G) (R : CompR G h F own x C f σ) : MA G d mX1_set [.ref x, .int v, .int w, .int z, .int y, .int (bI b)] (sF h F) (OpQ G h F own x [25, 23, 27] (O_set f σ v w z y b)) := by
  have i1 := R.is
  have e0 := R.f0
  have e2 := R.f2
  have k1 := R.sh.is
  have p1 := R.pa.1
  obtain ⟨gf, A, h60, S⟩ := id R.sh
  have h12 := gf.1.1
  have x0 := S.f0
  have x2 := S.f2
  have x3 := S.f3
  have x7 := S.f7
  have xh := S.hm
  have xc := S.cl.1
  have xl := S.fl.1
  have ch := Ch.refl (F := F) R.ob
  have hin : inb z 0 100 = decide (u z ≤ 100) := inb_le (n := 100) (by decide)
  change WA G d mX1_set 0 [.ref x, .int v, .int w, .int z, .int y, .int (bI b), .retAddr 0] [] _ _
  cases hpl : pl f v with
  | none =>
    have hO : O_set f σ v w z y b = oX f σ 1 := by unfold O_set; rw [hpl]
    refine wa_aloadV_n (pc := 0) (y := mX1_set) dX1_set_0 rfl (by first | exact rf_s _ | exact rf_n | exact rf_q _) ?_
    refine wf_get (k := 0) (l := 9) 0 dX1_set_1 (by assumption) rfl q1111 (Or.inl rfl) (Nat.le_of_ble_eq_true rfl) (Nat.le_of_ble_eq_true rfl) (by (repeat (first | exact updF_self _ _ _ _ | (apply updF_i; · decide) | (apply updF_a; · first | assumption | (apply Ne.symm; assumption) | omega) | (apply newF_a; · first | assumption | (apply Ne.symm; assumption) | omega) | exact newL_self (by rfl) | exact newF_self (by rfl) | (apply cpyF_a; · first | assumption | (apply Ne.symm; assumption) | omega))) <;> first | assumption | rfl) ?_
    refine wa_iload_n (pc := 4) (y := mX1_set) dX1_set_4 rfl ?_
    refine wa_callV (pc := 5) (s_X2_index (d := d - 1) (v := v) (by omega) S) dX1_set_5 okX2_index q1829 q1830 q1831 (sF_at (by assumption)) rfl rfl rfl (Nat.le_of_ble_eq_true rfl) (Nat.le_of_ble_eq_true rfl) (by omega) ?_
    rintro r h' - - (⟨p, hp, -⟩ | ⟨-, T⟩)
    · rw [hpl] at hp; cases hp
    exact T.after ⟨_, rfl⟩ rfl fun h3 F3 q fr cst iq => OpQ.thr ch (by omega) R fr cst iq (by rw [hO]; exact Nat.succ_ne_zero _) (by rw [hO]; rfl) (by rw [hO]; rfl) (by rw [hO]; exact SgE.v7)
  | some p =>
    have hp := (pl_some hpl).1
    have hcue := (pl_some hpl).2
    have hO0 : O_set f σ v w z y b = if ¬ u w < 12 then oX f σ 1 else if ¬ u y < 4 then oX f σ 1 else if ¬ u z ≤ 100 then oX f σ 2 else oG f σ (u w) 3 (dGi f (mA (mV σ 7 (Int32.ofNat 0)) 1 f) v p (u w) z y b) := by unfold O_set; rw [hpl]
    by_cases hw : u w < 12
    · by_cases hy : u y < 4
      · by_cases hz : u z ≤ 100
        · have hO1 := (((hO0.trans (if_neg (Decidable.not_not.mpr hw))).trans (if_neg (Decidable.not_not.mpr hy))).trans (if_neg (Decidable.not_not.mpr hz)))
          obtain ⟨m, hmv⟩ : ∃ m, u w = m := ⟨_, rfl⟩
          have ev : w = Int32.ofNat m := by rw [← hmv]; exact (u_self w).symm
          rw [hmv] at hO1
          have hm : m < 12 := by omega
          subst ev
          refine wa_aloadV_n (pc := 0) (y := mX1_set) dX1_set_0 rfl (by first | exact rf_s _ | exact rf_n | exact rf_q _) ?_
          refine wf_get (k := 0) (l := 9) 0 dX1_set_1 (by assumption) rfl q1111 (Or.inl rfl) (Nat.le_of_ble_eq_true rfl) (Nat.le_of_ble_eq_true rfl) (by (repeat (first | exact updF_self _ _ _ _ | (apply updF_i; · decide) | (apply updF_a; · first | assumption | (apply Ne.symm; assumption) | omega) | (apply newF_a; · first | assumption | (apply Ne.symm; assumption) | omega) | exact newL_self (by rfl) | exact newF_self (by rfl) | (apply cpyF_a; · first | assumption | (apply Ne.symm; assumption) | omega))) <;> first | assumption | rfl) ?_
          refine wa_iload_n (pc := 4) (y := mX1_set) dX1_set_4 rfl ?_
          refine wa_callV (pc := 5) (s_X2_index (d := d - 1) (v := v) (by omega) S) dX1_set_5 okX2_index q1829 q1830 q1831 (sF_at (by assumption)) rfl rfl rfl (Nat.le_of_ble_eq_true rfl) (Nat.le_of_ble_eq_true rfl) (by omega) ?_
          rintro r h' - - (⟨p3, hp3, rfl, rfl⟩ | ⟨hp3, -⟩)
          rotate_left
          · rw [hpl] at hp3; cases hp3
          rw [hpl] at hp3; cases hp3
          refine aft_v (pc2 := 8) ?_ rfl
          refine wa_istore (pc := 8) (y := mX1_set) dX1_set_8 (Nat.le_of_ble_eq_true rfl) (by first | rfl | (simp [okst, rf_cat] <;> assumption)) ?_
          simp only [List.set_cons_zero, List.set_cons_succ]
          refine wa_iload_n (pc := 10) (y := mX1_set) dX1_set_10 rfl ?_
          refine wa_callS (pc := 11) (s_X1_checkChannel (d := d - 1) (by omega)) dX1_set_11 okX1_checkChannel q2126 q2127 rfl rfl (Nat.le_of_ble_eq_true rfl) (Nat.le_of_ble_eq_true rfl) (by omega) ?_
          rintro r h' - - (⟨-, rfl, rfl⟩ | ⟨hb, -⟩)
          rotate_left
          · rw [decide_eq_true (by rw [hmv]; exact hm)] at hb; cases hb
          refine aft_0 (pc2 := 14) ?_ rfl
          refine wa_iload (pc := 14) (y := mX1_set) dX1_set_14 rfl ?_
          refine wa_callS (pc := 16) (s_X1_checkPart (d := d - 1) (by omega)) dX1_set_16 okX1_checkPart q2084 q2085 rfl rfl (Nat.le_of_ble_eq_true rfl) (Nat.le_of_ble_eq_true rfl) (by omega) ?_
          rintro r h' - - (⟨-, rfl, rfl⟩ | ⟨hb, -⟩)
          rotate_left
          · rw [decide_eq_true hy] at hb; cases hb
          refine aft_0 (pc2 := 19) ?_ rfl
          refine wa_iload_n (pc := 19) (y := mX1_set) dX1_set_19 rfl ?_
          refine wa_iconst (pc := 20) (y := mX1_set) (Int32.ofNat 0) dX1_set_20 rfl ?_
          refine wa_bipush (pc := 21) (y := mX1_set) (Int32.ofNat 100) dX1_set_21 rfl ?_
          refine wa_callS (pc := 23) (s_X1_isIn (d := d - 1)) dX1_set_23 okX1_isIn q2020 q1692 rfl rfl (Nat.le_of_ble_eq_true rfl) (Nat.le_of_ble_eq_true rfl) (by omega) ?_
          rintro _ _ - - ⟨rfl, rfl⟩
          refine aft_v (pc2 := 26) ?_ rfl
          rw [show inb z (Int32.ofNat 0) (Int32.ofNat 100) = true from hin.trans (decide_eq_true hz)]
          refine wa_callS (pc := 26) (s_X1_checkArgument (d := d - 1) (b := true) (by omega)) dX1_set_26 okX1_checkArgument q2038 q1699 rfl rfl (Nat.le_of_ble_eq_true rfl) (Nat.le_of_ble_eq_true rfl) (by omega) ?_
          rintro r h' - - (⟨-, rfl, rfl⟩ | ⟨hb, -⟩)
          rotate_left
          · cases hb
          refine aft_0 (pc2 := 29) ?_ rfl
          refine wa_aloadV_n (pc := 29) (y := mX1_set) dX1_set_29 rfl (by first | exact rf_s _ | exact rf_n | exact rf_q _) ?_
          refine wa_iload_n (pc := 30) (y := mX1_set) dX1_set_30 rfl ?_
          refine wa_iload_n (pc := 31) (y := mX1_set) dX1_set_31 rfl ?_
          refine wf_new (k := 7) (l := 2) [.int 0, .int 0] tyX9 dX1_set_32 rfl q2136 q1945 q135 tyX9_ok rfl rfl ?_
          refine wa_dup (pc := 35) (y := mX1_set) dX1_set_35 (by first | rfl | exact rf_cat _) ?_
          refine wa_iload (pc := 36) (y := mX1_set) dX1_set_36 rfl ?_
          refine wa_iload_n (pc := 38) (y := mX1_set) dX1_set_38 rfl ?_
          refine wa_callI (pc := 39) (s_X9_init (d := d - 1) (by omega) Is.self) dX1_set_39 okX9_init rfl rfl rfl q2137 q1947 rfl rfl (Nat.le_of_ble_eq_true rfl) (Nat.le_of_ble_eq_true rfl) (by omega) ?_
          rintro _ _ - - ⟨rfl, rfl⟩
          refine aft_0 (pc2 := 42) ?_ rfl
          have frn : Fr NoP h F (hNew h 7 2) (updF (updF (newF F h.1 (fun i => [Value.int 0, Value.int 0].getD i Value.null)) h.1 0 (.int y)) h.1 1 (.int z)) := ((Fr.newT Fr.refl).updT (Or.inr (Nat.le_refl h.1))).updT (Or.inr (Nat.le_refl h.1))
          obtain ⟨own1, t1, R1, hown⟩ := R.rdE frn
          have ch1 := ch.trans (Ch.rd frn (show Cst 1 h (hNew h 7 2) from ⟨Nat.le_refl _, by show h.2.1 + 2 ≤ h.2.1 + 4 * 1; omega⟩) t1)
          have T1 : TldO (hNew h 7 2) (updF (updF (newF F h.1 (fun i => [Value.int 0, Value.int 0].getD i Value.null)) h.1 0 (.int y)) h.1 1 (.int z)) (some h.1) (some (z, y)) := Or.inr ⟨h.1, (z, y), rfl, rfl, hy, (updF_i (by decide) (updF_self _ _ _ _)), Or.inr ⟨fun e => by have e : z = -1 := e; rw [e] at hz; exact absurd hz (by decide), Is.self, updF_self _ _ _ _⟩⟩
          have j1 := R1.is
          refine wa_iload (pc := 42) (y := mX1_set) dX1_set_42 rfl ?_
          refine wa_callV (pc := 44) (s_X1_edit (d := d - 1) (p := p) (c := m) (t := some h.1) (o := some (z, y)) (b := b) (by omega) hG R1 hpl hm T1 (fun a ha => by cases ha; exact hown _ (Nat.le_refl _) (Nat.lt_succ_self _)) (fun x hx => by cases hx; exact hy)) dX1_set_44 okX1_edit q2138 q2140 qs21 (sF_at (by assumption)) rfl rfl rfl (Nat.le_of_ble_eq_true rfl) (Nat.le_of_ble_eq_true rfl) (by omega) ?_
          rintro r h' - - ⟨h2, F2, own2, C2, rfl, ch2, (⟨e, R2, rfl⟩ | ⟨e, R2, q, rfl, iq⟩)⟩
          rotate_left
          · obtain ⟨σ2, e2, hs⟩ := (oG_gi (σ := σ) (l := z) (q := y) (b := b) (kk := 3) gf.1 hp hm hcue (Or.inr rfl)).2 e
            have hO := hO1.trans e2
            exact wax_out (sF_at iq) rfl (fun z hz => Or.inl (by revert z hz; decide)) (OpQ.thr0 (ch1.trans ch2) (by omega) R2 iq (by rw [hO]; exact Nat.succ_ne_zero _) (by rw [hO]; rfl) (by rw [hO]) (by rw [hO]; exact hs))
          refine aft_v (pc2 := 47) ?_ rfl
          refine wa_ireturn (pc := 47) (y := mX1_set) .int dX1_set_47 rfl rfl ?_
          obtain ⟨σ2, e2, hs⟩ := (oG_gi (σ := σ) (l := z) (q := y) (b := b) (kk := 3) gf.1 hp hm hcue (Or.inr rfl)).1 e
          have hO := hO1.trans e2
          exact OpQ.val (ch1.trans ch2) (by omega) R2 (by rw [hO]) (by rw [hO]) (by rw [hO]) (by rw [hO]; exact hs)
        · have hO : O_set f σ v w z y b = oX f σ 2 := ((hO0.trans (if_neg (Decidable.not_not.mpr hw))).trans (if_neg (Decidable.not_not.mpr hy))).trans (if_pos hz)
          refine wa_aloadV_n (pc := 0) (y := mX1_set) dX1_set_0 rfl (by first | exact rf_s _ | exact rf_n | exact rf_q _) ?_
          refine wf_get (k := 0) (l := 9) 0 dX1_set_1 (by assumption) rfl q1111 (Or.inl rfl) (Nat.le_of_ble_eq_true rfl) (Nat.le_of_ble_eq_true rfl) (by (repeat (first | exact updF_self _ _ _ _ | (apply updF_i; · decide) | (apply updF_a; · first | assumption | (apply Ne.symm; assumption) | omega) | (apply newF_a; · first | assumption | (apply Ne.symm; assumption) | omega) | exact newL_self (by rfl) | exact newF_self (by rfl) | (apply cpyF_a; · first | assumption | (apply Ne.symm; assumption) | omega))) <;> first | assumption | rfl) ?_
          refine wa_iload_n (pc := 4) (y := mX1_set) dX1_set_4 rfl ?_
          refine wa_callV (pc := 5) (s_X2_index (d := d - 1) (v := v) (by omega) S) dX1_set_5 okX2_index q1829 q1830 q1831 (sF_at (by assumption)) rfl rfl rfl (Nat.le_of_ble_eq_true rfl) (Nat.le_of_ble_eq_true rfl) (by omega) ?_
          rintro r h' - - (⟨p3, hp3, rfl, rfl⟩ | ⟨hp3, -⟩)
          rotate_left
          · rw [hpl] at hp3; cases hp3
          rw [hpl] at hp3; cases hp3
          refine aft_v (pc2 := 8) ?_ rfl
          refine wa_istore (pc := 8) (y := mX1_set) dX1_set_8 (Nat.le_of_ble_eq_true rfl) (by first | rfl | (simp [okst, rf_cat] <;> assumption)) ?_
          simp only [List.set_cons_zero, List.set_cons_succ]
          refine wa_iload_n (pc := 10) (y := mX1_set) dX1_set_10 rfl ?_
          refine wa_callS (pc := 11) (s_X1_checkChannel (d := d - 1) (by omega)) dX1_set_11 okX1_checkChannel q2126 q2127 rfl rfl (Nat.le_of_ble_eq_true rfl) (Nat.le_of_ble_eq_true rfl) (by omega) ?_
          rintro r h' - - (⟨-, rfl, rfl⟩ | ⟨hb, -⟩)
          rotate_left
          · rw [decide_eq_true hw] at hb; cases hb
          refine aft_0 (pc2 := 14) ?_ rfl
          refine wa_iload (pc := 14) (y := mX1_set) dX1_set_14 rfl ?_
          refine wa_callS (pc := 16) (s_X1_checkPart (d := d - 1) (by omega)) dX1_set_16 okX1_checkPart q2084 q2085 rfl rfl (Nat.le_of_ble_eq_true rfl) (Nat.le_of_ble_eq_true rfl) (by omega) ?_
          rintro r h' - - (⟨-, rfl, rfl⟩ | ⟨hb, -⟩)
          rotate_left
          · rw [decide_eq_true hy] at hb; cases hb
          refine aft_0 (pc2 := 19) ?_ rfl
          refine wa_iload_n (pc := 19) (y := mX1_set) dX1_set_19 rfl ?_
          refine wa_iconst (pc := 20) (y := mX1_set) (Int32.ofNat 0) dX1_set_20 rfl ?_
          refine wa_bipush (pc := 21) (y := mX1_set) (Int32.ofNat 100) dX1_set_21 rfl ?_
          refine wa_callS (pc := 23) (s_X1_isIn (d := d - 1)) dX1_set_23 okX1_isIn q2020 q1692 rfl rfl (Nat.le_of_ble_eq_true rfl) (Nat.le_of_ble_eq_true rfl) (by omega) ?_
          rintro _ _ - - ⟨rfl, rfl⟩
          refine aft_v (pc2 := 26) ?_ rfl
          rw [show inb z (Int32.ofNat 0) (Int32.ofNat 100) = false from hin.trans (decide_eq_false hz)]
          refine wa_callS (pc := 26) (s_X1_checkArgument (d := d - 1) (b := false) (by omega)) dX1_set_26 okX1_checkArgument q2038 q1699 rfl rfl (Nat.le_of_ble_eq_true rfl) (Nat.le_of_ble_eq_true rfl) (by omega) ?_
          rintro r h' - - (⟨hb, -, -⟩ | ⟨-, T⟩)
          · cases hb
          exact T.after ⟨_, rfl⟩ rfl fun h3 F3 q fr cst iq => OpQ.thr ch (by omega) R fr cst iq (by rw [hO]; exact Nat.succ_ne_zero _) (by rw [hO]; rfl) (by rw [hO]; rfl) (by rw [hO]; exact SgE.v7)
      · have hO : O_set f σ v w z y b = oX f σ 1 := (hO0.trans (if_neg (Decidable.not_not.mpr hw))).trans (if_pos hy)
        refine wa_aloadV_n (pc := 0) (y := mX1_set) dX1_set_0 rfl (by first | exact rf_s _ | exact rf_n | exact rf_q _) ?_
        refine wf_get (k := 0) (l := 9) 0 dX1_set_1 (by assumption) rfl q1111 (Or.inl rfl) (Nat.le_of_ble_eq_true rfl) (Nat.le_of_ble_eq_true rfl) (by (repeat (first | exact updF_self _ _ _ _ | (apply updF_i; · decide) | (apply updF_a; · first | assumption | (apply Ne.symm; assumption) | omega) | (apply newF_a; · first | assumption | (apply Ne.symm; assumption) | omega) | exact newL_self (by rfl) | exact newF_self (by rfl) | (apply cpyF_a; · first | assumption | (apply Ne.symm; assumption) | omega))) <;> first | assumption | rfl) ?_
        refine wa_iload_n (pc := 4) (y := mX1_set) dX1_set_4 rfl ?_
        refine wa_callV (pc := 5) (s_X2_index (d := d - 1) (v := v) (by omega) S) dX1_set_5 okX2_index q1829 q1830 q1831 (sF_at (by assumption)) rfl rfl rfl (Nat.le_of_ble_eq_true rfl) (Nat.le_of_ble_eq_true rfl) (by omega) ?_
        rintro r h' - - (⟨p3, hp3, rfl, rfl⟩ | ⟨hp3, -⟩)
        rotate_left
        · rw [hpl] at hp3; cases hp3
        rw [hpl] at hp3; cases hp3
        refine aft_v (pc2 := 8) ?_ rfl
        refine wa_istore (pc := 8) (y := mX1_set) dX1_set_8 (Nat.le_of_ble_eq_true rfl) (by first | rfl | (simp [okst, rf_cat] <;> assumption)) ?_
        simp only [List.set_cons_zero, List.set_cons_succ]
        refine wa_iload_n (pc := 10) (y := mX1_set) dX1_set_10 rfl ?_
        refine wa_callS (pc := 11) (s_X1_checkChannel (d := d - 1) (by omega)) dX1_set_11 okX1_checkChannel q2126 q2127 rfl rfl (Nat.le_of_ble_eq_true rfl) (Nat.le_of_ble_eq_true rfl) (by omega) ?_
        rintro r h' - - (⟨-, rfl, rfl⟩ | ⟨hb, -⟩)
        rotate_left
        · rw [decide_eq_true hw] at hb; cases hb
        refine aft_0 (pc2 := 14) ?_ rfl
        refine wa_iload (pc := 14) (y := mX1_set) dX1_set_14 rfl ?_
        refine wa_callS (pc := 16) (s_X1_checkPart (d := d - 1) (by omega)) dX1_set_16 okX1_checkPart q2084 q2085 rfl rfl (Nat.le_of_ble_eq_true rfl) (Nat.le_of_ble_eq_true rfl) (by omega) ?_
        rintro r h' - - (⟨hb, -, -⟩ | ⟨-, T⟩)
        · rw [decide_eq_false hy] at hb; cases hb
        exact T.after ⟨_, rfl⟩ rfl fun h3 F3 q fr cst iq => OpQ.thr ch (by omega) R fr cst iq (by rw [hO]; exact Nat.succ_ne_zero _) (by rw [hO]; rfl) (by rw [hO]; rfl) (by rw [hO]; exact SgE.v7)
    · have hO : O_set f σ v w z y b = oX f σ 1 := hO0.trans (if_pos hw)
      refine wa_aloadV_n (pc := 0) (y := mX1_set) dX1_set_0 rfl (by first | exact rf_s _ | exact rf_n | exact rf_q _) ?_
      refine wf_get (k := 0) (l := 9) 0 dX1_set_1 (by assumption) rfl q1111 (Or.inl rfl) (Nat.le_of_ble_eq_true rfl) (Nat.le_of_ble_eq_true rfl) (by (repeat (first | exact updF_self _ _ _ _ | (apply updF_i; · decide) | (apply updF_a; · first | assumption | (apply Ne.symm; assumption) | omega) | (apply newF_a; · first | assumption | (apply Ne.symm; assumption) | omega) | exact newL_self (by rfl) | exact newF_self (by rfl) | (apply cpyF_a; · first | assumption | (apply Ne.symm; assumption) | omega))) <;> first | assumption | rfl) ?_
      refine wa_iload_n (pc := 4) (y := mX1_set) dX1_set_4 rfl ?_
      refine wa_callV (pc := 5) (s_X2_index (d := d - 1) (v := v) (by omega) S) dX1_set_5 okX2_index q1829 q1830 q1831 (sF_at (by assumption)) rfl rfl rfl (Nat.le_of_ble_eq_true rfl) (Nat.le_of_ble_eq_true rfl) (by omega) ?_
      rintro r h' - - (⟨p3, hp3, rfl, rfl⟩ | ⟨hp3, -⟩)
      rotate_left
      · rw [hpl] at hp3; cases hp3
      rw [hpl] at hp3; cases hp3
      refine aft_v (pc2 := 8) ?_ rfl
      refine wa_istore (pc := 8) (y := mX1_set) dX1_set_8 (Nat.le_of_ble_eq_true rfl) (by first | rfl | (simp [okst, rf_cat] <;> assumption)) ?_
      simp only [List.set_cons_zero, List.set_cons_succ]
      refine wa_iload_n (pc := 10) (y := mX1_set) dX1_set_10 rfl ?_
      refine wa_callS (pc := 11) (s_X1_checkChannel (d := d - 1) (by omega)) dX1_set_11 okX1_checkChannel q2126 q2127 rfl rfl (Nat.le_of_ble_eq_true rfl) (Nat.le_of_ble_eq_true rfl) (by omega) ?_
      rintro r h' - - (⟨hb, -, -⟩ | ⟨-, T⟩)
      · rw [decide_eq_false hw] at hb; cases hb
      exact T.after ⟨_, rfl⟩ rfl fun h3 F3 q fr cst iq => OpQ.thr ch (by omega) R fr cst iq (by rw [hO]; exact Nat.succ_ne_zero _) (by rw [hO]; rfl) (by rw [hO]; rfl) (by rw [hO]; exact SgE.v7)
theorem s_X1_release (hd : 23 ≤ d) (hG : StG G) (R : CompR G h F own x C f σ) : MA G d mX1_release [.ref x, .int v, .int w, .int y, .int (bI b)] (sF h F) (OpQ G h F own x [25, 27] (O_release f σ v w y b)) := by
  have i1 := R.is
  have e0 := R.f0
  have e2 := R.f2
  have k1 := R.sh.is
  have p1 := R.pa.1
  obtain ⟨gf, A, h60, S⟩ := id R.sh
  have h12 := gf.1.1
  have x0 := S.f0
  have x2 := S.f2
  have x3 := S.f3
  have x7 := S.f7
  have xh := S.hm
  have xc := S.cl.1
  have xl := S.fl.1
  have ch := Ch.refl (F := F) R.ob
  change WA G d mX1_release 0 [.ref x, .int v, .int w, .int y, .int (bI b), .retAddr 0] [] _ _
  cases hpl : pl f v with
  | none =>
    have hO : O_release f σ v w y b = oX f σ 1 := by unfold O_release; rw [hpl]
    refine wa_aloadV_n (pc := 0) (y := mX1_release) dX1_release_0 rfl (by first | exact rf_s _ | exact rf_n | exact rf_q _) ?_
    refine wf_get (k := 0) (l := 9) 0 dX1_release_1 (by assumption) rfl q1111 (Or.inl rfl) (Nat.le_of_ble_eq_true rfl) (Nat.le_of_ble_eq_true rfl) (by (repeat (first | exact updF_self _ _ _ _ | (apply updF_i; · decide) | (apply updF_a; · first | assumption | (apply Ne.symm; assumption) | omega) | (apply newF_a; · first | assumption | (apply Ne.symm; assumption) | omega) | exact newL_self (by rfl) | exact newF_self (by rfl) | (apply cpyF_a; · first | assumption | (apply Ne.symm; assumption) | omega))) <;> first | assumption | rfl) ?_
    refine wa_iload_n (pc := 4) (y := mX1_release) dX1_release_4 rfl ?_
    refine wa_callV (pc := 5) (s_X2_index (d := d - 1) (v := v) (by omega) S) dX1_release_5 okX2_index q1829 q1830 q1831 (sF_at (by assumption)) rfl rfl rfl (Nat.le_of_ble_eq_true rfl) (Nat.le_of_ble_eq_true rfl) (by omega) ?_
    rintro r h' - - (⟨p, hp, -⟩ | ⟨-, T⟩)
    · rw [hpl] at hp; cases hp
    exact T.after ⟨_, rfl⟩ rfl fun h3 F3 q fr cst iq => OpQ.thr ch (by omega) R fr cst iq (by rw [hO]; exact Nat.succ_ne_zero _) (by rw [hO]; rfl) (by rw [hO]; rfl) (by rw [hO]; exact SgE.v7)
  | some p =>
    have hp := (pl_some hpl).1
    have hcue := (pl_some hpl).2
    have hO0 : O_release f σ v w y b = if ¬ u w < 12 then oX f σ 1 else if ¬ u y < 4 then oX f σ 1 else oG f σ (u w) 2 (dGi f (mA (mV σ 7 (Int32.ofNat 0)) 1 f) v p (u w) (-1) y b) := by unfold O_release; rw [hpl]
    by_cases hw : u w < 12
    · by_cases hy : u y < 4
      · have hO1 := ((hO0.trans (if_neg (Decidable.not_not.mpr hw))).trans (if_neg (Decidable.not_not.mpr hy)))
        obtain ⟨m, hmv⟩ : ∃ m, u w = m := ⟨_, rfl⟩
        have ev : w = Int32.ofNat m := by rw [← hmv]; exact (u_self w).symm
        rw [hmv] at hO1
        have hm : m < 12 := by omega
        subst ev
        refine wa_aloadV_n (pc := 0) (y := mX1_release) dX1_release_0 rfl (by first | exact rf_s _ | exact rf_n | exact rf_q _) ?_
        refine wf_get (k := 0) (l := 9) 0 dX1_release_1 (by assumption) rfl q1111 (Or.inl rfl) (Nat.le_of_ble_eq_true rfl) (Nat.le_of_ble_eq_true rfl) (by (repeat (first | exact updF_self _ _ _ _ | (apply updF_i; · decide) | (apply updF_a; · first | assumption | (apply Ne.symm; assumption) | omega) | (apply newF_a; · first | assumption | (apply Ne.symm; assumption) | omega) | exact newL_self (by rfl) | exact newF_self (by rfl) | (apply cpyF_a; · first | assumption | (apply Ne.symm; assumption) | omega))) <;> first | assumption | rfl) ?_
        refine wa_iload_n (pc := 4) (y := mX1_release) dX1_release_4 rfl ?_
        refine wa_callV (pc := 5) (s_X2_index (d := d - 1) (v := v) (by omega) S) dX1_release_5 okX2_index q1829 q1830 q1831 (sF_at (by assumption)) rfl rfl rfl (Nat.le_of_ble_eq_true rfl) (Nat.le_of_ble_eq_true rfl) (by omega) ?_
        rintro r h' - - (⟨p3, hp3, rfl, rfl⟩ | ⟨hp3, -⟩)
        rotate_left
        · rw [hpl] at hp3; cases hp3
        rw [hpl] at hp3; cases hp3
        refine aft_v (pc2 := 8) ?_ rfl
        refine wa_istore (pc := 8) (y := mX1_release) dX1_release_8 (Nat.le_of_ble_eq_true rfl) (by first | rfl | (simp [okst, rf_cat] <;> assumption)) ?_
        simp only [List.set_cons_zero, List.set_cons_succ]
        refine wa_iload_n (pc := 10) (y := mX1_release) dX1_release_10 rfl ?_
        refine wa_callS (pc := 11) (s_X1_checkChannel (d := d - 1) (by omega)) dX1_release_11 okX1_checkChannel q2126 q2127 rfl rfl (Nat.le_of_ble_eq_true rfl) (Nat.le_of_ble_eq_true rfl) (by omega) ?_
        rintro r h' - - (⟨-, rfl, rfl⟩ | ⟨hb, -⟩)
        rotate_left
        · rw [decide_eq_true (by rw [hmv]; exact hm)] at hb; cases hb
        refine aft_0 (pc2 := 14) ?_ rfl
        refine wa_iload_n (pc := 14) (y := mX1_release) dX1_release_14 rfl ?_
        refine wa_callS (pc := 15) (s_X1_checkPart (d := d - 1) (by omega)) dX1_release_15 okX1_checkPart q2084 q2085 rfl rfl (Nat.le_of_ble_eq_true rfl) (Nat.le_of_ble_eq_true rfl) (by omega) ?_
        rintro r h' - - (⟨-, rfl, rfl⟩ | ⟨hb, -⟩)
        rotate_left
        · rw [decide_eq_true hy] at hb; cases hb
        refine aft_0 (pc2 := 18) ?_ rfl
        refine wa_aloadV_n (pc := 18) (y := mX1_release) dX1_release_18 rfl (by first | exact rf_s _ | exact rf_n | exact rf_q _) ?_
        refine wa_iload_n (pc := 19) (y := mX1_release) dX1_release_19 rfl ?_
        refine wa_iload_n (pc := 20) (y := mX1_release) dX1_release_20 rfl ?_
        refine wf_new (k := 8) (l := 1) [.int 0] tyX11 dX1_release_21 rfl q2172 q2173 q137 tyX11_ok rfl rfl ?_
        refine wa_dup (pc := 24) (y := mX1_release) dX1_release_24 (by first | rfl | exact rf_cat _) ?_
        refine wa_iload_n (pc := 25) (y := mX1_release) dX1_release_25 rfl ?_
        refine wa_callI (pc := 26) (s_X11_init (d := d - 1) (by omega) Is.self) dX1_release_26 okX11_init rfl rfl rfl q2174 q2175 rfl rfl (Nat.le_of_ble_eq_true rfl) (Nat.le_of_ble_eq_true rfl) (by omega) ?_
        rintro _ _ - - ⟨rfl, rfl⟩
        refine aft_0 (pc2 := 29) ?_ rfl
        have frn : Fr NoP h F (hNew h 8 1) (updF (newF F h.1 (fun i => [Value.int 0].getD i Value.null)) h.1 0 (.int y)) := (Fr.newT Fr.refl).updT (Or.inr (Nat.le_refl h.1))
        obtain ⟨own1, t1, R1, hown⟩ := R.rdE frn
        have ch1 := ch.trans (Ch.rd frn (show Cst 1 h (hNew h 8 1) from ⟨Nat.le_refl _, by show h.2.1 + 1 ≤ h.2.1 + 4 * 1; omega⟩) t1)
        have T1 : TldO (hNew h 8 1) (updF (newF F h.1 (fun i => [Value.int 0].getD i Value.null)) h.1 0 (.int y)) (some h.1) (some (-1, y)) := Or.inr ⟨h.1, (-1, y), rfl, rfl, hy, updF_self _ _ _ _, Or.inl ⟨rfl, Is.self⟩⟩
        have j1 := R1.is
        refine wa_iload (pc := 29) (y := mX1_release) dX1_release_29 rfl ?_
        refine wa_callV (pc := 31) (s_X1_edit (d := d - 1) (p := p) (c := m) (t := some h.1) (o := some (-1, y)) (b := b) (by omega) hG R1 hpl hm T1 (fun a ha => by cases ha; exact hown _ (Nat.le_refl _) (Nat.lt_succ_self _)) (fun x hx => by cases hx; exact hy)) dX1_release_31 okX1_edit q2138 q2140 qs21 (sF_at (by assumption)) rfl rfl rfl (Nat.le_of_ble_eq_true rfl) (Nat.le_of_ble_eq_true rfl) (by omega) ?_
        rintro r h' - - ⟨h2, F2, own2, C2, rfl, ch2, (⟨e, R2, rfl⟩ | ⟨e, R2, q, rfl, iq⟩)⟩
        rotate_left
        · obtain ⟨σ2, e2, hs⟩ := (oG_gi (σ := σ) (l := -1) (q := y) (b := b) (kk := 2) gf.1 hp hm hcue (Or.inl rfl)).2 e
          have hO := hO1.trans e2
          exact wax_out (sF_at iq) rfl (fun z hz => Or.inl (by revert z hz; decide)) (OpQ.thr0 (ch1.trans ch2) (by omega) R2 iq (by rw [hO]; exact Nat.succ_ne_zero _) (by rw [hO]; rfl) (by rw [hO]) (by rw [hO]; exact hs))
        refine aft_v (pc2 := 34) ?_ rfl
        refine wa_ireturn (pc := 34) (y := mX1_release) .int dX1_release_34 rfl rfl ?_
        obtain ⟨σ2, e2, hs⟩ := (oG_gi (σ := σ) (l := -1) (q := y) (b := b) (kk := 2) gf.1 hp hm hcue (Or.inl rfl)).1 e
        have hO := hO1.trans e2
        exact OpQ.val (ch1.trans ch2) (by omega) R2 (by rw [hO]) (by rw [hO]) (by rw [hO]) (by rw [hO]; exact hs)
      · have hO : O_release f σ v w y b = oX f σ 1 := (hO0.trans (if_neg (Decidable.not_not.mpr hw))).trans (if_pos hy)
        refine wa_aloadV_n (pc := 0) (y := mX1_release) dX1_release_0 rfl (by first | exact rf_s _ | exact rf_n | exact rf_q _) ?_
        refine wf_get (k := 0) (l := 9) 0 dX1_release_1 (by assumption) rfl q1111 (Or.inl rfl) (Nat.le_of_ble_eq_true rfl) (Nat.le_of_ble_eq_true rfl) (by (repeat (first | exact updF_self _ _ _ _ | (apply updF_i; · decide) | (apply updF_a; · first | assumption | (apply Ne.symm; assumption) | omega) | (apply newF_a; · first | assumption | (apply Ne.symm; assumption) | omega) | exact newL_self (by rfl) | exact newF_self (by rfl) | (apply cpyF_a; · first | assumption | (apply Ne.symm; assumption) | omega))) <;> first | assumption | rfl) ?_
        refine wa_iload_n (pc := 4) (y := mX1_release) dX1_release_4 rfl ?_
        refine wa_callV (pc := 5) (s_X2_index (d := d - 1) (v := v) (by omega) S) dX1_release_5 okX2_index q1829 q1830 q1831 (sF_at (by assumption)) rfl rfl rfl (Nat.le_of_ble_eq_true rfl) (Nat.le_of_ble_eq_true rfl) (by omega) ?_
        rintro r h' - - (⟨p3, hp3, rfl, rfl⟩ | ⟨hp3, -⟩)
        rotate_left
        · rw [hpl] at hp3; cases hp3
        rw [hpl] at hp3; cases hp3
        refine aft_v (pc2 := 8) ?_ rfl
        refine wa_istore (pc := 8) (y := mX1_release) dX1_release_8 (Nat.le_of_ble_eq_true rfl) (by first | rfl | (simp [okst, rf_cat] <;> assumption)) ?_
        simp only [List.set_cons_zero, List.set_cons_succ]
        refine wa_iload_n (pc := 10) (y := mX1_release) dX1_release_10 rfl ?_
        refine wa_callS (pc := 11) (s_X1_checkChannel (d := d - 1) (by omega)) dX1_release_11 okX1_checkChannel q2126 q2127 rfl rfl (Nat.le_of_ble_eq_true rfl) (Nat.le_of_ble_eq_true rfl) (by omega) ?_
        rintro r h' - - (⟨-, rfl, rfl⟩ | ⟨hb, -⟩)
        rotate_left
        · rw [decide_eq_true hw] at hb; cases hb
        refine aft_0 (pc2 := 14) ?_ rfl
        refine wa_iload_n (pc := 14) (y := mX1_release) dX1_release_14 rfl ?_
        refine wa_callS (pc := 15) (s_X1_checkPart (d := d - 1) (by omega)) dX1_release_15 okX1_checkPart q2084 q2085 rfl rfl (Nat.le_of_ble_eq_true rfl) (Nat.le_of_ble_eq_true rfl) (by omega) ?_
        rintro r h' - - (⟨hb, -, -⟩ | ⟨-, T⟩)
        · rw [decide_eq_false hy] at hb; cases hb
        exact T.after ⟨_, rfl⟩ rfl fun h3 F3 q fr cst iq => OpQ.thr ch (by omega) R fr cst iq (by rw [hO]; exact Nat.succ_ne_zero _) (by rw [hO]; rfl) (by rw [hO]; rfl) (by rw [hO]; exact SgE.v7)
    · have hO : O_release f σ v w y b = oX f σ 1 := hO0.trans (if_pos hw)
      refine wa_aloadV_n (pc := 0) (y := mX1_release) dX1_release_0 rfl (by first | exact rf_s _ | exact rf_n | exact rf_q _) ?_
      refine wf_get (k := 0) (l := 9) 0 dX1_release_1 (by assumption) rfl q1111 (Or.inl rfl) (Nat.le_of_ble_eq_true rfl) (Nat.le_of_ble_eq_true rfl) (by (repeat (first | exact updF_self _ _ _ _ | (apply updF_i; · decide) | (apply updF_a; · first | assumption | (apply Ne.symm; assumption) | omega) | (apply newF_a; · first | assumption | (apply Ne.symm; assumption) | omega) | exact newL_self (by rfl) | exact newF_self (by rfl) | (apply cpyF_a; · first | assumption | (apply Ne.symm; assumption) | omega))) <;> first | assumption | rfl) ?_
      refine wa_iload_n (pc := 4) (y := mX1_release) dX1_release_4 rfl ?_
      refine wa_callV (pc := 5) (s_X2_index (d := d - 1) (v := v) (by omega) S) dX1_release_5 okX2_index q1829 q1830 q1831 (sF_at (by assumption)) rfl rfl rfl (Nat.le_of_ble_eq_true rfl) (Nat.le_of_ble_eq_true rfl) (by omega) ?_
      rintro r h' - - (⟨p3, hp3, rfl, rfl⟩ | ⟨hp3, -⟩)
      rotate_left
      · rw [hpl] at hp3; cases hp3
      rw [hpl] at hp3; cases hp3
      refine aft_v (pc2 := 8) ?_ rfl
      refine wa_istore (pc := 8) (y := mX1_release) dX1_release_8 (Nat.le_of_ble_eq_true rfl) (by first | rfl | (simp [okst, rf_cat] <;> assumption)) ?_
      simp only [List.set_cons_zero, List.set_cons_succ]
      refine wa_iload_n (pc := 10) (y := mX1_release) dX1_release_10 rfl ?_
      refine wa_callS (pc := 11) (s_X1_checkChannel (d := d - 1) (by omega)) dX1_release_11 okX1_checkChannel q2126 q2127 rfl rfl (Nat.le_of_ble_eq_true rfl) (Nat.le_of_ble_eq_true rfl) (by omega) ?_
      rintro r h' - - (⟨hb, -, -⟩ | ⟨-, T⟩)
      · rw [decide_eq_false hw] at hb; cases hb
      exact T.after ⟨_, rfl⟩ rfl fun h3 F3 q fr cst iq => OpQ.thr ch (by omega) R fr cst iq (by rw [hO]; exact Nat.succ_ne_zero _) (by rw [hO]; rfl) (by rw [hO]; rfl) (by rw [hO]; exact SgE.v7)
theorem s_X1_unset (hd : 23 ≤ d) (hG : StG G) (R : CompR G h F own x C f σ) : MA G d mX1_unset [.ref x, .int v, .int w, .int (bI b)] (sF h F) (OpQ G h F own x [25, 27] (O_unset f σ v w b)) := by
  have i1 := R.is
  have e0 := R.f0
  have e2 := R.f2
  have k1 := R.sh.is
  have p1 := R.pa.1
  obtain ⟨gf, A, h60, S⟩ := id R.sh
  have h12 := gf.1.1
  have x0 := S.f0
  have x2 := S.f2
  have x3 := S.f3
  have x7 := S.f7
  have xh := S.hm
  have xc := S.cl.1
  have xl := S.fl.1
  have ch := Ch.refl (F := F) R.ob
  change WA G d mX1_unset 0 [.ref x, .int v, .int w, .int (bI b), .retAddr 0] [] _ _
  cases hpl : pl f v with
  | none =>
    have hO : O_unset f σ v w b = oX f σ 1 := by unfold O_unset; rw [hpl]
    refine wa_aloadV_n (pc := 0) (y := mX1_unset) dX1_unset_0 rfl (by first | exact rf_s _ | exact rf_n | exact rf_q _) ?_
    refine wf_get (k := 0) (l := 9) 0 dX1_unset_1 (by assumption) rfl q1111 (Or.inl rfl) (Nat.le_of_ble_eq_true rfl) (Nat.le_of_ble_eq_true rfl) (by (repeat (first | exact updF_self _ _ _ _ | (apply updF_i; · decide) | (apply updF_a; · first | assumption | (apply Ne.symm; assumption) | omega) | (apply newF_a; · first | assumption | (apply Ne.symm; assumption) | omega) | exact newL_self (by rfl) | exact newF_self (by rfl) | (apply cpyF_a; · first | assumption | (apply Ne.symm; assumption) | omega))) <;> first | assumption | rfl) ?_
    refine wa_iload_n (pc := 4) (y := mX1_unset) dX1_unset_4 rfl ?_
    refine wa_callV (pc := 5) (s_X2_index (d := d - 1) (v := v) (by omega) S) dX1_unset_5 okX2_index q1829 q1830 q1831 (sF_at (by assumption)) rfl rfl rfl (Nat.le_of_ble_eq_true rfl) (Nat.le_of_ble_eq_true rfl) (by omega) ?_
    rintro r h' - - (⟨p, hp, -⟩ | ⟨-, T⟩)
    · rw [hpl] at hp; cases hp
    exact T.after ⟨_, rfl⟩ rfl fun h3 F3 q fr cst iq => OpQ.thr ch (by omega) R fr cst iq (by rw [hO]; exact Nat.succ_ne_zero _) (by rw [hO]; rfl) (by rw [hO]; rfl) (by rw [hO]; exact SgE.v7)
  | some p =>
    have hp := (pl_some hpl).1
    have hcue := (pl_some hpl).2
    have hO0 : O_unset f σ v w b = if ¬ u w < 12 then oX f σ 1 else oG f σ (u w) 2 (dTk f (mA (mV σ 7 (Int32.ofNat 0)) 1 f) v p (u w) b) := by unfold O_unset; rw [hpl]
    by_cases hw : u w < 12
    · have hO1 := (hO0.trans (if_neg (Decidable.not_not.mpr hw)))
      obtain ⟨m, hmv⟩ : ∃ m, u w = m := ⟨_, rfl⟩
      have ev : w = Int32.ofNat m := by rw [← hmv]; exact (u_self w).symm
      rw [hmv] at hO1
      have hm : m < 12 := by omega
      subst ev
      refine wa_aloadV_n (pc := 0) (y := mX1_unset) dX1_unset_0 rfl (by first | exact rf_s _ | exact rf_n | exact rf_q _) ?_
      refine wf_get (k := 0) (l := 9) 0 dX1_unset_1 (by assumption) rfl q1111 (Or.inl rfl) (Nat.le_of_ble_eq_true rfl) (Nat.le_of_ble_eq_true rfl) (by (repeat (first | exact updF_self _ _ _ _ | (apply updF_i; · decide) | (apply updF_a; · first | assumption | (apply Ne.symm; assumption) | omega) | (apply newF_a; · first | assumption | (apply Ne.symm; assumption) | omega) | exact newL_self (by rfl) | exact newF_self (by rfl) | (apply cpyF_a; · first | assumption | (apply Ne.symm; assumption) | omega))) <;> first | assumption | rfl) ?_
      refine wa_iload_n (pc := 4) (y := mX1_unset) dX1_unset_4 rfl ?_
      refine wa_callV (pc := 5) (s_X2_index (d := d - 1) (v := v) (by omega) S) dX1_unset_5 okX2_index q1829 q1830 q1831 (sF_at (by assumption)) rfl rfl rfl (Nat.le_of_ble_eq_true rfl) (Nat.le_of_ble_eq_true rfl) (by omega) ?_
      rintro r h' - - (⟨p3, hp3, rfl, rfl⟩ | ⟨hp3, -⟩)
      rotate_left
      · rw [hpl] at hp3; cases hp3
      rw [hpl] at hp3; cases hp3
      refine aft_v (pc2 := 8) ?_ rfl
      refine wa_istore (pc := 8) (y := mX1_unset) dX1_unset_8 (Nat.le_of_ble_eq_true rfl) (by first | rfl | (simp [okst, rf_cat] <;> assumption)) ?_
      simp only [List.set_cons_zero, List.set_cons_succ]
      refine wa_iload_n (pc := 10) (y := mX1_unset) dX1_unset_10 rfl ?_
      refine wa_callS (pc := 11) (s_X1_checkChannel (d := d - 1) (by omega)) dX1_unset_11 okX1_checkChannel q2126 q2127 rfl rfl (Nat.le_of_ble_eq_true rfl) (Nat.le_of_ble_eq_true rfl) (by omega) ?_
      rintro r h' - - (⟨-, rfl, rfl⟩ | ⟨hb, -⟩)
      rotate_left
      · rw [decide_eq_true (by rw [hmv]; exact hm)] at hb; cases hb
      refine aft_0 (pc2 := 14) ?_ rfl
      refine wa_aloadV_n (pc := 14) (y := mX1_unset) dX1_unset_14 rfl (by first | exact rf_s _ | exact rf_n | exact rf_q _) ?_
      refine wa_iload_n (pc := 15) (y := mX1_unset) dX1_unset_15 rfl ?_
      refine wa_iload_n (pc := 16) (y := mX1_unset) dX1_unset_16 rfl ?_
      refine wa_null (pc := 17) (y := mX1_unset) dX1_unset_17 ?_
      refine wa_iload_n (pc := 18) (y := mX1_unset) dX1_unset_18 rfl ?_
      have ch1 := ch; have T1 : TldO h F none none := Or.inl ⟨rfl, rfl⟩
      refine wa_callV (pc := 19) (s_X1_edit (d := d - 1) (p := p) (c := m) (t := none) (o := none) (b := b) (by omega) hG R hpl hm T1 (fun a ha => by cases ha) (fun x hx => by cases hx)) dX1_unset_19 okX1_edit q2138 q2140 qs21 (sF_at (by assumption)) rfl rfl rfl (Nat.le_of_ble_eq_true rfl) (Nat.le_of_ble_eq_true rfl) (by omega) ?_
      rintro r h' - - ⟨h2, F2, own2, C2, rfl, ch2, (⟨e, R2, rfl⟩ | ⟨e, R2, q, rfl, iq⟩)⟩
      rotate_left
      · obtain ⟨σ2, e2, hs⟩ := (oG_tk (σ := σ) (b := b) (kk := 2) gf.1 hp hm hcue (Or.inl rfl)).2 e
        have hO := hO1.trans e2
        exact wax_out (sF_at iq) rfl (fun z hz => Or.inl (by revert z hz; decide)) (OpQ.thr0 (ch1.trans ch2) (by omega) R2 iq (by rw [hO]; exact Nat.succ_ne_zero _) (by rw [hO]; rfl) (by rw [hO]) (by rw [hO]; exact hs))
      refine aft_v (pc2 := 22) ?_ rfl
      refine wa_ireturn (pc := 22) (y := mX1_unset) .int dX1_unset_22 rfl rfl ?_
      obtain ⟨σ2, e2, hs⟩ := (oG_tk (σ := σ) (b := b) (kk := 2) gf.1 hp hm hcue (Or.inl rfl)).1 e
      have hO := hO1.trans e2
      exact OpQ.val (ch1.trans ch2) (by omega) R2 (by rw [hO]) (by rw [hO]) (by rw [hO]) (by rw [hO]; exact hs)
    · have hO : O_unset f σ v w b = oX f σ 1 := hO0.trans (if_pos hw)
      refine wa_aloadV_n (pc := 0) (y := mX1_unset) dX1_unset_0 rfl (by first | exact rf_s _ | exact rf_n | exact rf_q _) ?_
      refine wf_get (k := 0) (l := 9) 0 dX1_unset_1 (by assumption) rfl q1111 (Or.inl rfl) (Nat.le_of_ble_eq_true rfl) (Nat.le_of_ble_eq_true rfl) (by (repeat (first | exact updF_self _ _ _ _ | (apply updF_i; · decide) | (apply updF_a; · first | assumption | (apply Ne.symm; assumption) | omega) | (apply newF_a; · first | assumption | (apply Ne.symm; assumption) | omega) | exact newL_self (by rfl) | exact newF_self (by rfl) | (apply cpyF_a; · first | assumption | (apply Ne.symm; assumption) | omega))) <;> first | assumption | rfl) ?_
      refine wa_iload_n (pc := 4) (y := mX1_unset) dX1_unset_4 rfl ?_
      refine wa_callV (pc := 5) (s_X2_index (d := d - 1) (v := v) (by omega) S) dX1_unset_5 okX2_index q1829 q1830 q1831 (sF_at (by assumption)) rfl rfl rfl (Nat.le_of_ble_eq_true rfl) (Nat.le_of_ble_eq_true rfl) (by omega) ?_
      rintro r h' - - (⟨p3, hp3, rfl, rfl⟩ | ⟨hp3, -⟩)
      rotate_left
      · rw [hpl] at hp3; cases hp3
      rw [hpl] at hp3; cases hp3
      refine aft_v (pc2 := 8) ?_ rfl
      refine wa_istore (pc := 8) (y := mX1_unset) dX1_unset_8 (Nat.le_of_ble_eq_true rfl) (by first | rfl | (simp [okst, rf_cat] <;> assumption)) ?_
      simp only [List.set_cons_zero, List.set_cons_succ]
      refine wa_iload_n (pc := 10) (y := mX1_unset) dX1_unset_10 rfl ?_
      refine wa_callS (pc := 11) (s_X1_checkChannel (d := d - 1) (by omega)) dX1_unset_11 okX1_checkChannel q2126 q2127 rfl rfl (Nat.le_of_ble_eq_true rfl) (Nat.le_of_ble_eq_true rfl) (by omega) ?_
      rintro r h' - - (⟨hb, -, -⟩ | ⟨-, T⟩)
      · rw [decide_eq_false hw] at hb; cases hb
      exact T.after ⟨_, rfl⟩ rfl fun h3 F3 q fr cst iq => OpQ.thr ch (by omega) R fr cst iq (by rw [hO]; exact Nat.succ_ne_zero _) (by rw [hO]; rfl) (by rw [hO]; rfl) (by rw [hO]; exact SgE.v7)
end OPS6
