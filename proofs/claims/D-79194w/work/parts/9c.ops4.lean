/-! ===== CueStack: refusals are kept; steps (written by tools/gen9c.py) ===== -/
def KptQ (G : GG) (h : AH) (F : Nat → Nat → Value) (own : Nat → Option Nat) (x : Nat) (f : Nat → Int32) (σ : MS) (r : RR) (h' : AH) : Prop :=
  ∃ (h2 : AH) (F2 : Nat → Nat → Value) (own2 : Nat → Option Nat) (C2 : CA) (e : Nat), r = .inl (some (.ref e)) ∧ h' = sF h2 F2 ∧ Ch 2 h F own h2 F2 own2 ∧ CompR G h2 F2 own2 x C2 f σ ∧ Is h2 e 27 0
section OPS4
variable {G : GG} {d n N : Nat} {h h2 h3 : AH} {F F2 F3 : Nat → Nat → Value} {own own2 own3 : Nat → Option Nat} {x s s1 s2 k i j m p q c a e kd : Nat} {C C2 : CA} {f f2 g : Nat → Int32} {σ σ2 : MS} {P O : Nat → Prop} {r : RR} {h' : AH} {A : SA} {v w z : Int32} {b : Bool} {ks : List Nat} {oo : OO}
theorem OpQ.thr0 (ch : Ch N h F own h2 F2 own2) (hN : N ≤ 45000) (R : CompR G h2 F2 own2 x C f σ) (iq : Is h2 q kd 0) (ho : oo.1 ≠ 0) (hk : ks[oo.1 - 1]? = some kd) (hf : oo.2.2.1 = f) (hs : SgE σ oo.2.2.2) : OpQ G h F own x ks oo (.inr q) (sF h2 F2) :=
  ⟨h2, F2, own2, C, rfl, ch.mono hN, by rw [hf]; exact R.sg hs, Or.inr ⟨ho, q, kd, hk, rfl, iq⟩⟩
/-- a refusal came out of a copy -/
theorem CompR.rfm (R : CompR G h F own x C f σ) (Q : RfmQ N z (fun b => own b = some s2) h F r h') (h1 : s2 ≠ x) (h2 : s2 ≠ C.s) (hm : ¬ (s2 ∈ C.hs ∨ C.sv = some s2)) : ∃ (h3 : AH) (F3 : Nat → Nat → Value) (own3 : Nat → Option Nat) (q : Nat), r = .inr q ∧ h' = sF h3 F3 ∧ Ch N h F own h3 F3 own3 ∧ CompR G h3 F3 own3 x C f σ ∧ Is h3 q 21 1 ∧ F3 q 0 = .int z ∧ own3 q = some x := by
  obtain ⟨h3, F3, q, rfl, rfl, fr, cst, iq, vq, hq⟩ := Q
  have t := OwT.ext (h2 := h3) R.ob fr.1.1 x
  exact ⟨h3, F3, _, q, rfl, rfl, Ch.ofS fr cst t, R.oth fr t h1 h2 hm, iq, vq, by show (if _ then _ else _) = _; rw [if_neg (by omega), if_pos iq.lt]⟩
theorem SgE.thr6 {y : Int32} : SgE (mV σ 6 z) (mV (mV (mA σ 1 f) 6 z) 7 y) := ⟨by simp [mV, mA], by simp [mV, mA], by simp [mV, mA], by simp [mV, mA], by simp [mV, mA], by simp [mV, mA], by simp [mV, mA], by simp [mV, mA]⟩
theorem st_go0 (e : nxI f (f 2) = u (f 0)) : O_steps f σ false = (1, 0, f, mV (mV (mA σ 1 f) 6 4) 7 1) := by
  have h0 : dGq f false = 0 := by
    show nx f (f 2) = 0
    rw [nx_nxI, if_neg (by omega)]
  unfold O_steps
  rw [dGo_pos h0]
  rfl
theorem st_go1 (gf : GoodF f) (e : nxI f (f 2) < u (f 0)) : O_steps f σ false = (0, f (18 + 12 * nxI f (f 2)), goF f (f (18 + 12 * nxI f (f 2))) (nxI f (f 2)), chg (mV (mA σ 1 f) 7 0)) := by
  have hq : dGq f false = f (18 + 12 * nxI f (f 2)) := by
    show nx f (f 2) = _
    rw [nx_nxI, if_pos e]
  have h0 : ¬ dGq f false = 0 := by rw [hq]; exact (num_pos9 gf.1 e).2
  unfold O_steps
  rw [dGo_neg h0, hq]
  unfold goX
  rw [pl_self gf.1 e]
  show (if 0 < 0 then _ else (0, goF f (f (18 + 12 * nxI f (f 2))) (nxI f (f 2)) 2, _, _)) = _
  rw [goF_2]
  rfl
theorem st_ah (gf : GoodF f) : dGq f true = if ip f (f 2) = 0 then 0 else f (18 + 12 * (ip f (f 2) - 1)) := by
  show ahN f (f 2) (u (f 0)) = _
  have := ip_le f (f 2)
  rw [ah_ip (Srt.of gf.1) _ (Nat.le_refl _), show min (ip f (f 2)) (u (f 0)) = ip f (f 2) by omega]
theorem st_ba0 (gf : GoodF f) (e : ip f (f 2) = 0) : O_steps f σ true = (1, 0, f, mV (mV (mA σ 1 f) 6 5) 7 1) := by
  have h0 : dGq f true = 0 := by rw [st_ah gf, if_pos e]
  unfold O_steps
  rw [dGo_pos h0]
  rfl
theorem st_ba1 (gf : GoodF f) (e : 0 < ip f (f 2)) : O_steps f σ true = (0, f (18 + 12 * (ip f (f 2) - 1)), goF f (f (18 + 12 * (ip f (f 2) - 1))) (ip f (f 2) - 1), chg (mV (mA σ 1 f) 7 0)) := by
  have hle := ip_le f (f 2)
  have hq : dGq f true = f (18 + 12 * (ip f (f 2) - 1)) := by rw [st_ah gf, if_neg (by omega)]
  have h0 : ¬ dGq f true = 0 := by rw [hq]; exact (num_pos9 gf.1 (by omega)).2
  unfold O_steps
  rw [dGo_neg h0, hq]
  unfold goX
  rw [pl_self gf.1 (by omega)]
  show (if 0 < 0 then _ else (0, goF f (f (18 + 12 * (ip f (f 2) - 1))) (ip f (f 2) - 1) 2, _, _)) = _
  rw [goF_2]
  rfl
theorem s_X1_kept (hd : 6 ≤ d) (R : CompR G h F own x C f σ) (iq : Is h q 21 1) (vq : F q 0 = .int z) (oq : own q = some x) (hz : z ≠ 0) : MA G d mX1_kept [.ref x, .ref q] (sF h F) (KptQ G h F own x f (mV σ 6 z)) := by
  have i1 := R.is
  have R2 := R.setRef iq vq oq hz
  have R2ob := R2.ob
  change WA G d mX1_kept 0 [.ref x, .ref q] [] _ _
  refine wa_aloadV_n (pc := 0) (y := mX1_kept) dX1_kept_0 rfl (by first | exact rf_s _ | exact rf_n | exact rf_q _) ?_
  refine wa_aloadV_n (pc := 1) (y := mX1_kept) dX1_kept_1 rfl (by first | exact rf_s _ | exact rf_n | exact rf_q _) ?_
  refine wf_put (k := 0) (l := 9) 8 (.object "CueStack$Refusal") dX1_kept_2 (by assumption) rfl q1119 (Or.inl rfl) (Nat.le_of_ble_eq_true rfl) rfl (by decide +kernel) (by first | rfl | exact rf_nar _ | exact rf_nar2 _) (by first | rfl | exact rf_fit _ | exact rf_fit2 _) ?_
  refine wa_newX (pc := 5) (y := mX1_kept) (nn := 6) 6 dX1_kept_5 rfl q1997 q1998 q132 ?_
  refine wa_dup (pc := 8) (y := mX1_kept) dX1_kept_8 (by first | rfl | exact rf_cat _) ?_
  refine wf_exc_J37 (pc := 9) (y := mX1_kept) dX1_kept_9 q2006 (Nat.le_of_ble_eq_true rfl) (by omega) ?_
  refine wa_areturnV (pc := 12) (y := mX1_kept) (.object "java/lang/UnsupportedOperationException") dX1_kept_12 rfl (Or.inl ⟨_, rfl⟩) (by first | exact rf_s _ | exact rf_n | exact rf_q _) ?_
  obtain ⟨own3, t3, R3⟩ := R2.rd (Fr.excT Fr.refl)
  exact ⟨_, _, own3, _, _, rfl, rfl, (Ch.setx R).trans (Ch.rd (Fr.excT Fr.refl) (Cst.exc (by decide)) t3), R3, Is.exc⟩
/-- the handler of steps -/
theorem st_31 {v3 : Value} (hd : 7 ≤ d) (ch : Ch N h F own h2 F2 own2) (hN : N ≤ 44000) (R : CompR G h2 F2 own2 x C f σ) (iq : Is h2 q 21 1) (vq : F2 q 0 = .int z) (oq : own2 q = some x) (hz : z ≠ 0) (hO : oo = (1, 0, f, mV (mV (mA σ 1 f) 6 z) 7 1)) (hv3 : v3.category = 1) : WA G d mX1_steps 31 [.ref x, .int (bI b), .ref s2, v3] [.ref q] (sF h2 F2) (OpQ G h F own x [27] oo) := by
  have i1 := R.is
  refine wa_astoreV_n (pc := 31) (y := mX1_steps) dX1_steps_31 (Nat.le_of_ble_eq_true rfl) (by first | rfl | (simp [okst, rf_cat] <;> assumption)) (by first | exact rf_s _ | exact rf_n | exact rf_q _) ?_
  change WA _ _ _ _ (List.set _ 3 _) _ _ _
  simp only [List.set_cons_zero, List.set_cons_succ]
  refine wa_aloadV_n (pc := 32) (y := mX1_steps) dX1_steps_32 rfl (by first | exact rf_s _ | exact rf_n | exact rf_q _) ?_
  refine wa_aloadV_n (pc := 33) (y := mX1_steps) dX1_steps_33 rfl (by first | exact rf_s _ | exact rf_n | exact rf_q _) ?_
  refine wa_callV (pc := 34) (s_X1_kept (d := d - 1) (by omega) R iq vq oq hz) dX1_steps_34 okX1_kept q1993 q1995 qs16 (sF_at (by assumption)) rfl rfl rfl (Nat.le_of_ble_eq_true rfl) (Nat.le_of_ble_eq_true rfl) (by omega) ?_
  rintro _ _ - - ⟨h3, F3, own3, C3, e, rfl, rfl, ch3, R3, ie⟩
  refine aft_v (pc2 := 37) ?_ rfl
  exact wa_athrow (pc := 37) (y := mX1_steps) dX1_steps_37 (wax_out (sF_at ie) rfl (fun z hz => Or.inl (by revert z hz; decide)) (OpQ.thr0 (ch.trans ch3) (by omega) R3 ie (by rw [hO]; exact Nat.succ_ne_zero _) (by rw [hO]; rfl) (by rw [hO]) (by rw [hO]; exact SgE.thr6)))
theorem s_X1_steps (hd : 22 ≤ d) (hG : StG G) (R : CompR G h F own x C f σ) : MA G d mX1_steps [.ref x, .int (bI b)] (sF h F) (OpQ G h F own x [27] (O_steps f σ b)) := by
  have i1 := R.is
  have e0 := R.f0
  have e2 := R.f2
  have k1 := R.sh.is
  have p1 := R.pa.1
  obtain ⟨gf, A, h60, S⟩ := id R.sh
  have h12 := gf.1.1
  have x0 := S.f0
  have x2 := S.f2
  have x3 := S.f3
  have x7 := S.f7
  have xh := S.hm
  have xc := S.cl.1
  have xl := S.fl.1
  have ch := Ch.refl (F := F) R.ob
  change WA G d mX1_steps 0 [.ref x, .int (bI b), .retAddr 0, .retAddr 0] [] _ _
  cases b with
  | false =>
    refine wa_aloadV_n (pc := 0) (y := mX1_steps) dX1_steps_0 rfl (by first | exact rf_s _ | exact rf_n | exact rf_q _) ?_
    refine wf_get (k := 0) (l := 9) 0 dX1_steps_1 (by assumption) rfl q1111 (Or.inl rfl) (Nat.le_of_ble_eq_true rfl) (Nat.le_of_ble_eq_true rfl) (by (repeat (first | exact updF_self _ _ _ _ | (apply updF_i; · decide) | (apply updF_a; · first | assumption | (apply Ne.symm; assumption) | omega) | (apply newF_a; · first | assumption | (apply Ne.symm; assumption) | omega) | exact newL_self (by rfl) | exact newF_self (by rfl) | (apply cpyF_a; · first | assumption | (apply Ne.symm; assumption) | omega))) <;> first | assumption | rfl) ?_
    refine wa_callV (pc := 4) (s_X2_copyA (d := d - 1) (by omega) hG R.em R.ob R.sh) dX1_steps_4 okX2_copy q1175 q1176 q1177 (sF_at (by assumption)) rfl rfl rfl (Nat.le_of_ble_eq_true rfl) (Nat.le_of_ble_eq_true rfl) (by omega) ?_
    rintro _ _ - - ⟨h2, F2, s2, own2, rfl, rfl, fr2, cst2, t2, S2, D2, hs2⟩
    refine aft_v (pc2 := 7) ?_ rfl
    have R2 := R.onS fr2 t2 S2
    have ch2 := Ch.ofS fr2 cst2 t2
    have k2 := D2.is
    have hlt : ∀ s, s ∈ C.hs ∨ C.sv = some s → s ≠ s2 := fun s hs => by have := R.lts hs; omega
    have hne : s2 ≠ C.s := by have := k1.lt; omega
    have hsx : s2 ≠ x := by have := i1.lt; omega
    obtain ⟨gf2, A2, DA⟩ := id D2
    refine wa_astoreV_n (pc := 7) (y := mX1_steps) dX1_steps_7 (Nat.le_of_ble_eq_true rfl) (by first | rfl | (simp [okst, rf_cat] <;> assumption)) (by first | exact rf_s _ | exact rf_n | exact rf_q _) ?_
    change WA _ _ _ _ (List.set _ 2 _) _ _ _
    simp only [List.set_cons_zero, List.set_cons_succ]
    refine wa_iload_n (pc := 8) (y := mX1_steps) dX1_steps_8 rfl ?_
    refine wa_if_eq (pc := 9) 19 dX1_steps_9 rfl (fun hb9 => ?_) (fun hb9 => absurd rfl hb9)
    refine wa_aloadV_n (pc := 19) (y := mX1_steps) dX1_steps_19 rfl (by first | exact rf_s _ | exact rf_n | exact rf_q _) ?_
    refine wa_callV (pc := 20) (s_X2_go (d := d - 1) (by omega) gf2.1 DA) dX1_steps_20 okX2_go q2300 q2301 q2302 (sF_at (by assumption)) rfl rfl rfl (Nat.le_of_ble_eq_true rfl) (Nat.le_of_ble_eq_true rfl) (by omega) ?_
    rintro r h' - - (⟨h9, Q⟩ | ⟨h8, h4, F4, rfl, rfl, fr4, cst4, S4⟩)
    · obtain ⟨h4, F4, own4, q, rfl, rfl, ch4, R4, iq, vq, oq⟩ := R2.rfm (RefQ.rfm Q Fr.refl Cst.refl) hsx hne (fun q => hlt s2 q rfl)
      exact wax_catch "CueStack$Refusal" [] (8, 30, 31, 16) [] (sF_at iq) rfl rfl (fun z hz => by cases hz) rfl (by decide) q1828 q1972 (st_31 (b := false) (by omega) (ch2.trans ch4) (by omega) R4 iq vq oq (by decide) (st_go0 h9) rfl)
    refine aft_v (pc2 := 23) ?_ rfl
    have t3 := OwT.ext (h2 := h4) R2.ob fr4.1.1 s2
    have R3 := R2.oth fr4 t3 hsx hne (fun q => hlt s2 q rfl)
    have D3 := R2.old t3 (F2 := F4) (s := s2) (g := goF f (f (18 + 12 * nxI f (f 2))) (nxI f (f 2))) ⟨good_go gf2 h8, A2, S4⟩
    have j1 := R3.is
    refine wa_istore_n (pc := 23) (y := mX1_steps) dX1_steps_23 (Nat.le_of_ble_eq_true rfl) (by first | rfl | (simp [okst, rf_cat] <;> assumption)) ?_
    change WA _ _ _ _ (List.set _ 3 _) _ _ _
    simp only [List.set_cons_zero, List.set_cons_succ]
    refine wa_aloadV_n (pc := 24) (y := mX1_steps) dX1_steps_24 rfl (by first | exact rf_s _ | exact rf_n | exact rf_q _) ?_
    refine wa_aloadV_n (pc := 25) (y := mX1_steps) dX1_steps_25 rfl (by first | exact rf_s _ | exact rf_n | exact rf_q _) ?_
    refine wa_callV (pc := 26) (s_X1_become (d := d - 1) (by omega) hG R3 D3 hne (fun q => hlt s2 q rfl)) dX1_steps_26 okX1_become q1760 q1762 qs12 (sF_at (by assumption)) rfl rfl rfl (Nat.le_of_ble_eq_true rfl) (Nat.le_of_ble_eq_true rfl) (by omega) ?_
    rintro _ _ - - ⟨h5, F5, own5, C5, rfl, rfl, ch5, R5, hC5⟩
    refine aft_0 (pc2 := 29) ?_ rfl
    refine wa_iload_n (pc := 29) (y := mX1_steps) dX1_steps_29 rfl ?_
    refine wa_ireturn (pc := 30) (y := mX1_steps) .int dX1_steps_30 rfl rfl (OpQ.val ((ch2.trans (Ch.ofS fr4 cst4 t3)).trans ch5) (by omega) R5 (by rw [st_go1 gf2 h8]) (by rw [st_go1 gf2 h8]) (by rw [st_go1 gf2 h8]) (by rw [st_go1 gf2 h8]; exact SgE.chg1))
  | true =>
    refine wa_aloadV_n (pc := 0) (y := mX1_steps) dX1_steps_0 rfl (by first | exact rf_s _ | exact rf_n | exact rf_q _) ?_
    refine wf_get (k := 0) (l := 9) 0 dX1_steps_1 (by assumption) rfl q1111 (Or.inl rfl) (Nat.le_of_ble_eq_true rfl) (Nat.le_of_ble_eq_true rfl) (by (repeat (first | exact updF_self _ _ _ _ | (apply updF_i; · decide) | (apply updF_a; · first | assumption | (apply Ne.symm; assumption) | omega) | (apply newF_a; · first | assumption | (apply Ne.symm; assumption) | omega) | exact newL_self (by rfl) | exact newF_self (by rfl) | (apply cpyF_a; · first | assumption | (apply Ne.symm; assumption) | omega))) <;> first | assumption | rfl) ?_
    refine wa_callV (pc := 4) (s_X2_copyA (d := d - 1) (by omega) hG R.em R.ob R.sh) dX1_steps_4 okX2_copy q1175 q1176 q1177 (sF_at (by assumption)) rfl rfl rfl (Nat.le_of_ble_eq_true rfl) (Nat.le_of_ble_eq_true rfl) (by omega) ?_
    rintro _ _ - - ⟨h2, F2, s2, own2, rfl, rfl, fr2, cst2, t2, S2, D2, hs2⟩
    refine aft_v (pc2 := 7) ?_ rfl
    have R2 := R.onS fr2 t2 S2
    have ch2 := Ch.ofS fr2 cst2 t2
    have k2 := D2.is
    have hlt : ∀ s, s ∈ C.hs ∨ C.sv = some s → s ≠ s2 := fun s hs => by have := R.lts hs; omega
    have hne : s2 ≠ C.s := by have := k1.lt; omega
    have hsx : s2 ≠ x := by have := i1.lt; omega
    obtain ⟨gf2, A2, DA⟩ := id D2
    refine wa_astoreV_n (pc := 7) (y := mX1_steps) dX1_steps_7 (Nat.le_of_ble_eq_true rfl) (by first | rfl | (simp [okst, rf_cat] <;> assumption)) (by first | exact rf_s _ | exact rf_n | exact rf_q _) ?_
    change WA _ _ _ _ (List.set _ 2 _) _ _ _
    simp only [List.set_cons_zero, List.set_cons_succ]
    refine wa_iload_n (pc := 8) (y := mX1_steps) dX1_steps_8 rfl ?_
    refine wa_if_eq (pc := 9) 19 dX1_steps_9 rfl (fun hb9 => absurd hb9 (by decide)) (fun hb9 => ?_)
    refine wa_aloadV_n (pc := 12) (y := mX1_steps) dX1_steps_12 rfl (by first | exact rf_s _ | exact rf_n | exact rf_q _) ?_
    refine wa_callV (pc := 13) (s_X2_back (d := d - 1) (by omega) gf2.1 DA) dX1_steps_13 okX2_back q2286 q2287 q2288 (sF_at (by assumption)) rfl rfl rfl (Nat.le_of_ble_eq_true rfl) (Nat.le_of_ble_eq_true rfl) (by omega) ?_
    rintro r h' - - (⟨h9, Q⟩ | ⟨h8, h4, F4, rfl, rfl, fr4, cst4, S4⟩)
    · obtain ⟨h4, F4, own4, q, rfl, rfl, ch4, R4, iq, vq, oq⟩ := R2.rfm (RefQ.rfm Q Fr.refl Cst.refl) hsx hne (fun q => hlt s2 q rfl)
      exact wax_catch "CueStack$Refusal" [] (8, 30, 31, 16) [] (sF_at iq) rfl rfl (fun z hz => by cases hz) rfl (by decide) q1828 q1972 (st_31 (b := true) (by omega) (ch2.trans ch4) (by omega) R4 iq vq oq (by decide) (st_ba0 gf2 h9) rfl)
    refine aft_v (pc2 := 16) ?_ rfl
    have hle := ip_le f (f 2)
    have t3 := OwT.ext (h2 := h4) R2.ob fr4.1.1 s2
    have R3 := R2.oth fr4 t3 hsx hne (fun q => hlt s2 q rfl)
    have D3 := R2.old t3 (F2 := F4) (s := s2) (g := goF f (f (18 + 12 * (ip f (f 2) - 1))) (ip f (f 2) - 1)) ⟨good_go gf2 (by omega), A2, S4⟩
    have j1 := R3.is
    refine wa_goto (pc := 16) (y := mX1_steps) 23 dX1_steps_16 rfl ?_
    refine wa_istore_n (pc := 23) (y := mX1_steps) dX1_steps_23 (Nat.le_of_ble_eq_true rfl) (by first | rfl | (simp [okst, rf_cat] <;> assumption)) ?_
    change WA _ _ _ _ (List.set _ 3 _) _ _ _
    simp only [List.set_cons_zero, List.set_cons_succ]
    refine wa_aloadV_n (pc := 24) (y := mX1_steps) dX1_steps_24 rfl (by first | exact rf_s _ | exact rf_n | exact rf_q _) ?_
    refine wa_aloadV_n (pc := 25) (y := mX1_steps) dX1_steps_25 rfl (by first | exact rf_s _ | exact rf_n | exact rf_q _) ?_
    refine wa_callV (pc := 26) (s_X1_become (d := d - 1) (by omega) hG R3 D3 hne (fun q => hlt s2 q rfl)) dX1_steps_26 okX1_become q1760 q1762 qs12 (sF_at (by assumption)) rfl rfl rfl (Nat.le_of_ble_eq_true rfl) (Nat.le_of_ble_eq_true rfl) (by omega) ?_
    rintro _ _ - - ⟨h5, F5, own5, C5, rfl, rfl, ch5, R5, hC5⟩
    refine aft_0 (pc2 := 29) ?_ rfl
    refine wa_iload_n (pc := 29) (y := mX1_steps) dX1_steps_29 rfl ?_
    refine wa_ireturn (pc := 30) (y := mX1_steps) .int dX1_steps_30 rfl rfl (OpQ.val ((ch2.trans (Ch.ofS fr4 cst4 t3)).trans ch5) (by omega) R5 (by rw [st_ba1 gf2 h8]) (by rw [st_ba1 gf2 h8]) (by rw [st_ba1 gf2 h8]) (by rw [st_ba1 gf2 h8]; exact SgE.chg1))
/-- an exception of an operation goes through its caller -/
theorem op_out {y : MD} {pc : Nat} {ls : List Value} {Q : RR → AH → Prop} (iq : Is h q kd 0) (hk : [27][i]? = some kd) (hp : ∀ z ∈ tableOf y.2.2.2.2, covers z pc = false) (hQ : Q (.inr q) (sF h F)) : WAX G d y pc ls q (sF h F) Q := by
  have e : kd = 27 := by
    cases i with
    | zero => exact (Option.some.inj hk).symm
    | succ i => cases hk
  subst e
  exact wax_out (sF_at iq) rfl (fun z hz => Or.inl (hp z hz)) hQ
theorem s_X1_go (hd : 23 ≤ d) (hG : StG G) (R : CompR G h F own x C f σ) : MA G d mX1_go [.ref x] (sF h F) (OpQ G h F own x [27] (O_steps f σ false)) := by
  have i1 := R.is
  change WA G d mX1_go 0 [.ref x] [] _ _
  refine wa_aloadV_n (pc := 0) (y := mX1_go) dX1_go_0 rfl (by first | exact rf_s _ | exact rf_n | exact rf_q _) ?_
  refine wa_iconst (pc := 1) (y := mX1_go) (Int32.ofNat 0) dX1_go_1 rfl ?_
  refine wa_callV (pc := 2) (s_X1_steps (b := false) (d := d - 1) (by omega) hG R) dX1_go_2 okX1_steps q2282 q2284 qs26 (sF_at (by assumption)) rfl rfl rfl (Nat.le_of_ble_eq_true rfl) (Nat.le_of_ble_eq_true rfl) (by omega) ?_
  rintro r h' - - ⟨h2, F2, own2, C2, rfl, ch, R2, (⟨e, rfl⟩ | ⟨e, q, kd, hk, rfl, iq⟩)⟩
  rotate_left
  · exact op_out iq hk (fun z hz => by cases hz) ⟨h2, F2, own2, C2, rfl, ch, R2, Or.inr ⟨e, q, kd, hk, rfl, iq⟩⟩
  refine aft_v (pc2 := 5) ?_ rfl
  refine wa_ireturn (pc := 5) (y := mX1_go) .int dX1_go_5 rfl rfl ⟨h2, F2, own2, C2, rfl, ch, R2, Or.inl ⟨e, rfl⟩⟩
theorem s_X1_back (hd : 23 ≤ d) (hG : StG G) (R : CompR G h F own x C f σ) : MA G d mX1_back [.ref x] (sF h F) (OpQ G h F own x [27] (O_steps f σ true)) := by
  have i1 := R.is
  change WA G d mX1_back 0 [.ref x] [] _ _
  refine wa_aloadV_n (pc := 0) (y := mX1_back) dX1_back_0 rfl (by first | exact rf_s _ | exact rf_n | exact rf_q _) ?_
  refine wa_iconst (pc := 1) (y := mX1_back) (Int32.ofNat 1) dX1_back_1 rfl ?_
  refine wa_callV (pc := 2) (s_X1_steps (b := true) (d := d - 1) (by omega) hG R) dX1_back_2 okX1_steps q2282 q2284 qs26 (sF_at (by assumption)) rfl rfl rfl (Nat.le_of_ble_eq_true rfl) (Nat.le_of_ble_eq_true rfl) (by omega) ?_
  rintro r h' - - ⟨h2, F2, own2, C2, rfl, ch, R2, (⟨e, rfl⟩ | ⟨e, q, kd, hk, rfl, iq⟩)⟩
  rotate_left
  · exact op_out iq hk (fun z hz => by cases hz) ⟨h2, F2, own2, C2, rfl, ch, R2, Or.inr ⟨e, q, kd, hk, rfl, iq⟩⟩
  refine aft_v (pc2 := 5) ?_ rfl
  refine wa_ireturn (pc := 5) (y := mX1_back) .int dX1_back_5 rfl rfl ⟨h2, F2, own2, C2, rfl, ch, R2, Or.inl ⟨e, rfl⟩⟩
end OPS4
