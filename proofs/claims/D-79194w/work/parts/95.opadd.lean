/-! ===== CueStack: addCue, cueAt ===== -/
section OPADD
variable {G : GG} {d n : Nat} {h h2 h3 : AH} {F F2 F3 : Nat → Nat → Value} {own own2 own3 : Nat → Option Nat} {x s s1 s2 k i j : Nat} {C : CA} {f f2 g : Nat → Int32} {σ σ2 : MS} {P O : Nat → Prop} {r : RR} {h' : AH} {A : SA} {v : Int32}
theorem OwB.lt (hB : OwB own h) {b s : Nat} (e : own b = some s) : b < h.1 := by
  by_cases e9 : b < h.1
  · exact e9
  · rw [hB b (by omega)] at e; cases e
theorem HmI.ad {p : Nat} (hH : HmI f) (hp : p ≤ u (f 0)) (hn : u (f 0) < 12) : HmI (adF f v p) := fun c hc => by rw [adF_hi hp hn (by omega)]; exact hH c hc
theorem dA_good (gf : GoodF f) (e : (dA f v).1 = 0) : GoodF (dA f v).2 := by
  refine ⟨dA_inv gf.1, ?_, ?_⟩
  · unfold dA at e ⊢
    split
    · exact gf.2.1
    · split
      · exact gf.2.1
      · exact gf.2.1.ad (ip_le f v) (by have := gf.1.1; omega)
  · unfold dA at e ⊢
    split
    · exact gf.2.2
    · split
      · exact gf.2.2
      · show 0 ≤ adF f v (ip f v) 2
        rw [adF_hi (ip_le f v) (by have := gf.1.1; omega) (by omega)]; exact gf.2.2
theorem dA_gz (gf : GoodF f) (j : Nat) (hj : 162 ≤ j) : (dA f v).2 j = f j := by
  unfold dA
  split
  · rfl
  · split
    · rfl
    · exact adF_hi (ip_le f v) (by have := gf.1.1; omega) (Or.inl hj)
theorem dA_same (e : (dA f v).1 ≠ 0) : (dA f v).2 = f := by
  unfold dA at e ⊢
  split
  · rfl
  · split
    · rfl
    · rename_i h1 h2
      rw [if_neg h1, if_neg h2] at e
      exact absurd rfl e
/-- a show of the fresh cells, in the model's form -/
theorem ShowAt.new {f2 : Nat → Int32} {A2 : SA} (S : ShowR G h2 F2 (fun b => own b = some s ∨ h.1 ≤ b) s A2 f2 (gz f)) (hB : OwB own h) (hle : h.1 ≤ h2.1) (gf : GoodF f2) (hz : ∀ j, j < 60 → f2 (402 + j) = f (402 + j)) : ShowAt G h2 F2 (fun b => if b < h.1 then own b else if b < h2.1 then some s else none) s f2 :=
  ⟨gf, A2, gf.1.2.1, (S.cg (fun _ _ => rfl) (fun _ _ _ => rfl) (fun j hj => (hz j hj))).mono fun b hb q => by
    by_cases e : b < h.1
    · exact (if_pos e).trans (q.resolve_right (by omega))
    · exact (if_neg e).trans (if_pos hb)⟩
theorem s_X1_addCue (hd : 20 ≤ d) (hG : StG G) (R : CompR G h F own x C f σ) : MA G d mX1_addCue [.ref x, .int v] (sF h F) (OpQ G h F own x [23, 24] (O_addCue f σ v)) := by
  have i1 := R.is
  have e0 := R.f0
  have k1 := R.sh.is
  change WA G d mX1_addCue 0 [.ref x, .int v, .retAddr 0] [] _ _
  refine wa_aloadV_n (pc := 0) (y := mX1_addCue) dX1_addCue_0 rfl (by first | exact rf_s _ | exact rf_n | exact rf_q _) ?_
  refine wf_get (k := 0) (l := 9) 0 dX1_addCue_1 (by assumption) rfl q1111 (Or.inl rfl) (Nat.le_of_ble_eq_true rfl) (Nat.le_of_ble_eq_true rfl) (by (repeat (first | exact updF_self _ _ _ _ | (apply updF_i; · decide) | (apply updF_a; · first | assumption | (apply Ne.symm; assumption) | omega) | (apply newF_a; · first | assumption | (apply Ne.symm; assumption) | omega) | exact newL_self (by rfl) | exact newF_self (by rfl) | (apply cpyF_a; · first | assumption | (apply Ne.symm; assumption) | omega))) <;> first | assumption | rfl) ?_
  refine wa_callV (pc := 4) (s_X2_copyA (d := d - 1) (by omega) hG R.em R.ob R.sh) dX1_addCue_4 okX2_copy q1175 q1176 q1177 (sF_at (by assumption)) rfl rfl rfl (Nat.le_of_ble_eq_true rfl) (Nat.le_of_ble_eq_true rfl) (by omega) ?_
  rintro _ _ - - ⟨h2, F2, s2, own2, rfl, rfl, fr2, cst2, t2, S2, D2, hs2⟩
  refine aft_v (pc2 := 7) ?_ rfl
  have R2 := R.onS fr2 t2 S2
  have ch2 := Ch.ofS fr2 cst2 t2
  have k2 := D2.is
  obtain ⟨gf, A, h60, DA⟩ := id D2
  refine wa_astoreV_n (pc := 7) (y := mX1_addCue) dX1_addCue_7 (Nat.le_of_ble_eq_true rfl) (by first | rfl | (simp [okst, rf_cat] <;> assumption)) (by first | exact rf_s _ | exact rf_n | exact rf_q _) ?_
  change WA _ _ _ _ (List.set _ 2 _) _ _ _
  simp only [List.set_cons_zero, List.set_cons_succ]
  refine wa_aloadV_n (pc := 8) (y := mX1_addCue) dX1_addCue_8 rfl (by first | exact rf_s _ | exact rf_n | exact rf_q _) ?_
  refine wa_iload_n (pc := 9) (y := mX1_addCue) dX1_addCue_9 rfl ?_
  refine wa_callV (pc := 10) (s_X2_addCue (d := d - 1) (v := v) (by omega) hG DA (fun b hb => R2.ob.lt hb)) dX1_addCue_10 okX2_addCue q1687 q1688 q1689 (sF_at (by assumption)) rfl rfl rfl (Nat.le_of_ble_eq_true rfl) (Nat.le_of_ble_eq_true rfl) (by omega) ?_
  rintro r h' - - (⟨e, T⟩ | ⟨e, T⟩ | ⟨e, h3, F3, A3, rfl, rfl, fr3, cst3, S3⟩)
  · exact T.after ⟨_, rfl⟩ rfl fun h3 F3 q fr cst iq => OpQ.thr ch2 (by omega) R2 fr cst iq (o := O_addCue f σ v) (by unfold O_addCue; rw [if_neg (by omega)]; show (dA f v).1 ≠ 0; omega) (by unfold O_addCue; rw [if_neg (by omega)]; show [23, 24][(dA f v).1 - 1]? = _; rw [e]; rfl) (by unfold O_addCue; rw [if_neg (by omega)]; exact dA_same (by omega)) (by unfold O_addCue; rw [if_neg (by omega)]; exact SgE.a1)
  · exact T.after ⟨_, rfl⟩ rfl fun h3 F3 q fr cst iq => OpQ.thr ch2 (by omega) R2 fr cst iq (o := O_addCue f σ v) (by unfold O_addCue; rw [if_neg (by omega)]; show (dA f v).1 ≠ 0; omega) (by unfold O_addCue; rw [if_neg (by omega)]; show [23, 24][(dA f v).1 - 1]? = _; rw [e]; rfl) (by unfold O_addCue; rw [if_neg (by omega)]; exact dA_same (by omega)) (by unfold O_addCue; rw [if_neg (by omega)]; exact SgE.a1)
  refine aft_0 (pc2 := 13) ?_ rfl
  have t3 := OwT.ext (h2 := h3) R2.ob fr3.1.1 s2
  have hlt : ∀ s, s ∈ C.hs ∨ C.sv = some s → s ≠ s2 := fun s hs => by have := R.lts hs; omega
  have hne : s2 ≠ C.s := by have := k1.lt; omega
  have R3 := R2.oth fr3 t3 (by have := i1.lt; omega) hne (fun q => hlt s2 q rfl)
  have D3 := ShowAt.new S3 R2.ob fr3.1.1 (dA_good gf e) (fun j hj => dA_gz gf _ (by omega))
  have j1 := R3.is
  refine wa_aloadV_n (pc := 13) (y := mX1_addCue) dX1_addCue_13 rfl (by first | exact rf_s _ | exact rf_n | exact rf_q _) ?_
  refine wa_aloadV_n (pc := 14) (y := mX1_addCue) dX1_addCue_14 rfl (by first | exact rf_s _ | exact rf_n | exact rf_q _) ?_
  refine wa_callV (pc := 15) (s_X1_become (d := d - 1) (by omega) hG R3 D3 hne (fun q => hlt s2 q rfl)) dX1_addCue_15 okX1_become q1760 q1762 qs12 (sF_at (by assumption)) rfl rfl rfl (Nat.le_of_ble_eq_true rfl) (Nat.le_of_ble_eq_true rfl) (by omega) ?_
  rintro _ _ - - ⟨h4, F4, own4, C4, rfl, rfl, ch4, R4, hC4⟩
  refine aft_0 (pc2 := 18) ?_ rfl
  have j2 := R4.is; have j3 := R4.f0; have j4 := R4.sh.is
  obtain ⟨gf5, A5, h605, S5⟩ := R4.sh
  have j5 := S5.f0; have j6 := S5.cl.1
  refine wa_aloadV_n (pc := 18) (y := mX1_addCue) dX1_addCue_18 rfl (by first | exact rf_s _ | exact rf_n | exact rf_q _) ?_
  refine wf_get (k := 0) (l := 9) 0 dX1_addCue_19 (by assumption) rfl q1111 (Or.inl rfl) (Nat.le_of_ble_eq_true rfl) (Nat.le_of_ble_eq_true rfl) (by (repeat (first | exact updF_self _ _ _ _ | (apply updF_i; · decide) | (apply updF_a; · first | assumption | (apply Ne.symm; assumption) | omega) | (apply newF_a; · first | assumption | (apply Ne.symm; assumption) | omega) | exact newL_self (by rfl) | exact newF_self (by rfl) | (apply cpyF_a; · first | assumption | (apply Ne.symm; assumption) | omega))) <;> first | assumption | rfl) ?_
  refine wf_getN (k := 1) (l := 8) 0 dX1_addCue_22 (by assumption) rfl q356 (Or.inl rfl) (Nat.le_of_ble_eq_true rfl) (Nat.le_of_ble_eq_true rfl) (by (repeat (first | exact updF_self _ _ _ _ | (apply updF_i; · decide) | (apply updF_a; · first | assumption | (apply Ne.symm; assumption) | omega) | (apply newF_a; · first | assumption | (apply Ne.symm; assumption) | omega) | exact newL_self (by rfl) | exact newF_self (by rfl) | (apply cpyF_a; · first | assumption | (apply Ne.symm; assumption) | omega))) <;> first | assumption | rfl) ?_
  refine wa_callV (pc := 25) (s_J2_size (d := d - 1) S5.cl) dX1_addCue_25 okJ2_size q1144 q1145 q1146 (sF_at (by assumption)) rfl rfl rfl (Nat.le_of_ble_eq_true rfl) (Nat.le_of_ble_eq_true rfl) (by omega) ?_
  rintro _ _ - - ⟨rfl, rfl⟩
  refine aft_v (pc2 := 28) ?_ rfl
  rw [← S5.nc, u_self]
  refine wa_ireturn (pc := 28) (y := mX1_addCue) .int dX1_addCue_28 rfl rfl (OpQ.val (o := O_addCue f σ v) ((ch2.trans (Ch.ofS fr3 cst3 t3)).trans ch4) (by omega) R4 (by unfold O_addCue; rw [if_pos e]) (by unfold O_addCue; rw [if_pos e]) (by unfold O_addCue; rw [if_pos e]) (by unfold O_addCue; rw [if_pos e]; exact SgE.chg1))
end OPADD
