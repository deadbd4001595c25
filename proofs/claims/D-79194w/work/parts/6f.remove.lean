/-! ===== TreeNode: removeTreeNode ===== -/
/-- a bin as a removal leaves it: nodes B' in some order -/
def RmQ (h : AH) (F : Nat → Nat → Value) (tb bi : Nat) (B B' : List Nat) (κ : Nat → Nat) (r : RR) (h' : AH) : Prop :=
  r = .inl none ∧ ∃ (F2 : Nat → Nat → Value) (B2 : List Nat), h' = sF h F2 ∧ (∀ p, p ∈ B2 ↔ p ∈ B') ∧ B2.Nodup ∧ F2 tb bi = va_rf B2.head? ∧ TBin h F2 B2 κ ∧ FrP (fun z j => z = tb ∧ j = bi ∨ z ∈ B ∧ (j = 3 ∨ j = 6 ∨ j = 7 ∨ j = 8 ∨ j = 9 ∨ j = 10)) F F2
section REMOVE
variable {G : GG} {d n : Nat} {h h2 : AH} {F F0 F2 F3 : Nat → Nat → Value} {S : Nat → Prop} {κ key : Nat → Nat} {tb bi k p q x c root m r0 : Nat} {B B1 a b ns : List Nat} {mv : Bool} {v4 v5 v6 v7 v8 v9 v10 v11 v12 v13 v14 v15 v16 v17 v18 v19 v20 : Value} {L R P : Nat → Option Nat} {C : Nat → Bool} {lo hi rk : Nat → Nat} {top M : Nat}
/-- the end: perhaps the root comes to the front -/
theorem rt_626 (hd : 2 ≤ d) (hG : StG G) (ht : Is h tb 36 (2 ^ k)) (hk : k < 16) (hn : B1.Nodup) (hsub : ∀ z, z ∈ B1 → z ∈ B) (hI : ∀ z, z ∈ B → Is h z 14 11) (h0 : ∀ z, z ∈ B1 → F z 0 = .int (Int32.ofNat (κ z)) ∧ κ z < 1200 ∧ κ z % 2 ^ k = bi) (hs : F tb bi = va_rf B1.head?) (dl : DL F 3 9 B1)
    (t : TrB h F (· ∈ B1) κ r0 1200) (fr : FrP (fun z j => z = tb ∧ j = bi ∨ z ∈ B ∧ (j = 3 ∨ j = 6 ∨ j = 7 ∨ j = 8 ∨ j = 9 ∨ j = 10)) F0 F) :
    WA G d mJ26_removeTreeNode 626 [.ref p, .ref m, .ref tb, .int (bI mv), v4, v5, v6, v7, v8, v9, v10, v11, v12, v13, v14, .ref r0, v16, v17, v18, v19, v20] [] (sF h F) (RmQ h F0 tb bi B B1 κ) := by
  have hr := t.mem
  refine wa_iload_n (pc := 626) (y := mJ26_removeTreeNode) dJ26_removeTreeNode_626 rfl ?_
  refine wa_if_eq (pc := 627) 636 dJ26_removeTreeNode_627 rfl (fun hb627 => ?_) (fun hb627 => ?_)
  · refine wa_return (pc := 636) (y := mJ26_removeTreeNode) dJ26_removeTreeNode_636 rfl (by first | exact ⟨rfl, F2, B2, rfl, b1, b2, b3, b4, fr.trans (b5.mono fun z j hz => hz.imp id fun hz => ⟨hsub z hz.1, hz.2⟩)⟩ | exact ⟨rfl, F, B1, rfl, fun _ => Iff.rfl, hn, hs, ⟨dl, r0, t⟩, fr⟩)
  · refine wa_aloadV_n (pc := 630) (y := mJ26_removeTreeNode) dJ26_removeTreeNode_630 rfl (by first | exact rf_s _ | exact rf_n | exact rf_q _) ?_
    refine wa_aloadV (pc := 631) (y := mJ26_removeTreeNode) dJ26_removeTreeNode_631 rfl (by first | exact rf_s _ | exact rf_n | exact rf_q _) ?_
    refine wa_callS (pc := 633) (tf_end (d := d - 1) (mF := F) hG ht hk hn (fun z hz => hI z (hsub z hz)) (h0 r0 hr).1 (h0 r0 hr).2.1 (h0 r0 hr).2.2 hs dl t FrP.refl) dJ26_removeTreeNode_633 okJ26_moveRootToFront q1370 q1371 rfl rfl (Nat.le_of_ble_eq_true rfl) (Nat.le_of_ble_eq_true rfl) (by omega) ?_
    rintro _ _ - - ⟨rfl, F2, B2, rfl, b1, b2, b3, b4, b5⟩
    refine aft_0 (pc2 := 636) ?_ rfl
    refine wa_return (pc := 636) (y := mJ26_removeTreeNode) dJ26_removeTreeNode_636 rfl (by first | exact ⟨rfl, F2, B2, rfl, b1, b2, b3, b4, fr.trans (b5.mono fun z j hz => hz.imp id fun hz => ⟨hsub z hz.1, hz.2⟩)⟩ | exact ⟨rfl, F, B1, rfl, fun _ => Iff.rfl, hn, hs, ⟨dl, r0, t⟩, fr⟩)
theorem S_of (hB : B = a ++ p :: b) (hn : B.Nodup) : (fun z => z ∈ B ∧ z ≠ p) = (fun z => z ∈ a ++ b) := by
  funext z
  subst hB
  apply propext
  grind [List.nodup_append]
/-- who stays has its own key again -/
theorem T0.back {key2 : Nat → Nat} (t : T0 (fun z => z ∈ B ∧ z ≠ p) key2 root L R P lo hi rk (2 * 1200) M) (tl : TL h F (fun z => z ∈ B ∧ z ≠ p) L R P C) (hB : B = a ++ p :: b) (hn : B.Nodup) (e : ∀ z, z ∈ B → z ≠ p → key2 z = 2 * κ z) : TrB h F (· ∈ a ++ b) κ root 1200 := by
  rw [← S_of hB hn]
  exact ⟨L, R, P, C, _, _, rk, M, t.half (fun z hz => e z hz.1 hz.2), tl⟩
theorem TrB.back2 {key2 : Nat → Nat} (t : TrB h F (fun z => z ∈ B ∧ z ≠ p) key2 root (2 * 1200)) (hB : B = a ++ p :: b) (hn : B.Nodup) (e : ∀ z, z ∈ B → z ≠ p → key2 z = 2 * κ z) : TrB h F (· ∈ a ++ b) κ root 1200 := by
  obtain ⟨L, R, P, C, lo, hi, rk, M, t1, t2⟩ := t
  exact T0.back t1 t2 hB hn e
/-- the leaf p goes -/
theorem rt_566 {key2 : Nat → Nat} (hd : 2 ≤ d) (hB : B = a ++ p :: b) (hn : B.Nodup) (hne : ∃ z, z ∈ B ∧ z ≠ p) (e : ∀ z, z ∈ B → z ≠ p → key2 z = 2 * κ z) (hinj : ∀ a b, a ∈ B → b ∈ B → key2 a = key2 b → a = b)
    (t : T0 (· ∈ B) key2 root L R P lo hi rk (2 * 1200) M) (tl : TL h F (· ∈ B) L R P C) (hl : L p = none) (hr : R p = none) {Q : RR → AH → Prop}
    (KQ : ∀ (F6 : Nat → Nat → Value) (v16 : Value), TrB h F6 (· ∈ a ++ b) κ root 1200 → FrP (fun z j => z ∈ B ∧ (j = 6 ∨ j = 7 ∨ j = 8)) F F6 → WA G d mJ26_removeTreeNode 626 [.ref p, .ref m, .ref tb, .int (bI mv), v4, v5, v6, v7, v8, v9, v10, .ref p, v12, v13, .ref p, .ref r0, v16, v17, v18, v19, v20] [] (sF h F6) Q) :
    WA G d mJ26_removeTreeNode 566 [.ref p, .ref m, .ref tb, .int (bI mv), v4, v5, v6, v7, v8, v9, v10, .ref p, v12, v13, .ref p, .ref r0, v16, v17, v18, v19, v20] [] (sF h F) Q := by
  have hp : p ∈ B := by rw [hB]; simp
  obtain ⟨p1, p2, p3, p4, p5⟩ := tl p hp
  have hPp : ∃ z, P p = some z := by
    cases h9 : P p with
    | some z => exact ⟨z, rfl⟩
    | none =>
      exfalso
      obtain ⟨z, hz, hzp⟩ := hne
      have hr9 := ((t.2 p hp).2.1 h9).1
      obtain ⟨k9, hk9⟩ := Anc.top_ t _ z hz (Nat.le_refl _)
      rw [← hr9] at hk9
      cases k9 with
      | zero => exact hzp hk9.symm
      | succ k9 =>
        obtain ⟨c, h3, h4⟩ := Anc.child hk9
        have hc := (Anc.mem t hz h4).1
        rcases ((t.2 c hc).2.2.2.2 p h3).2 with h5 | h5
        · rw [hl] at h5; cases h5
        · rw [hr] at h5; cases h5
  obtain ⟨z, hz⟩ := hPp
  obtain ⟨hzB, -, hzp, hside⟩ := t.up hp hz
  obtain ⟨z1, z2, z3, z4, z5⟩ := tl z hzB
  have t9 := t.leaf hp hl hr hz
  rw [hz] at p2
  have fin : ∀ F6 : Nat → Nat → Value, (∀ w, w ∈ B → w ≠ p → F6 w 6 = F w 6 ∧ F6 w 7 = (if w = z ∧ L z = some p then .null else F w 7) ∧ F6 w 8 = (if w = z ∧ R z = some p then .null else F w 8) ∧ F6 w 10 = F w 10) → TrB h F6 (· ∈ a ++ b) κ root 1200 := by
    intro F6 hF
    refine T0.back (C := C) t9 (fun w hw => ?_) hB hn e
    obtain ⟨w1, w2, w3, w4, w5⟩ := tl w hw.1
    obtain ⟨f6, f7, f8, f10⟩ := hF w hw.1 hw.2
    refine ⟨w1, f6.trans w2, ?_, ?_, f10.trans w5⟩
    · rw [f7, hz]
      unfold chn
      grind [va_rf]
    · rw [f8, hz]
      unfold chn
      grind [va_rf]
  have hLR : ¬ (L z = some p ∧ R z = some p) := fun h9 => t.sib hzB h9.1 h9.2 rfl
  refine wa_aloadV (pc := 566) (y := mJ26_removeTreeNode) dJ26_removeTreeNode_566 rfl (by first | exact rf_s _ | exact rf_n | exact rf_q _) ?_
  refine wa_aloadV (pc := 568) (y := mJ26_removeTreeNode) dJ26_removeTreeNode_568 rfl (by first | exact rf_s _ | exact rf_n | exact rf_q _) ?_
  refine wa_acneV (pc := 570) 626 dJ26_removeTreeNode_570 rfl (by first | exact rf_s _ | exact rf_n | exact rf_q _) (by first | exact rf_s _ | exact rf_n | exact rf_q _) (fun hb570 => absurd rfl hb570) (fun hb570 => ?_)
  refine wa_aloadV (pc := 573) (y := mJ26_removeTreeNode) dJ26_removeTreeNode_573 rfl (by first | exact rf_s _ | exact rf_n | exact rf_q _) ?_
  refine wf_get (k := 14) (l := 11) 6 dJ26_removeTreeNode_575 (by assumption) rfl q1614 (Or.inl rfl) (Nat.le_of_ble_eq_true rfl) (Nat.le_of_ble_eq_true rfl) (by (repeat (first | exact updF_self _ _ _ _ | (apply updF_i; · decide) | (apply updF_a; · first | assumption | (apply Ne.symm; assumption) | omega) | (apply newF_a; · first | assumption | (apply Ne.symm; assumption) | omega) | exact newL_self (by rfl) | exact newF_self (by rfl) | (apply cpyF_a; · first | assumption | (apply Ne.symm; assumption) | omega))) <;> first | assumption | rfl) ?_
  refine wa_astoreV (pc := 578) (y := mJ26_removeTreeNode) dJ26_removeTreeNode_578 (Nat.le_of_ble_eq_true rfl) (by first | rfl | (simp [okst, rf_cat] <;> assumption)) (by first | exact rf_s _ | exact rf_n | exact rf_q _) ?_
  simp only [List.set_cons_zero, List.set_cons_succ]
  refine wa_aloadV (pc := 580) (y := mJ26_removeTreeNode) dJ26_removeTreeNode_580 rfl (by first | exact rf_s _ | exact rf_n | exact rf_q _) ?_
  refine wa_null (pc := 582) (y := mJ26_removeTreeNode) dJ26_removeTreeNode_582 ?_
  refine wf_put (k := 14) (l := 11) 6 (.object "java/util/HashMap$TreeNode") dJ26_removeTreeNode_583 (by assumption) rfl q1614 (Or.inl rfl) (Nat.le_of_ble_eq_true rfl) rfl (by decide +kernel) (by first | rfl | exact rf_nar _ | exact rf_nar2 _) (by first | rfl | exact rf_fit _ | exact rf_fit2 _) ?_
  refine wa_aloadV (pc := 586) (y := mJ26_removeTreeNode) dJ26_removeTreeNode_586 rfl (by first | exact rf_s _ | exact rf_n | exact rf_q _) ?_
  refine wa_ifnull (pc := 588) (y := mJ26_removeTreeNode) dJ26_removeTreeNode_588 ?_
  refine wa_aloadV (pc := 591) (y := mJ26_removeTreeNode) dJ26_removeTreeNode_591 rfl (by first | exact rf_s _ | exact rf_n | exact rf_q _) ?_
  refine wa_aloadV (pc := 593) (y := mJ26_removeTreeNode) dJ26_removeTreeNode_593 rfl (by first | exact rf_s _ | exact rf_n | exact rf_q _) ?_
  refine wf_get (k := 14) (l := 11) 7 dJ26_removeTreeNode_595 (by assumption) rfl q1615 (Or.inl rfl) (Nat.le_of_ble_eq_true rfl) (Nat.le_of_ble_eq_true rfl) (by (repeat (first | exact updF_self _ _ _ _ | (apply updF_i; · decide) | (apply updF_a; · first | assumption | (apply Ne.symm; assumption) | omega) | (apply newF_a; · first | assumption | (apply Ne.symm; assumption) | omega) | exact newL_self (by rfl) | exact newF_self (by rfl) | (apply cpyF_a; · first | assumption | (apply Ne.symm; assumption) | omega))) <;> first | assumption | rfl) ?_
  refine wa_acneV (pc := 598) 610 dJ26_removeTreeNode_598 rfl (by first | exact rf_s _ | exact rf_n | exact rf_q _) (by first | exact rf_s _ | exact rf_n | exact rf_q _) (fun hb598 => ?_) (fun hb598 => ?_)
  · refine wa_aloadV (pc := 610) (y := mJ26_removeTreeNode) dJ26_removeTreeNode_610 rfl (by first | exact rf_s _ | exact rf_n | exact rf_q _) ?_
    refine wa_aloadV (pc := 612) (y := mJ26_removeTreeNode) dJ26_removeTreeNode_612 rfl (by first | exact rf_s _ | exact rf_n | exact rf_q _) ?_
    refine wf_get (k := 14) (l := 11) 8 dJ26_removeTreeNode_614 (by assumption) rfl q1616 (Or.inl rfl) (Nat.le_of_ble_eq_true rfl) (Nat.le_of_ble_eq_true rfl) (by (repeat (first | exact updF_self _ _ _ _ | (apply updF_i; · decide) | (apply updF_a; · first | assumption | (apply Ne.symm; assumption) | omega) | (apply newF_a; · first | assumption | (apply Ne.symm; assumption) | omega) | exact newL_self (by rfl) | exact newF_self (by rfl) | (apply cpyF_a; · first | assumption | (apply Ne.symm; assumption) | omega))) <;> first | assumption | rfl) ?_
    refine wa_acneV (pc := 617) 626 dJ26_removeTreeNode_617 rfl (by first | exact rf_s _ | exact rf_n | exact rf_q _) (by first | exact rf_s _ | exact rf_n | exact rf_q _) (fun hb617 => ?_) (fun hb617 => ?_)
    · first | exact KQ _ _ (fin _ fun w hw hwp => by have h98 := hb598; grind [updF_eq]) (by repeat (first | exact FrP.refl | refine FrP.upd ?_ (by first | exact ⟨hp, by decide⟩ | exact ⟨hzB, by decide⟩))) | exact KQ _ _ (fin _ fun w hw hwp => by have h98 := hb598; have h17 := hb617; grind [updF_eq]) (by repeat (first | exact FrP.refl | refine FrP.upd ?_ (by first | exact ⟨hp, by decide⟩ | exact ⟨hzB, by decide⟩)))
    · refine wa_aloadV (pc := 620) (y := mJ26_removeTreeNode) dJ26_removeTreeNode_620 rfl (by first | exact rf_s _ | exact rf_n | exact rf_q _) ?_
      refine wa_null (pc := 622) (y := mJ26_removeTreeNode) dJ26_removeTreeNode_622 ?_
      refine wf_put (k := 14) (l := 11) 8 (.object "java/util/HashMap$TreeNode") dJ26_removeTreeNode_623 (by assumption) rfl q1616 (Or.inl rfl) (Nat.le_of_ble_eq_true rfl) rfl (by decide +kernel) (by first | rfl | exact rf_nar _ | exact rf_nar2 _) (by first | rfl | exact rf_fit _ | exact rf_fit2 _) ?_
      first | exact KQ _ _ (fin _ fun w hw hwp => by have h98 := hb598; grind [updF_eq]) (by repeat (first | exact FrP.refl | refine FrP.upd ?_ (by first | exact ⟨hp, by decide⟩ | exact ⟨hzB, by decide⟩))) | exact KQ _ _ (fin _ fun w hw hwp => by have h98 := hb598; have h17 := hb617; grind [updF_eq]) (by repeat (first | exact FrP.refl | refine FrP.upd ?_ (by first | exact ⟨hp, by decide⟩ | exact ⟨hzB, by decide⟩)))
  · refine wa_aloadV (pc := 601) (y := mJ26_removeTreeNode) dJ26_removeTreeNode_601 rfl (by first | exact rf_s _ | exact rf_n | exact rf_q _) ?_
    refine wa_null (pc := 603) (y := mJ26_removeTreeNode) dJ26_removeTreeNode_603 ?_
    refine wf_put (k := 14) (l := 11) 7 (.object "java/util/HashMap$TreeNode") dJ26_removeTreeNode_604 (by assumption) rfl q1615 (Or.inl rfl) (Nat.le_of_ble_eq_true rfl) rfl (by decide +kernel) (by first | rfl | exact rf_nar _ | exact rf_nar2 _) (by first | rfl | exact rf_fit _ | exact rf_fit2 _) ?_
    refine wa_goto (pc := 607) (y := mJ26_removeTreeNode) 626 dJ26_removeTreeNode_607 rfl ?_
    first | exact KQ _ _ (fin _ fun w hw hwp => by have h98 := hb598; grind [updF_eq]) (by repeat (first | exact FrP.refl | refine FrP.upd ?_ (by first | exact ⟨hp, by decide⟩ | exact ⟨hzB, by decide⟩))) | exact KQ _ _ (fin _ fun w hw hwp => by have h98 := hb598; have h17 := hb617; grind [updF_eq]) (by repeat (first | exact FrP.refl | refine FrP.upd ?_ (by first | exact ⟨hp, by decide⟩ | exact ⟨hzB, by decide⟩)))
theorem rf_null {o : Option Nat} (h : Value.null = va_rf o) : o = none := by
  cases o with
  | none => rfl
  | some z => cases h
theorem rt_544A {key2 : Nat → Nat} (hd : 3 ≤ d) (hB : B = a ++ p :: b) (hn : B.Nodup) (hpI : Is h p 14 11) (e : ∀ z, z ∈ B → z ≠ p → key2 z = 2 * κ z) {cp : Bool} (hcp : F p 10 = .int (bI cp)) (hcp2 : c ≠ p)
    (t : T0 (fun z => z ∈ B ∧ z ≠ p) key2 root L R P lo hi rk (2 * 1200) M) (tl : TL h F (fun z => z ∈ B ∧ z ≠ p) L R P C) (hc : c ∈ B) {Q : RR → AH → Prop}
    (KQ : ∀ (F6 : Nat → Nat → Value) (r0 : Nat) (v14 v16 : Value), TrB h F6 (· ∈ a ++ b) κ r0 1200 → FrP (fun z j => z ∈ B ∧ (j = 6 ∨ j = 7 ∨ j = 8 ∨ j = 10)) F F6 → WA G d mJ26_removeTreeNode 626 [.ref p, .ref m, .ref tb, .int (bI mv), v4, v5, v6, .ref root, v8, v9, v10, .ref p, v12, v13, v14, .ref r0, v16, v17, v18, v19, v20] [] (sF h F6) Q) :
    WA G d mJ26_removeTreeNode 544 [.ref p, .ref m, .ref tb, .int (bI mv), v4, v5, v6, .ref root, v8, v9, v10, .ref p, v12, v13, .ref c, v15, v16, v17, v18, v19, v20] [] (sF h F) Q := by
  refine wa_aloadV (pc := 544) (y := mJ26_removeTreeNode) dJ26_removeTreeNode_544 rfl (by first | exact rf_s _ | exact rf_n | exact rf_q _) ?_
  refine wf_get (k := 14) (l := 11) 10 dJ26_removeTreeNode_546 (by assumption) rfl q1619 (Or.inl rfl) (Nat.le_of_ble_eq_true rfl) (Nat.le_of_ble_eq_true rfl) (by (repeat (first | exact updF_self _ _ _ _ | (apply updF_i; · decide) | (apply updF_a; · first | assumption | (apply Ne.symm; assumption) | omega) | (apply newF_a; · first | assumption | (apply Ne.symm; assumption) | omega) | exact newL_self (by rfl) | exact newF_self (by rfl) | (apply cpyF_a; · first | assumption | (apply Ne.symm; assumption) | omega))) <;> first | assumption | rfl) ?_
  refine wa_if_eq (pc := 549) 557 dJ26_removeTreeNode_549 rfl (fun hb549 => ?_) (fun hb549 => ?_)
  · refine wa_aloadV (pc := 557) (y := mJ26_removeTreeNode) dJ26_removeTreeNode_557 rfl (by first | exact rf_s _ | exact rf_n | exact rf_q _) ?_
    refine wa_aloadV (pc := 559) (y := mJ26_removeTreeNode) dJ26_removeTreeNode_559 rfl (by first | exact rf_s _ | exact rf_n | exact rf_q _) ?_
    refine wa_callS (pc := 561) (s_J26_balanceDeletion (d := d - 1) (T := fun _ => False) (by omega) t tl ⟨hc, hcp2⟩ (fun _ h => h.elim)) dJ26_removeTreeNode_561 okJ26_balanceDeletion q1925 q1926 rfl rfl (Nat.le_of_ble_eq_true rfl) (Nat.le_of_ble_eq_true rfl) (by omega) ?_
    rintro _ _ - - ⟨r1, F5, rfl, rfl, f5, t5, -⟩
    refine aft_v (pc2 := 564) ?_ rfl
    refine wa_astoreV (pc := 564) (y := mJ26_removeTreeNode) dJ26_removeTreeNode_564 (Nat.le_of_ble_eq_true rfl) (by first | rfl | (simp [okst, rf_cat] <;> assumption)) (by first | exact rf_s _ | exact rf_n | exact rf_q _) ?_
    simp only [List.set_cons_zero, List.set_cons_succ]
    refine wa_aloadV (pc := 566) (y := mJ26_removeTreeNode) dJ26_removeTreeNode_566 rfl (by first | exact rf_s _ | exact rf_n | exact rf_q _) ?_
    refine wa_aloadV (pc := 568) (y := mJ26_removeTreeNode) dJ26_removeTreeNode_568 rfl (by first | exact rf_s _ | exact rf_n | exact rf_q _) ?_
    refine wa_acneV (pc := 570) 626 dJ26_removeTreeNode_570 rfl (by first | exact rf_s _ | exact rf_n | exact rf_q _) (by first | exact rf_s _ | exact rf_n | exact rf_q _) (fun hb570 => ?_) (fun hb570 => absurd (Option.some.inj hb570) hcp2)
    first | exact KQ _ _ _ _ (TrB.back2 t5 hB hn e) (FrP.ofT f5 fun z j hz hj => ⟨hz.1, hj⟩) | exact KQ _ _ _ _ (T0.back t tl hB hn e) FrP.refl
  · refine wa_aloadV (pc := 552) (y := mJ26_removeTreeNode) dJ26_removeTreeNode_552 rfl (by first | exact rf_s _ | exact rf_n | exact rf_q _) ?_
    refine wa_goto (pc := 554) (y := mJ26_removeTreeNode) 564 dJ26_removeTreeNode_554 rfl ?_
    refine wa_astoreV (pc := 564) (y := mJ26_removeTreeNode) dJ26_removeTreeNode_564 (Nat.le_of_ble_eq_true rfl) (by first | rfl | (simp [okst, rf_cat] <;> assumption)) (by first | exact rf_s _ | exact rf_n | exact rf_q _) ?_
    simp only [List.set_cons_zero, List.set_cons_succ]
    refine wa_aloadV (pc := 566) (y := mJ26_removeTreeNode) dJ26_removeTreeNode_566 rfl (by first | exact rf_s _ | exact rf_n | exact rf_q _) ?_
    refine wa_aloadV (pc := 568) (y := mJ26_removeTreeNode) dJ26_removeTreeNode_568 rfl (by first | exact rf_s _ | exact rf_n | exact rf_q _) ?_
    refine wa_acneV (pc := 570) 626 dJ26_removeTreeNode_570 rfl (by first | exact rf_s _ | exact rf_n | exact rf_q _) (by first | exact rf_s _ | exact rf_n | exact rf_q _) (fun hb570 => ?_) (fun hb570 => absurd (Option.some.inj hb570) hcp2)
    first | exact KQ _ _ _ _ (TrB.back2 t5 hB hn e) (FrP.ofT f5 fun z j hz hj => ⟨hz.1, hj⟩) | exact KQ _ _ _ _ (T0.back t tl hB hn e) FrP.refl
theorem rt_544B {key2 : Nat → Nat} (hd : 3 ≤ d) (hB : B = a ++ p :: b) (hn : B.Nodup) (hne : ∃ z, z ∈ B ∧ z ≠ p) (e : ∀ z, z ∈ B → z ≠ p → key2 z = 2 * κ z) (hinj : ∀ a b, a ∈ B → b ∈ B → key2 a = key2 b → a = b)
    (t : T0 (· ∈ B) key2 root L R P lo hi rk (2 * 1200) M) (tl : TL h F (· ∈ B) L R P C) (hl : L p = none) (hr : R p = none) {Q : RR → AH → Prop}
    (KQ : ∀ (F6 : Nat → Nat → Value) (r0 : Nat) (v14 v16 : Value), TrB h F6 (· ∈ a ++ b) κ r0 1200 → FrP (fun z j => z ∈ B ∧ (j = 6 ∨ j = 7 ∨ j = 8 ∨ j = 10)) F F6 → WA G d mJ26_removeTreeNode 626 [.ref p, .ref m, .ref tb, .int (bI mv), v4, v5, v6, .ref root, v8, v9, v10, .ref p, v12, v13, v14, .ref r0, v16, v17, v18, v19, v20] [] (sF h F6) Q) :
    WA G d mJ26_removeTreeNode 544 [.ref p, .ref m, .ref tb, .int (bI mv), v4, v5, v6, .ref root, v8, v9, v10, .ref p, v12, v13, .ref p, v15, v16, v17, v18, v19, v20] [] (sF h F) Q := by
  have hp : p ∈ B := by rw [hB]; simp
  obtain ⟨p1, p2, p3, p4, p5⟩ := tl p hp
  have tp := t.2 p hp
  refine wa_aloadV (pc := 544) (y := mJ26_removeTreeNode) dJ26_removeTreeNode_544 rfl (by first | exact rf_s _ | exact rf_n | exact rf_q _) ?_
  refine wf_get (k := 14) (l := 11) 10 dJ26_removeTreeNode_546 (by assumption) rfl q1619 (Or.inl rfl) (Nat.le_of_ble_eq_true rfl) (Nat.le_of_ble_eq_true rfl) (by (repeat (first | exact updF_self _ _ _ _ | (apply updF_i; · decide) | (apply updF_a; · first | assumption | (apply Ne.symm; assumption) | omega) | (apply newF_a; · first | assumption | (apply Ne.symm; assumption) | omega) | exact newL_self (by rfl) | exact newF_self (by rfl) | (apply cpyF_a; · first | assumption | (apply Ne.symm; assumption) | omega))) <;> first | assumption | rfl) ?_
  refine wa_if_eq (pc := 549) 557 dJ26_removeTreeNode_549 rfl (fun hb549 => ?_) (fun hb549 => ?_)
  · refine wa_aloadV (pc := 557) (y := mJ26_removeTreeNode) dJ26_removeTreeNode_557 rfl (by first | exact rf_s _ | exact rf_n | exact rf_q _) ?_
    refine wa_aloadV (pc := 559) (y := mJ26_removeTreeNode) dJ26_removeTreeNode_559 rfl (by first | exact rf_s _ | exact rf_n | exact rf_q _) ?_
    refine wa_callS (pc := 561) (s_J26_balanceDeletion (d := d - 1) (T := fun z => z = p) (by omega) t tl hp (fun z hz => by subst hz; exact ⟨hp, hl, hr, tp.1.1, tp.1.2.1⟩)) dJ26_removeTreeNode_561 okJ26_balanceDeletion q1925 q1926 rfl rfl (Nat.le_of_ble_eq_true rfl) (Nat.le_of_ble_eq_true rfl) (by omega) ?_
    rintro _ _ - - ⟨r1, F5, rfl, rfl, f5, ⟨L5, R5, P5, C5, lo5, hi5, rk5, M5, t5, tl5⟩, lf⟩
    refine aft_v (pc2 := 564) ?_ rfl
    have l7 : L5 p = none := rf_null ((lf p rfl).1.symm.trans (tl5 p hp).2.2.1)
    have l8 : R5 p = none := rf_null ((lf p rfl).2.symm.trans (tl5 p hp).2.2.2.1)
    refine wa_astoreV (pc := 564) (y := mJ26_removeTreeNode) dJ26_removeTreeNode_564 (Nat.le_of_ble_eq_true rfl) (by first | rfl | (simp [okst, rf_cat] <;> assumption)) (by first | exact rf_s _ | exact rf_n | exact rf_q _) ?_
    simp only [List.set_cons_zero, List.set_cons_succ]
    first | exact rt_566 (by omega) hB hn hne e hinj t5 tl5 l7 l8 (fun F6 v16 g1 g2 => KQ F6 _ _ v16 g1 ((FrP.ofT f5 fun z j hz hj => ⟨hz, hj⟩).trans (g2.mono fun z j hz => ⟨hz.1, by omega⟩))) | exact rt_566 (by omega) hB hn hne e hinj t tl hl hr (fun F6 v16 g1 g2 => KQ F6 _ _ v16 g1 (g2.mono fun z j hz => ⟨hz.1, by omega⟩))
  · refine wa_aloadV (pc := 552) (y := mJ26_removeTreeNode) dJ26_removeTreeNode_552 rfl (by first | exact rf_s _ | exact rf_n | exact rf_q _) ?_
    refine wa_goto (pc := 554) (y := mJ26_removeTreeNode) 564 dJ26_removeTreeNode_554 rfl ?_
    refine wa_astoreV (pc := 564) (y := mJ26_removeTreeNode) dJ26_removeTreeNode_564 (Nat.le_of_ble_eq_true rfl) (by first | rfl | (simp [okst, rf_cat] <;> assumption)) (by first | exact rf_s _ | exact rf_n | exact rf_q _) ?_
    simp only [List.set_cons_zero, List.set_cons_succ]
    first | exact rt_566 (by omega) hB hn hne e hinj t5 tl5 l7 l8 (fun F6 v16 g1 g2 => KQ F6 _ _ v16 g1 ((FrP.ofT f5 fun z j hz hj => ⟨hz, hj⟩).trans (g2.mono fun z j hz => ⟨hz.1, by omega⟩))) | exact rt_566 (by omega) hB hn hne e hinj t tl hl hr (fun F6 v16 g1 g2 => KQ F6 _ _ v16 g1 (g2.mono fun z j hz => ⟨hz.1, by omega⟩))
theorem rt_462L {key2 : Nat → Nat} (hd : 3 ≤ d) (c6 : v6.category = 1) (hB : B = a ++ p :: b) (hn : B.Nodup) (e : ∀ z, z ∈ B → z ≠ p → key2 z = 2 * κ z) (hinj : ∀ a b, a ∈ B → b ∈ B → key2 a = key2 b → a = b)
    (t : T0 (· ∈ B) key2 root L R P lo hi rk (2 * 1200) M) (tl : TL h F (· ∈ B) L R P C) (hl : L p = some c) (hr : R p = none) {Q : RR → AH → Prop}
    (KQ : ∀ (F6 : Nat → Nat → Value) (r0 : Nat) (v7 v14 v16 v15 : Value), TrB h F6 (· ∈ a ++ b) κ r0 1200 → FrP (fun z j => z ∈ B ∧ (j = 6 ∨ j = 7 ∨ j = 8 ∨ j = 10)) F F6 → WA G d mJ26_removeTreeNode 626 [.ref p, .ref m, .ref tb, .int (bI mv), v4, v5, v6, v7, v8, v9, v10, .ref p, v12, v13, v14, .ref r0, v16, v17, v18, v19, v20] [] (sF h F6) Q) :
    WA G d mJ26_removeTreeNode 462 [.ref p, .ref m, .ref tb, .int (bI mv), v4, v5, v6, .ref root, v8, v9, v10, .ref p, v12, v13, .ref c, v15, v16, v17, v18, v19, v20] [] (sF h F) Q := by
  have hp : p ∈ B := by rw [hB]; simp
  obtain ⟨p1, p2, p3, p4, p5⟩ := tl p hp
  obtain ⟨hcB, hcP, hcr, hcp⟩ := t.lc hp hl
  obtain ⟨c1, c2, c3, c4, c5⟩ := tl c hcB
  have t9 := t.cutL hinj hp hl hr
  have t3 := t.2
  have finS : ∀ (z : Nat) (v15 : Value) (F4 : Nat → Nat → Value), P p = some z → F4 p 10 = F p 10 → (∀ w, w ∈ B → w ≠ p → F4 w 6 = (if w = c then .ref z else F w 6) ∧ F4 w 7 = (if w = z ∧ L z = some p then .ref c else F w 7) ∧ F4 w 8 = (if w = z ∧ R z = some p then .ref c else F w 8) ∧ F4 w 10 = F w 10) → FrP (fun z j => z ∈ B ∧ (j = 6 ∨ j = 7 ∨ j = 8 ∨ j = 10)) F F4 →
      WA G d mJ26_removeTreeNode 544 [.ref p, .ref m, .ref tb, .int (bI mv), v4, v5, v6, .ref root, v8, v9, v10, .ref p, v12, v13, .ref c, v15, v16, v17, v18, v19, v20] [] (sF h F4) Q := by
    intro z v15 F4 hz h10 hF fr
    rw [hz, if_neg (by simp)] at t9
    refine rt_544A (cp := C p) (C := C) hd hB hn p1 e (h10.trans p5) hcp t9 (fun w hw => ?_) hcB (fun F6 r0 v14 v16 g1 g2 => KQ F6 r0 _ _ _ v15 g1 (fr.trans g2))
    obtain ⟨w1, w2, w3, w4, w5⟩ := tl w hw.1
    obtain ⟨f6, f7, f8, f10⟩ := hF w hw.1 hw.2
    refine ⟨w1, ?_, ?_, ?_, f10.trans w5⟩
    · rw [f6]; unfold upo; grind [va_rf]
    · rw [f7]; unfold chd; grind [va_rf]
    · rw [f8]; unfold chd; grind [va_rf]
  have finN : ∀ (v15 : Value) (F4 : Nat → Nat → Value), P p = none → F4 p 10 = F p 10 → (∀ w, w ∈ B → w ≠ p → F4 w 6 = (if w = c then .null else F w 6) ∧ F4 w 7 = F w 7 ∧ F4 w 8 = F w 8 ∧ F4 w 10 = (if w = c then .int 0 else F w 10)) → FrP (fun z j => z ∈ B ∧ (j = 6 ∨ j = 7 ∨ j = 8 ∨ j = 10)) F F4 →
      WA G d mJ26_removeTreeNode 544 [.ref p, .ref m, .ref tb, .int (bI mv), v4, v5, v6, .ref c, v8, v9, v10, .ref p, v12, v13, .ref c, v15, v16, v17, v18, v19, v20] [] (sF h F4) Q := by
    intro v15 F4 hz h10 hF fr
    rw [hz, if_pos rfl] at t9
    refine rt_544A (cp := C p) (C := upo C c false) hd hB hn p1 e (h10.trans p5) hcp t9 (fun w hw => ?_) hcB (fun F6 r0 v14 v16 g1 g2 => KQ F6 r0 _ _ _ v15 g1 (fr.trans g2))
    obtain ⟨w1, w2, w3, w4, w5⟩ := tl w hw.1
    obtain ⟨f6, f7, f8, f10⟩ := hF w hw.1 hw.2
    refine ⟨w1, ?_, ?_, ?_, ?_⟩
    · rw [f6]; unfold upo; grind [va_rf]
    · rw [f7]; unfold chd; grind [va_rf]
    · rw [f8]; unfold chd; grind [va_rf]
    · rw [f10]; unfold upo; grind [bI]
  clear t9
  refine wa_aloadV (pc := 462) (y := mJ26_removeTreeNode) dJ26_removeTreeNode_462 rfl (by first | exact rf_s _ | exact rf_n | exact rf_q _) ?_
  refine wa_aloadV (pc := 464) (y := mJ26_removeTreeNode) dJ26_removeTreeNode_464 rfl (by first | exact rf_s _ | exact rf_n | exact rf_q _) ?_
  refine wa_aceqV (pc := 466) 544 dJ26_removeTreeNode_466 rfl (by first | exact rf_s _ | exact rf_n | exact rf_q _) (by first | exact rf_s _ | exact rf_n | exact rf_q _) (fun hb466 => absurd (Option.some.inj hb466) hcp) (fun hb466 => ?_)
  refine wa_aloadV (pc := 469) (y := mJ26_removeTreeNode) dJ26_removeTreeNode_469 rfl (by first | exact rf_s _ | exact rf_n | exact rf_q _) ?_
  refine wa_aloadV (pc := 471) (y := mJ26_removeTreeNode) dJ26_removeTreeNode_471 rfl (by first | exact rf_s _ | exact rf_n | exact rf_q _) ?_
  refine wf_get (k := 14) (l := 11) 6 dJ26_removeTreeNode_473 (by assumption) rfl q1614 (Or.inl rfl) (Nat.le_of_ble_eq_true rfl) (Nat.le_of_ble_eq_true rfl) (by (repeat (first | exact updF_self _ _ _ _ | (apply updF_i; · decide) | (apply updF_a; · first | assumption | (apply Ne.symm; assumption) | omega) | (apply newF_a; · first | assumption | (apply Ne.symm; assumption) | omega) | exact newL_self (by rfl) | exact newF_self (by rfl) | (apply cpyF_a; · first | assumption | (apply Ne.symm; assumption) | omega))) <;> first | assumption | rfl) ?_
  refine wa_dup_x1 (pc := 476) (y := mJ26_removeTreeNode) dJ26_removeTreeNode_476 (by first | rfl | exact rf_cat _) (by first | rfl | exact rf_cat _) ?_
  refine wf_put (k := 14) (l := 11) 6 (.object "java/util/HashMap$TreeNode") dJ26_removeTreeNode_477 (by assumption) rfl q1614 (Or.inl rfl) (Nat.le_of_ble_eq_true rfl) rfl (by decide +kernel) (by first | rfl | exact rf_nar _ | exact rf_nar2 _) (by first | rfl | exact rf_fit _ | exact rf_fit2 _) ?_
  refine wa_astoreV (pc := 480) (y := mJ26_removeTreeNode) dJ26_removeTreeNode_480 (Nat.le_of_ble_eq_true rfl) (by first | rfl | (simp [okst, rf_cat] <;> assumption)) (by first | exact rf_s _ | exact rf_n | exact rf_q _) ?_
  simp only [List.set_cons_zero, List.set_cons_succ]
  refine wa_aloadV (pc := 482) (y := mJ26_removeTreeNode) dJ26_removeTreeNode_482 rfl (by first | exact rf_s _ | exact rf_n | exact rf_q _) ?_
  refine wa_ifnonnullV (pc := 484) 499 dJ26_removeTreeNode_484 rfl (by first | exact rf_s _ | exact rf_n | exact rf_q _) (fun a484 hb484 => ?_) (fun hb484 => ?_)
  · obtain ⟨hzB, hzr, hzp, hside⟩ := t.up hp hb484
    obtain ⟨z1, z2, z3, z4, z5⟩ := tl _ hzB
    have hzc : a484 ≠ c := by intro h3; rw [h3] at hzr; omega
    have hsib : ¬ (L a484 = some p ∧ R a484 = some p) := fun h9 => t.sib hzB h9.1 h9.2 rfl
    rw [hb484]
    refine wa_aloadV (pc := 499) (y := mJ26_removeTreeNode) dJ26_removeTreeNode_499 rfl (by first | exact rf_s _ | exact rf_n | exact rf_q _) ?_
    refine wa_aloadV (pc := 501) (y := mJ26_removeTreeNode) dJ26_removeTreeNode_501 rfl (by first | exact rf_s _ | exact rf_n | exact rf_q _) ?_
    refine wf_get (k := 14) (l := 11) 7 dJ26_removeTreeNode_503 (by assumption) rfl q1615 (Or.inl rfl) (Nat.le_of_ble_eq_true rfl) (Nat.le_of_ble_eq_true rfl) (by (repeat (first | exact updF_self _ _ _ _ | (apply updF_i; · decide) | (apply updF_a; · first | assumption | (apply Ne.symm; assumption) | omega) | (apply newF_a; · first | assumption | (apply Ne.symm; assumption) | omega) | exact newL_self (by rfl) | exact newF_self (by rfl) | (apply cpyF_a; · first | assumption | (apply Ne.symm; assumption) | omega))) <;> first | assumption | rfl) ?_
    refine wa_acneV (pc := 506) 519 dJ26_removeTreeNode_506 rfl (by first | exact rf_s _ | exact rf_n | exact rf_q _) (by first | exact rf_s _ | exact rf_n | exact rf_q _) (fun hb506 => ?_) (fun hb506 => ?_)
    · refine wa_aloadV (pc := 519) (y := mJ26_removeTreeNode) dJ26_removeTreeNode_519 rfl (by first | exact rf_s _ | exact rf_n | exact rf_q _) ?_
      refine wa_aloadV (pc := 521) (y := mJ26_removeTreeNode) dJ26_removeTreeNode_521 rfl (by first | exact rf_s _ | exact rf_n | exact rf_q _) ?_
      refine wf_put (k := 14) (l := 11) 8 (.object "java/util/HashMap$TreeNode") dJ26_removeTreeNode_523 (by assumption) rfl q1616 (Or.inl rfl) (Nat.le_of_ble_eq_true rfl) rfl (by decide +kernel) (by first | rfl | exact rf_nar _ | exact rf_nar2 _) (by first | rfl | exact rf_fit _ | exact rf_fit2 _) ?_
      refine wa_aloadV (pc := 526) (y := mJ26_removeTreeNode) dJ26_removeTreeNode_526 rfl (by first | exact rf_s _ | exact rf_n | exact rf_q _) ?_
      refine wa_aloadV (pc := 528) (y := mJ26_removeTreeNode) dJ26_removeTreeNode_528 rfl (by first | exact rf_s _ | exact rf_n | exact rf_q _) ?_
      refine wa_aloadV (pc := 530) (y := mJ26_removeTreeNode) dJ26_removeTreeNode_530 rfl (by first | exact rf_s _ | exact rf_n | exact rf_q _) ?_
      refine wa_null (pc := 532) (y := mJ26_removeTreeNode) dJ26_removeTreeNode_532 ?_
      refine wa_dup_x1 (pc := 533) (y := mJ26_removeTreeNode) dJ26_removeTreeNode_533 (by first | rfl | exact rf_cat _) (by first | rfl | exact rf_cat _) ?_
      refine wf_put (k := 14) (l := 11) 6 (.object "java/util/HashMap$TreeNode") dJ26_removeTreeNode_534 (by assumption) rfl q1614 (Or.inl rfl) (Nat.le_of_ble_eq_true rfl) rfl (by decide +kernel) (by first | rfl | exact rf_nar _ | exact rf_nar2 _) (by first | rfl | exact rf_fit _ | exact rf_fit2 _) ?_
      refine wa_dup_x1 (pc := 537) (y := mJ26_removeTreeNode) dJ26_removeTreeNode_537 (by first | rfl | exact rf_cat _) (by first | rfl | exact rf_cat _) ?_
      refine wf_put (k := 14) (l := 11) 8 (.object "java/util/HashMap$TreeNode") dJ26_removeTreeNode_538 (by assumption) rfl q1616 (Or.inl rfl) (Nat.le_of_ble_eq_true rfl) rfl (by decide +kernel) (by first | rfl | exact rf_nar _ | exact rf_nar2 _) (by first | rfl | exact rf_fit _ | exact rf_fit2 _) ?_
      refine wf_put (k := 14) (l := 11) 7 (.object "java/util/HashMap$TreeNode") dJ26_removeTreeNode_541 (by assumption) rfl q1615 (Or.inl rfl) (Nat.le_of_ble_eq_true rfl) rfl (by decide +kernel) (by first | rfl | exact rf_nar _ | exact rf_nar2 _) (by first | rfl | exact rf_fit _ | exact rf_fit2 _) ?_
      first | exact finN _ _ hb484 (by grind [updF_eq]) (fun w hw hwp => by clear finS finN KQ t3 t tl; grind [updF_eq, va_rf]) (by repeat (first | exact FrP.refl | refine FrP.upd ?_ (by first | exact ⟨hp, by decide⟩ | exact ⟨hcB, by decide⟩))) | exact finS _ _ _ hb484 (by grind [updF_eq]) (fun w hw hwp => by have h506 := hb506; clear finS finN KQ t3 t tl; grind [updF_eq, va_rf]) (by repeat (first | exact FrP.refl | refine FrP.upd ?_ (by first | exact ⟨hp, by decide⟩ | exact ⟨hzB, by decide⟩ | exact ⟨hcB, by decide⟩)))
    · refine wa_aloadV (pc := 509) (y := mJ26_removeTreeNode) dJ26_removeTreeNode_509 rfl (by first | exact rf_s _ | exact rf_n | exact rf_q _) ?_
      refine wa_aloadV (pc := 511) (y := mJ26_removeTreeNode) dJ26_removeTreeNode_511 rfl (by first | exact rf_s _ | exact rf_n | exact rf_q _) ?_
      refine wf_put (k := 14) (l := 11) 7 (.object "java/util/HashMap$TreeNode") dJ26_removeTreeNode_513 (by assumption) rfl q1615 (Or.inl rfl) (Nat.le_of_ble_eq_true rfl) rfl (by decide +kernel) (by first | rfl | exact rf_nar _ | exact rf_nar2 _) (by first | rfl | exact rf_fit _ | exact rf_fit2 _) ?_
      refine wa_goto (pc := 516) (y := mJ26_removeTreeNode) 526 dJ26_removeTreeNode_516 rfl ?_
      refine wa_aloadV (pc := 526) (y := mJ26_removeTreeNode) dJ26_removeTreeNode_526 rfl (by first | exact rf_s _ | exact rf_n | exact rf_q _) ?_
      refine wa_aloadV (pc := 528) (y := mJ26_removeTreeNode) dJ26_removeTreeNode_528 rfl (by first | exact rf_s _ | exact rf_n | exact rf_q _) ?_
      refine wa_aloadV (pc := 530) (y := mJ26_removeTreeNode) dJ26_removeTreeNode_530 rfl (by first | exact rf_s _ | exact rf_n | exact rf_q _) ?_
      refine wa_null (pc := 532) (y := mJ26_removeTreeNode) dJ26_removeTreeNode_532 ?_
      refine wa_dup_x1 (pc := 533) (y := mJ26_removeTreeNode) dJ26_removeTreeNode_533 (by first | rfl | exact rf_cat _) (by first | rfl | exact rf_cat _) ?_
      refine wf_put (k := 14) (l := 11) 6 (.object "java/util/HashMap$TreeNode") dJ26_removeTreeNode_534 (by assumption) rfl q1614 (Or.inl rfl) (Nat.le_of_ble_eq_true rfl) rfl (by decide +kernel) (by first | rfl | exact rf_nar _ | exact rf_nar2 _) (by first | rfl | exact rf_fit _ | exact rf_fit2 _) ?_
      refine wa_dup_x1 (pc := 537) (y := mJ26_removeTreeNode) dJ26_removeTreeNode_537 (by first | rfl | exact rf_cat _) (by first | rfl | exact rf_cat _) ?_
      refine wf_put (k := 14) (l := 11) 8 (.object "java/util/HashMap$TreeNode") dJ26_removeTreeNode_538 (by assumption) rfl q1616 (Or.inl rfl) (Nat.le_of_ble_eq_true rfl) rfl (by decide +kernel) (by first | rfl | exact rf_nar _ | exact rf_nar2 _) (by first | rfl | exact rf_fit _ | exact rf_fit2 _) ?_
      refine wf_put (k := 14) (l := 11) 7 (.object "java/util/HashMap$TreeNode") dJ26_removeTreeNode_541 (by assumption) rfl q1615 (Or.inl rfl) (Nat.le_of_ble_eq_true rfl) rfl (by decide +kernel) (by first | rfl | exact rf_nar _ | exact rf_nar2 _) (by first | rfl | exact rf_fit _ | exact rf_fit2 _) ?_
      first | exact finN _ _ hb484 (by grind [updF_eq]) (fun w hw hwp => by clear finS finN KQ t3 t tl; grind [updF_eq, va_rf]) (by repeat (first | exact FrP.refl | refine FrP.upd ?_ (by first | exact ⟨hp, by decide⟩ | exact ⟨hcB, by decide⟩))) | exact finS _ _ _ hb484 (by grind [updF_eq]) (fun w hw hwp => by have h506 := hb506; clear finS finN KQ t3 t tl; grind [updF_eq, va_rf]) (by repeat (first | exact FrP.refl | refine FrP.upd ?_ (by first | exact ⟨hp, by decide⟩ | exact ⟨hzB, by decide⟩ | exact ⟨hcB, by decide⟩)))
  · rw [hb484]
    refine wa_aloadV (pc := 487) (y := mJ26_removeTreeNode) dJ26_removeTreeNode_487 rfl (by first | exact rf_s _ | exact rf_n | exact rf_q _) ?_
    refine wa_dup (pc := 489) (y := mJ26_removeTreeNode) dJ26_removeTreeNode_489 (by first | rfl | exact rf_cat _) ?_
    refine wa_astoreV (pc := 490) (y := mJ26_removeTreeNode) dJ26_removeTreeNode_490 (Nat.le_of_ble_eq_true rfl) (by first | rfl | (simp [okst, rf_cat] <;> assumption)) (by first | exact rf_s _ | exact rf_n | exact rf_q _) ?_
    simp only [List.set_cons_zero, List.set_cons_succ]
    refine wa_iconst (pc := 492) (y := mJ26_removeTreeNode) (Int32.ofNat 0) dJ26_removeTreeNode_492 rfl ?_
    refine wf_put (k := 14) (l := 11) 10 .boolean dJ26_removeTreeNode_493 (by assumption) rfl q1619 (Or.inl rfl) (Nat.le_of_ble_eq_true rfl) rfl (by decide +kernel) (by first | rfl | exact bI_nar _) (by first | rfl | exact bI_fit _) ?_
    refine wa_goto (pc := 496) (y := mJ26_removeTreeNode) 526 dJ26_removeTreeNode_496 rfl ?_
    refine wa_aloadV (pc := 526) (y := mJ26_removeTreeNode) dJ26_removeTreeNode_526 rfl (by first | exact rf_s _ | exact rf_n | exact rf_q _) ?_
    refine wa_aloadV (pc := 528) (y := mJ26_removeTreeNode) dJ26_removeTreeNode_528 rfl (by first | exact rf_s _ | exact rf_n | exact rf_q _) ?_
    refine wa_aloadV (pc := 530) (y := mJ26_removeTreeNode) dJ26_removeTreeNode_530 rfl (by first | exact rf_s _ | exact rf_n | exact rf_q _) ?_
    refine wa_null (pc := 532) (y := mJ26_removeTreeNode) dJ26_removeTreeNode_532 ?_
    refine wa_dup_x1 (pc := 533) (y := mJ26_removeTreeNode) dJ26_removeTreeNode_533 (by first | rfl | exact rf_cat _) (by first | rfl | exact rf_cat _) ?_
    refine wf_put (k := 14) (l := 11) 6 (.object "java/util/HashMap$TreeNode") dJ26_removeTreeNode_534 (by assumption) rfl q1614 (Or.inl rfl) (Nat.le_of_ble_eq_true rfl) rfl (by decide +kernel) (by first | rfl | exact rf_nar _ | exact rf_nar2 _) (by first | rfl | exact rf_fit _ | exact rf_fit2 _) ?_
    refine wa_dup_x1 (pc := 537) (y := mJ26_removeTreeNode) dJ26_removeTreeNode_537 (by first | rfl | exact rf_cat _) (by first | rfl | exact rf_cat _) ?_
    refine wf_put (k := 14) (l := 11) 8 (.object "java/util/HashMap$TreeNode") dJ26_removeTreeNode_538 (by assumption) rfl q1616 (Or.inl rfl) (Nat.le_of_ble_eq_true rfl) rfl (by decide +kernel) (by first | rfl | exact rf_nar _ | exact rf_nar2 _) (by first | rfl | exact rf_fit _ | exact rf_fit2 _) ?_
    refine wf_put (k := 14) (l := 11) 7 (.object "java/util/HashMap$TreeNode") dJ26_removeTreeNode_541 (by assumption) rfl q1615 (Or.inl rfl) (Nat.le_of_ble_eq_true rfl) rfl (by decide +kernel) (by first | rfl | exact rf_nar _ | exact rf_nar2 _) (by first | rfl | exact rf_fit _ | exact rf_fit2 _) ?_
    first | exact finN _ _ hb484 (by grind [updF_eq]) (fun w hw hwp => by clear finS finN KQ t3 t tl; grind [updF_eq, va_rf]) (by repeat (first | exact FrP.refl | refine FrP.upd ?_ (by first | exact ⟨hp, by decide⟩ | exact ⟨hcB, by decide⟩))) | exact finS _ _ _ hb484 (by grind [updF_eq]) (fun w hw hwp => by have h506 := hb506; clear finS finN KQ t3 t tl; grind [updF_eq, va_rf]) (by repeat (first | exact FrP.refl | refine FrP.upd ?_ (by first | exact ⟨hp, by decide⟩ | exact ⟨hzB, by decide⟩ | exact ⟨hcB, by decide⟩)))
theorem rt_462R {key2 : Nat → Nat} (hd : 3 ≤ d) (c6 : v6.category = 1) (hB : B = a ++ p :: b) (hn : B.Nodup) (e : ∀ z, z ∈ B → z ≠ p → key2 z = 2 * κ z) (hinj : ∀ a b, a ∈ B → b ∈ B → key2 a = key2 b → a = b)
    (t : T0 (· ∈ B) key2 root L R P lo hi rk (2 * 1200) M) (tl : TL h F (· ∈ B) L R P C) (hl : L p = none) (hr : R p = some c) {Q : RR → AH → Prop}
    (KQ : ∀ (F6 : Nat → Nat → Value) (r0 : Nat) (v7 v14 v16 v15 : Value), TrB h F6 (· ∈ a ++ b) κ r0 1200 → FrP (fun z j => z ∈ B ∧ (j = 6 ∨ j = 7 ∨ j = 8 ∨ j = 10)) F F6 → WA G d mJ26_removeTreeNode 626 [.ref p, .ref m, .ref tb, .int (bI mv), v4, v5, v6, v7, v8, v9, v10, .ref p, v12, v13, v14, .ref r0, v16, v17, v18, v19, v20] [] (sF h F6) Q) :
    WA G d mJ26_removeTreeNode 462 [.ref p, .ref m, .ref tb, .int (bI mv), v4, v5, v6, .ref root, v8, v9, v10, .ref p, v12, v13, .ref c, v15, v16, v17, v18, v19, v20] [] (sF h F) Q := by
  have hp : p ∈ B := by rw [hB]; simp
  obtain ⟨p1, p2, p3, p4, p5⟩ := tl p hp
  obtain ⟨hcB, hcP, hcr, hcp⟩ := t.rc hp hr
  obtain ⟨c1, c2, c3, c4, c5⟩ := tl c hcB
  have t9 := t.cutR hinj hp hl hr
  have t3 := t.2
  have finS : ∀ (z : Nat) (v15 : Value) (F4 : Nat → Nat → Value), P p = some z → F4 p 10 = F p 10 → (∀ w, w ∈ B → w ≠ p → F4 w 6 = (if w = c then .ref z else F w 6) ∧ F4 w 7 = (if w = z ∧ L z = some p then .ref c else F w 7) ∧ F4 w 8 = (if w = z ∧ R z = some p then .ref c else F w 8) ∧ F4 w 10 = F w 10) → FrP (fun z j => z ∈ B ∧ (j = 6 ∨ j = 7 ∨ j = 8 ∨ j = 10)) F F4 →
      WA G d mJ26_removeTreeNode 544 [.ref p, .ref m, .ref tb, .int (bI mv), v4, v5, v6, .ref root, v8, v9, v10, .ref p, v12, v13, .ref c, v15, v16, v17, v18, v19, v20] [] (sF h F4) Q := by
    intro z v15 F4 hz h10 hF fr
    rw [hz, if_neg (by simp)] at t9
    refine rt_544A (cp := C p) (C := C) hd hB hn p1 e (h10.trans p5) hcp t9 (fun w hw => ?_) hcB (fun F6 r0 v14 v16 g1 g2 => KQ F6 r0 _ _ _ v15 g1 (fr.trans g2))
    obtain ⟨w1, w2, w3, w4, w5⟩ := tl w hw.1
    obtain ⟨f6, f7, f8, f10⟩ := hF w hw.1 hw.2
    refine ⟨w1, ?_, ?_, ?_, f10.trans w5⟩
    · rw [f6]; unfold upo; grind [va_rf]
    · rw [f7]; unfold chd; grind [va_rf]
    · rw [f8]; unfold chd; grind [va_rf]
  have finN : ∀ (v15 : Value) (F4 : Nat → Nat → Value), P p = none → F4 p 10 = F p 10 → (∀ w, w ∈ B → w ≠ p → F4 w 6 = (if w = c then .null else F w 6) ∧ F4 w 7 = F w 7 ∧ F4 w 8 = F w 8 ∧ F4 w 10 = (if w = c then .int 0 else F w 10)) → FrP (fun z j => z ∈ B ∧ (j = 6 ∨ j = 7 ∨ j = 8 ∨ j = 10)) F F4 →
      WA G d mJ26_removeTreeNode 544 [.ref p, .ref m, .ref tb, .int (bI mv), v4, v5, v6, .ref c, v8, v9, v10, .ref p, v12, v13, .ref c, v15, v16, v17, v18, v19, v20] [] (sF h F4) Q := by
    intro v15 F4 hz h10 hF fr
    rw [hz, if_pos rfl] at t9
    refine rt_544A (cp := C p) (C := upo C c false) hd hB hn p1 e (h10.trans p5) hcp t9 (fun w hw => ?_) hcB (fun F6 r0 v14 v16 g1 g2 => KQ F6 r0 _ _ _ v15 g1 (fr.trans g2))
    obtain ⟨w1, w2, w3, w4, w5⟩ := tl w hw.1
    obtain ⟨f6, f7, f8, f10⟩ := hF w hw.1 hw.2
    refine ⟨w1, ?_, ?_, ?_, ?_⟩
    · rw [f6]; unfold upo; grind [va_rf]
    · rw [f7]; unfold chd; grind [va_rf]
    · rw [f8]; unfold chd; grind [va_rf]
    · rw [f10]; unfold upo; grind [bI]
  clear t9
  refine wa_aloadV (pc := 462) (y := mJ26_removeTreeNode) dJ26_removeTreeNode_462 rfl (by first | exact rf_s _ | exact rf_n | exact rf_q _) ?_
  refine wa_aloadV (pc := 464) (y := mJ26_removeTreeNode) dJ26_removeTreeNode_464 rfl (by first | exact rf_s _ | exact rf_n | exact rf_q _) ?_
  refine wa_aceqV (pc := 466) 544 dJ26_removeTreeNode_466 rfl (by first | exact rf_s _ | exact rf_n | exact rf_q _) (by first | exact rf_s _ | exact rf_n | exact rf_q _) (fun hb466 => absurd (Option.some.inj hb466) hcp) (fun hb466 => ?_)
  refine wa_aloadV (pc := 469) (y := mJ26_removeTreeNode) dJ26_removeTreeNode_469 rfl (by first | exact rf_s _ | exact rf_n | exact rf_q _) ?_
  refine wa_aloadV (pc := 471) (y := mJ26_removeTreeNode) dJ26_removeTreeNode_471 rfl (by first | exact rf_s _ | exact rf_n | exact rf_q _) ?_
  refine wf_get (k := 14) (l := 11) 6 dJ26_removeTreeNode_473 (by assumption) rfl q1614 (Or.inl rfl) (Nat.le_of_ble_eq_true rfl) (Nat.le_of_ble_eq_true rfl) (by (repeat (first | exact updF_self _ _ _ _ | (apply updF_i; · decide) | (apply updF_a; · first | assumption | (apply Ne.symm; assumption) | omega) | (apply newF_a; · first | assumption | (apply Ne.symm; assumption) | omega) | exact newL_self (by rfl) | exact newF_self (by rfl) | (apply cpyF_a; · first | assumption | (apply Ne.symm; assumption) | omega))) <;> first | assumption | rfl) ?_
  refine wa_dup_x1 (pc := 476) (y := mJ26_removeTreeNode) dJ26_removeTreeNode_476 (by first | rfl | exact rf_cat _) (by first | rfl | exact rf_cat _) ?_
  refine wf_put (k := 14) (l := 11) 6 (.object "java/util/HashMap$TreeNode") dJ26_removeTreeNode_477 (by assumption) rfl q1614 (Or.inl rfl) (Nat.le_of_ble_eq_true rfl) rfl (by decide +kernel) (by first | rfl | exact rf_nar _ | exact rf_nar2 _) (by first | rfl | exact rf_fit _ | exact rf_fit2 _) ?_
  refine wa_astoreV (pc := 480) (y := mJ26_removeTreeNode) dJ26_removeTreeNode_480 (Nat.le_of_ble_eq_true rfl) (by first | rfl | (simp [okst, rf_cat] <;> assumption)) (by first | exact rf_s _ | exact rf_n | exact rf_q _) ?_
  simp only [List.set_cons_zero, List.set_cons_succ]
  refine wa_aloadV (pc := 482) (y := mJ26_removeTreeNode) dJ26_removeTreeNode_482 rfl (by first | exact rf_s _ | exact rf_n | exact rf_q _) ?_
  refine wa_ifnonnullV (pc := 484) 499 dJ26_removeTreeNode_484 rfl (by first | exact rf_s _ | exact rf_n | exact rf_q _) (fun a484 hb484 => ?_) (fun hb484 => ?_)
  · obtain ⟨hzB, hzr, hzp, hside⟩ := t.up hp hb484
    obtain ⟨z1, z2, z3, z4, z5⟩ := tl _ hzB
    have hzc : a484 ≠ c := by intro h3; rw [h3] at hzr; omega
    have hsib : ¬ (L a484 = some p ∧ R a484 = some p) := fun h9 => t.sib hzB h9.1 h9.2 rfl
    rw [hb484]
    refine wa_aloadV (pc := 499) (y := mJ26_removeTreeNode) dJ26_removeTreeNode_499 rfl (by first | exact rf_s _ | exact rf_n | exact rf_q _) ?_
    refine wa_aloadV (pc := 501) (y := mJ26_removeTreeNode) dJ26_removeTreeNode_501 rfl (by first | exact rf_s _ | exact rf_n | exact rf_q _) ?_
    refine wf_get (k := 14) (l := 11) 7 dJ26_removeTreeNode_503 (by assumption) rfl q1615 (Or.inl rfl) (Nat.le_of_ble_eq_true rfl) (Nat.le_of_ble_eq_true rfl) (by (repeat (first | exact updF_self _ _ _ _ | (apply updF_i; · decide) | (apply updF_a; · first | assumption | (apply Ne.symm; assumption) | omega) | (apply newF_a; · first | assumption | (apply Ne.symm; assumption) | omega) | exact newL_self (by rfl) | exact newF_self (by rfl) | (apply cpyF_a; · first | assumption | (apply Ne.symm; assumption) | omega))) <;> first | assumption | rfl) ?_
    refine wa_acneV (pc := 506) 519 dJ26_removeTreeNode_506 rfl (by first | exact rf_s _ | exact rf_n | exact rf_q _) (by first | exact rf_s _ | exact rf_n | exact rf_q _) (fun hb506 => ?_) (fun hb506 => ?_)
    · refine wa_aloadV (pc := 519) (y := mJ26_removeTreeNode) dJ26_removeTreeNode_519 rfl (by first | exact rf_s _ | exact rf_n | exact rf_q _) ?_
      refine wa_aloadV (pc := 521) (y := mJ26_removeTreeNode) dJ26_removeTreeNode_521 rfl (by first | exact rf_s _ | exact rf_n | exact rf_q _) ?_
      refine wf_put (k := 14) (l := 11) 8 (.object "java/util/HashMap$TreeNode") dJ26_removeTreeNode_523 (by assumption) rfl q1616 (Or.inl rfl) (Nat.le_of_ble_eq_true rfl) rfl (by decide +kernel) (by first | rfl | exact rf_nar _ | exact rf_nar2 _) (by first | rfl | exact rf_fit _ | exact rf_fit2 _) ?_
      refine wa_aloadV (pc := 526) (y := mJ26_removeTreeNode) dJ26_removeTreeNode_526 rfl (by first | exact rf_s _ | exact rf_n | exact rf_q _) ?_
      refine wa_aloadV (pc := 528) (y := mJ26_removeTreeNode) dJ26_removeTreeNode_528 rfl (by first | exact rf_s _ | exact rf_n | exact rf_q _) ?_
      refine wa_aloadV (pc := 530) (y := mJ26_removeTreeNode) dJ26_removeTreeNode_530 rfl (by first | exact rf_s _ | exact rf_n | exact rf_q _) ?_
      refine wa_null (pc := 532) (y := mJ26_removeTreeNode) dJ26_removeTreeNode_532 ?_
      refine wa_dup_x1 (pc := 533) (y := mJ26_removeTreeNode) dJ26_removeTreeNode_533 (by first | rfl | exact rf_cat _) (by first | rfl | exact rf_cat _) ?_
      refine wf_put (k := 14) (l := 11) 6 (.object "java/util/HashMap$TreeNode") dJ26_removeTreeNode_534 (by assumption) rfl q1614 (Or.inl rfl) (Nat.le_of_ble_eq_true rfl) rfl (by decide +kernel) (by first | rfl | exact rf_nar _ | exact rf_nar2 _) (by first | rfl | exact rf_fit _ | exact rf_fit2 _) ?_
      refine wa_dup_x1 (pc := 537) (y := mJ26_removeTreeNode) dJ26_removeTreeNode_537 (by first | rfl | exact rf_cat _) (by first | rfl | exact rf_cat _) ?_
      refine wf_put (k := 14) (l := 11) 8 (.object "java/util/HashMap$TreeNode") dJ26_removeTreeNode_538 (by assumption) rfl q1616 (Or.inl rfl) (Nat.le_of_ble_eq_true rfl) rfl (by decide +kernel) (by first | rfl | exact rf_nar _ | exact rf_nar2 _) (by first | rfl | exact rf_fit _ | exact rf_fit2 _) ?_
      refine wf_put (k := 14) (l := 11) 7 (.object "java/util/HashMap$TreeNode") dJ26_removeTreeNode_541 (by assumption) rfl q1615 (Or.inl rfl) (Nat.le_of_ble_eq_true rfl) rfl (by decide +kernel) (by first | rfl | exact rf_nar _ | exact rf_nar2 _) (by first | rfl | exact rf_fit _ | exact rf_fit2 _) ?_
      first | exact finN _ _ hb484 (by grind [updF_eq]) (fun w hw hwp => by clear finS finN KQ t3 t tl; grind [updF_eq, va_rf]) (by repeat (first | exact FrP.refl | refine FrP.upd ?_ (by first | exact ⟨hp, by decide⟩ | exact ⟨hcB, by decide⟩))) | exact finS _ _ _ hb484 (by grind [updF_eq]) (fun w hw hwp => by have h506 := hb506; clear finS finN KQ t3 t tl; grind [updF_eq, va_rf]) (by repeat (first | exact FrP.refl | refine FrP.upd ?_ (by first | exact ⟨hp, by decide⟩ | exact ⟨hzB, by decide⟩ | exact ⟨hcB, by decide⟩)))
    · refine wa_aloadV (pc := 509) (y := mJ26_removeTreeNode) dJ26_removeTreeNode_509 rfl (by first | exact rf_s _ | exact rf_n | exact rf_q _) ?_
      refine wa_aloadV (pc := 511) (y := mJ26_removeTreeNode) dJ26_removeTreeNode_511 rfl (by first | exact rf_s _ | exact rf_n | exact rf_q _) ?_
      refine wf_put (k := 14) (l := 11) 7 (.object "java/util/HashMap$TreeNode") dJ26_removeTreeNode_513 (by assumption) rfl q1615 (Or.inl rfl) (Nat.le_of_ble_eq_true rfl) rfl (by decide +kernel) (by first | rfl | exact rf_nar _ | exact rf_nar2 _) (by first | rfl | exact rf_fit _ | exact rf_fit2 _) ?_
      refine wa_goto (pc := 516) (y := mJ26_removeTreeNode) 526 dJ26_removeTreeNode_516 rfl ?_
      refine wa_aloadV (pc := 526) (y := mJ26_removeTreeNode) dJ26_removeTreeNode_526 rfl (by first | exact rf_s _ | exact rf_n | exact rf_q _) ?_
      refine wa_aloadV (pc := 528) (y := mJ26_removeTreeNode) dJ26_removeTreeNode_528 rfl (by first | exact rf_s _ | exact rf_n | exact rf_q _) ?_
      refine wa_aloadV (pc := 530) (y := mJ26_removeTreeNode) dJ26_removeTreeNode_530 rfl (by first | exact rf_s _ | exact rf_n | exact rf_q _) ?_
      refine wa_null (pc := 532) (y := mJ26_removeTreeNode) dJ26_removeTreeNode_532 ?_
      refine wa_dup_x1 (pc := 533) (y := mJ26_removeTreeNode) dJ26_removeTreeNode_533 (by first | rfl | exact rf_cat _) (by first | rfl | exact rf_cat _) ?_
      refine wf_put (k := 14) (l := 11) 6 (.object "java/util/HashMap$TreeNode") dJ26_removeTreeNode_534 (by assumption) rfl q1614 (Or.inl rfl) (Nat.le_of_ble_eq_true rfl) rfl (by decide +kernel) (by first | rfl | exact rf_nar _ | exact rf_nar2 _) (by first | rfl | exact rf_fit _ | exact rf_fit2 _) ?_
      refine wa_dup_x1 (pc := 537) (y := mJ26_removeTreeNode) dJ26_removeTreeNode_537 (by first | rfl | exact rf_cat _) (by first | rfl | exact rf_cat _) ?_
      refine wf_put (k := 14) (l := 11) 8 (.object "java/util/HashMap$TreeNode") dJ26_removeTreeNode_538 (by assumption) rfl q1616 (Or.inl rfl) (Nat.le_of_ble_eq_true rfl) rfl (by decide +kernel) (by first | rfl | exact rf_nar _ | exact rf_nar2 _) (by first | rfl | exact rf_fit _ | exact rf_fit2 _) ?_
      refine wf_put (k := 14) (l := 11) 7 (.object "java/util/HashMap$TreeNode") dJ26_removeTreeNode_541 (by assumption) rfl q1615 (Or.inl rfl) (Nat.le_of_ble_eq_true rfl) rfl (by decide +kernel) (by first | rfl | exact rf_nar _ | exact rf_nar2 _) (by first | rfl | exact rf_fit _ | exact rf_fit2 _) ?_
      first | exact finN _ _ hb484 (by grind [updF_eq]) (fun w hw hwp => by clear finS finN KQ t3 t tl; grind [updF_eq, va_rf]) (by repeat (first | exact FrP.refl | refine FrP.upd ?_ (by first | exact ⟨hp, by decide⟩ | exact ⟨hcB, by decide⟩))) | exact finS _ _ _ hb484 (by grind [updF_eq]) (fun w hw hwp => by have h506 := hb506; clear finS finN KQ t3 t tl; grind [updF_eq, va_rf]) (by repeat (first | exact FrP.refl | refine FrP.upd ?_ (by first | exact ⟨hp, by decide⟩ | exact ⟨hzB, by decide⟩ | exact ⟨hcB, by decide⟩)))
  · rw [hb484]
    refine wa_aloadV (pc := 487) (y := mJ26_removeTreeNode) dJ26_removeTreeNode_487 rfl (by first | exact rf_s _ | exact rf_n | exact rf_q _) ?_
    refine wa_dup (pc := 489) (y := mJ26_removeTreeNode) dJ26_removeTreeNode_489 (by first | rfl | exact rf_cat _) ?_
    refine wa_astoreV (pc := 490) (y := mJ26_removeTreeNode) dJ26_removeTreeNode_490 (Nat.le_of_ble_eq_true rfl) (by first | rfl | (simp [okst, rf_cat] <;> assumption)) (by first | exact rf_s _ | exact rf_n | exact rf_q _) ?_
    simp only [List.set_cons_zero, List.set_cons_succ]
    refine wa_iconst (pc := 492) (y := mJ26_removeTreeNode) (Int32.ofNat 0) dJ26_removeTreeNode_492 rfl ?_
    refine wf_put (k := 14) (l := 11) 10 .boolean dJ26_removeTreeNode_493 (by assumption) rfl q1619 (Or.inl rfl) (Nat.le_of_ble_eq_true rfl) rfl (by decide +kernel) (by first | rfl | exact bI_nar _) (by first | rfl | exact bI_fit _) ?_
    refine wa_goto (pc := 496) (y := mJ26_removeTreeNode) 526 dJ26_removeTreeNode_496 rfl ?_
    refine wa_aloadV (pc := 526) (y := mJ26_removeTreeNode) dJ26_removeTreeNode_526 rfl (by first | exact rf_s _ | exact rf_n | exact rf_q _) ?_
    refine wa_aloadV (pc := 528) (y := mJ26_removeTreeNode) dJ26_removeTreeNode_528 rfl (by first | exact rf_s _ | exact rf_n | exact rf_q _) ?_
    refine wa_aloadV (pc := 530) (y := mJ26_removeTreeNode) dJ26_removeTreeNode_530 rfl (by first | exact rf_s _ | exact rf_n | exact rf_q _) ?_
    refine wa_null (pc := 532) (y := mJ26_removeTreeNode) dJ26_removeTreeNode_532 ?_
    refine wa_dup_x1 (pc := 533) (y := mJ26_removeTreeNode) dJ26_removeTreeNode_533 (by first | rfl | exact rf_cat _) (by first | rfl | exact rf_cat _) ?_
    refine wf_put (k := 14) (l := 11) 6 (.object "java/util/HashMap$TreeNode") dJ26_removeTreeNode_534 (by assumption) rfl q1614 (Or.inl rfl) (Nat.le_of_ble_eq_true rfl) rfl (by decide +kernel) (by first | rfl | exact rf_nar _ | exact rf_nar2 _) (by first | rfl | exact rf_fit _ | exact rf_fit2 _) ?_
    refine wa_dup_x1 (pc := 537) (y := mJ26_removeTreeNode) dJ26_removeTreeNode_537 (by first | rfl | exact rf_cat _) (by first | rfl | exact rf_cat _) ?_
    refine wf_put (k := 14) (l := 11) 8 (.object "java/util/HashMap$TreeNode") dJ26_removeTreeNode_538 (by assumption) rfl q1616 (Or.inl rfl) (Nat.le_of_ble_eq_true rfl) rfl (by decide +kernel) (by first | rfl | exact rf_nar _ | exact rf_nar2 _) (by first | rfl | exact rf_fit _ | exact rf_fit2 _) ?_
    refine wf_put (k := 14) (l := 11) 7 (.object "java/util/HashMap$TreeNode") dJ26_removeTreeNode_541 (by assumption) rfl q1615 (Or.inl rfl) (Nat.le_of_ble_eq_true rfl) rfl (by decide +kernel) (by first | rfl | exact rf_nar _ | exact rf_nar2 _) (by first | rfl | exact rf_fit _ | exact rf_fit2 _) ?_
    first | exact finN _ _ hb484 (by grind [updF_eq]) (fun w hw hwp => by clear finS finN KQ t3 t tl; grind [updF_eq, va_rf]) (by repeat (first | exact FrP.refl | refine FrP.upd ?_ (by first | exact ⟨hp, by decide⟩ | exact ⟨hcB, by decide⟩))) | exact finS _ _ _ hb484 (by grind [updF_eq]) (fun w hw hwp => by have h506 := hb506; clear finS finN KQ t3 t tl; grind [updF_eq, va_rf]) (by repeat (first | exact FrP.refl | refine FrP.upd ?_ (by first | exact ⟨hp, by decide⟩ | exact ⟨hzB, by decide⟩ | exact ⟨hcB, by decide⟩)))
end REMOVE
