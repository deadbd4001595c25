/-! ===== TreeNode: rotations ===== -/
/-- the links of the nodes S in the heap -/
def TL (h : AH) (F : Nat → Nat → Value) (S : Nat → Prop) (L R P : Nat → Option Nat) (C : Nat → Bool) : Prop :=
  ∀ p, S p → Is h p 14 11 ∧ F p 6 = va_rf (P p) ∧ F p 7 = va_rf (L p) ∧ F p 8 = va_rf (R p) ∧ F p 10 = .int (bI (C p))
/-- only tree links differ -/
def TFr (S : Nat → Prop) (F F2 : Nat → Nat → Value) : Prop := ∀ b j, ¬ (S b ∧ (j = 6 ∨ j = 7 ∨ j = 8 ∨ j = 10)) → F2 b j = F b j
section TREE2
variable {G : GG} {d n : Nat} {h h2 : AH} {F F2 F3 : Nat → Nat → Value} {S : Nat → Prop} {key : Nat → Nat} {root p r l : Nat} {L R P : Nat → Option Nat} {C : Nat → Bool} {lo hi rk : Nat → Nat} {top M : Nat}
theorem TFr.refl : TFr S F F := fun _ _ _ => rfl
theorem TFr.trans (a : TFr S F F2) (b : TFr S F2 F3) : TFr S F F3 := fun x j hx => (b x j hx).trans (a x j hx)
theorem TFr.upd {a i : Nat} {v : Value} (f : TFr S F F2) (ha : S a) (hi : i = 6 ∨ i = 7 ∨ i = 8 ∨ i = 10) : TFr S F (updF F2 a i v) := fun b j hb => by
  have := f b j hb
  by_cases e : b = a
  · subst e
    rw [updF_i (fun e => hb ⟨ha, by rw [e]; exact hi⟩) rfl, this]
  · rw [updF_a e rfl, this]
theorem s_J26_rotateLeft (t : T0 S key root L R P lo hi rk top M) (tl : TL h F S L R P C) (hp : S p) (hr : R p = some r) :
    MA G d mJ26_rotateLeft [.ref root, .ref p] (sF h F) (fun q h' => q = .inl (some (.ref (if P p = none then r else root))) ∧ ∃ F2, h' = sF h F2 ∧ TFr S F F2 ∧
      TL h F2 S (upo (chd L (P p) p r) r (some p)) (upo (chd R (P p) p r) p (L r)) (upo (upo (upq P (L r) (some p)) r (P p)) p (some r)) (if P p = none then upo C r false else C)) := by
  have tp := t.2 p hp
  have hrS := tp.2.2.2.1 r hr
  have tr := t.2 r hrS.1
  obtain ⟨p1, p2, p3, p4, p5⟩ := tl p hp
  obtain ⟨r1, r2, r3, r4, r5⟩ := tl r hrS.1
  have hpr : p ≠ r := by rintro rfl; omega
  change WA G d mJ26_rotateLeft 0 [.ref root, .ref p, .retAddr 0, .retAddr 0, .retAddr 0] [] _ _
  rw [hr] at p4
  refine wa_aloadV_n (pc := 0) (y := mJ26_rotateLeft) dJ26_rotateLeft_0 rfl (by first | exact rf_s _ | exact rf_n | exact rf_q _) ?_
  refine wa_ifnull (pc := 1) (y := mJ26_rotateLeft) dJ26_rotateLeft_1 ?_
  refine wa_aloadV_n (pc := 4) (y := mJ26_rotateLeft) dJ26_rotateLeft_4 rfl (by first | exact rf_s _ | exact rf_n | exact rf_q _) ?_
  refine wf_get (k := 14) (l := 11) 8 dJ26_rotateLeft_5 (by assumption) rfl q1616 (Or.inl rfl) (Nat.le_of_ble_eq_true rfl) (Nat.le_of_ble_eq_true rfl) (by (repeat (first | exact updF_self _ _ _ _ | (apply updF_i; · decide) | (apply updF_a; · first | assumption | (apply Ne.symm; assumption) | omega) | (apply newF_a; · first | assumption | (apply Ne.symm; assumption) | omega) | exact newL_self (by rfl) | exact newF_self (by rfl) | (apply cpyF_a; · first | assumption | (apply Ne.symm; assumption) | omega))) <;> first | assumption | rfl) ?_
  refine wa_dup (pc := 8) (y := mJ26_rotateLeft) dJ26_rotateLeft_8 (by first | rfl | exact rf_cat _) ?_
  refine wa_astoreV_n (pc := 9) (y := mJ26_rotateLeft) dJ26_rotateLeft_9 (Nat.le_of_ble_eq_true rfl) (by first | rfl | (simp [okst, rf_cat] <;> assumption)) (by first | exact rf_s _ | exact rf_n | exact rf_q _) ?_
  change WA _ _ _ _ (List.set _ 2 _) _ _ _
  simp only [List.set_cons_zero, List.set_cons_succ]
  refine wa_ifnull (pc := 10) (y := mJ26_rotateLeft) dJ26_rotateLeft_10 ?_
  refine wa_aloadV_n (pc := 13) (y := mJ26_rotateLeft) dJ26_rotateLeft_13 rfl (by first | exact rf_s _ | exact rf_n | exact rf_q _) ?_
  refine wa_aloadV_n (pc := 14) (y := mJ26_rotateLeft) dJ26_rotateLeft_14 rfl (by first | exact rf_s _ | exact rf_n | exact rf_q _) ?_
  refine wf_get (k := 14) (l := 11) 7 dJ26_rotateLeft_15 (by assumption) rfl q1615 (Or.inl rfl) (Nat.le_of_ble_eq_true rfl) (Nat.le_of_ble_eq_true rfl) (by (repeat (first | exact updF_self _ _ _ _ | (apply updF_i; · decide) | (apply updF_a; · first | assumption | (apply Ne.symm; assumption) | omega) | (apply newF_a; · first | assumption | (apply Ne.symm; assumption) | omega) | exact newL_self (by rfl) | exact newF_self (by rfl) | (apply cpyF_a; · first | assumption | (apply Ne.symm; assumption) | omega))) <;> first | assumption | rfl) ?_
  refine wa_dup_x1 (pc := 18) (y := mJ26_rotateLeft) dJ26_rotateLeft_18 (by first | rfl | exact rf_cat _) (by first | rfl | exact rf_cat _) ?_
  refine wf_put (k := 14) (l := 11) 8 (.object "java/util/HashMap$TreeNode") dJ26_rotateLeft_19 (by assumption) rfl q1616 (Or.inl rfl) (Nat.le_of_ble_eq_true rfl) rfl (by decide +kernel) (by first | rfl | exact rf_nar _ | exact rf_nar2 _) (by first | rfl | exact rf_fit _ | exact rf_fit2 _) ?_
  refine wa_dup (pc := 22) (y := mJ26_rotateLeft) dJ26_rotateLeft_22 (by first | rfl | exact rf_cat _) ?_
  refine wa_astoreV (pc := 23) (y := mJ26_rotateLeft) dJ26_rotateLeft_23 (Nat.le_of_ble_eq_true rfl) (by first | rfl | (simp [okst, rf_cat] <;> assumption)) (by first | exact rf_s _ | exact rf_n | exact rf_q _) ?_
  simp only [List.set_cons_zero, List.set_cons_succ]
  refine wa_ifnullV (pc := 25) 34 dJ26_rotateLeft_25 rfl (by first | exact rf_s _ | exact rf_n | exact rf_q _) (fun hb25 => ?_) (fun a25 hb25 => ?_)
  · refine wa_aloadV_n (pc := 34) (y := mJ26_rotateLeft) dJ26_rotateLeft_34 rfl (by first | exact rf_s _ | exact rf_n | exact rf_q _) ?_
    refine wa_aloadV_n (pc := 35) (y := mJ26_rotateLeft) dJ26_rotateLeft_35 rfl (by first | exact rf_s _ | exact rf_n | exact rf_q _) ?_
    refine wf_get (k := 14) (l := 11) 6 dJ26_rotateLeft_36 (by assumption) rfl q1614 (Or.inl rfl) (Nat.le_of_ble_eq_true rfl) (Nat.le_of_ble_eq_true rfl) (by (repeat (first | exact updF_self _ _ _ _ | (apply updF_i; · decide) | (apply updF_a; · first | assumption | (apply Ne.symm; assumption) | omega) | (apply newF_a; · first | assumption | (apply Ne.symm; assumption) | omega) | exact newL_self (by rfl) | exact newF_self (by rfl) | (apply cpyF_a; · first | assumption | (apply Ne.symm; assumption) | omega))) <;> first | assumption | rfl) ?_
    refine wa_dup_x1 (pc := 39) (y := mJ26_rotateLeft) dJ26_rotateLeft_39 (by first | rfl | exact rf_cat _) (by first | rfl | exact rf_cat _) ?_
    refine wf_put (k := 14) (l := 11) 6 (.object "java/util/HashMap$TreeNode") dJ26_rotateLeft_40 (by assumption) rfl q1614 (Or.inl rfl) (Nat.le_of_ble_eq_true rfl) rfl (by decide +kernel) (by first | rfl | exact rf_nar _ | exact rf_nar2 _) (by first | rfl | exact rf_fit _ | exact rf_fit2 _) ?_
    refine wa_dup (pc := 43) (y := mJ26_rotateLeft) dJ26_rotateLeft_43 (by first | rfl | exact rf_cat _) ?_
    refine wa_astoreV_n (pc := 44) (y := mJ26_rotateLeft) dJ26_rotateLeft_44 (Nat.le_of_ble_eq_true rfl) (by first | rfl | (simp [okst, rf_cat] <;> assumption)) (by first | exact rf_s _ | exact rf_n | exact rf_q _) ?_
    change WA _ _ _ _ (List.set _ 3 _) _ _ _
    simp only [List.set_cons_zero, List.set_cons_succ]
    refine wa_ifnonnullV (pc := 45) 58 dJ26_rotateLeft_45 rfl (by first | exact rf_s _ | exact rf_n | exact rf_q _) (fun a45 hb45 => ?_) (fun hb45 => ?_)
    · have hy := tp.2.2.2.2 _ hb45
      obtain ⟨y1, y2, y3, y4, y5⟩ := tl _ hy.1
      have ty := t.2 _ hy.1
      have hyp : a45 ≠ p := by intro e; subst e; grind
      have hyr : a45 ≠ r := by intro e; subst e; grind
      rw [hb45]
      refine wa_aloadV_n (pc := 58) (y := mJ26_rotateLeft) dJ26_rotateLeft_58 rfl (by first | exact rf_s _ | exact rf_n | exact rf_q _) ?_
      refine wf_get (k := 14) (l := 11) 7 dJ26_rotateLeft_59 (by assumption) rfl q1615 (Or.inl rfl) (Nat.le_of_ble_eq_true rfl) (Nat.le_of_ble_eq_true rfl) (by (repeat (first | exact updF_self _ _ _ _ | (apply updF_i; · decide) | (apply updF_a; · first | assumption | (apply Ne.symm; assumption) | omega) | (apply newF_a; · first | assumption | (apply Ne.symm; assumption) | omega) | exact newL_self (by rfl) | exact newF_self (by rfl) | (apply cpyF_a; · first | assumption | (apply Ne.symm; assumption) | omega))) <;> first | assumption | rfl) ?_
      refine wa_aloadV_n (pc := 62) (y := mJ26_rotateLeft) dJ26_rotateLeft_62 rfl (by first | exact rf_s _ | exact rf_n | exact rf_q _) ?_
      refine wa_acneV (pc := 63) 74 dJ26_rotateLeft_63 rfl (by first | exact rf_s _ | exact rf_n | exact rf_q _) (by first | exact rf_s _ | exact rf_n | exact rf_q _) (fun hb63 => ?_) (fun hb63 => ?_)
      · refine wa_aloadV_n (pc := 74) (y := mJ26_rotateLeft) dJ26_rotateLeft_74 rfl (by first | exact rf_s _ | exact rf_n | exact rf_q _) ?_
        refine wa_aloadV_n (pc := 75) (y := mJ26_rotateLeft) dJ26_rotateLeft_75 rfl (by first | exact rf_s _ | exact rf_n | exact rf_q _) ?_
        refine wf_put (k := 14) (l := 11) 8 (.object "java/util/HashMap$TreeNode") dJ26_rotateLeft_76 (by assumption) rfl q1616 (Or.inl rfl) (Nat.le_of_ble_eq_true rfl) rfl (by decide +kernel) (by first | rfl | exact rf_nar _ | exact rf_nar2 _) (by first | rfl | exact rf_fit _ | exact rf_fit2 _) ?_
        refine wa_aloadV_n (pc := 79) (y := mJ26_rotateLeft) dJ26_rotateLeft_79 rfl (by first | exact rf_s _ | exact rf_n | exact rf_q _) ?_
        refine wa_aloadV_n (pc := 80) (y := mJ26_rotateLeft) dJ26_rotateLeft_80 rfl (by first | exact rf_s _ | exact rf_n | exact rf_q _) ?_
        refine wf_put (k := 14) (l := 11) 7 (.object "java/util/HashMap$TreeNode") dJ26_rotateLeft_81 (by assumption) rfl q1615 (Or.inl rfl) (Nat.le_of_ble_eq_true rfl) rfl (by decide +kernel) (by first | rfl | exact rf_nar _ | exact rf_nar2 _) (by first | rfl | exact rf_fit _ | exact rf_fit2 _) ?_
        refine wa_aloadV_n (pc := 84) (y := mJ26_rotateLeft) dJ26_rotateLeft_84 rfl (by first | exact rf_s _ | exact rf_n | exact rf_q _) ?_
        refine wa_aloadV_n (pc := 85) (y := mJ26_rotateLeft) dJ26_rotateLeft_85 rfl (by first | exact rf_s _ | exact rf_n | exact rf_q _) ?_
        refine wf_put (k := 14) (l := 11) 6 (.object "java/util/HashMap$TreeNode") dJ26_rotateLeft_86 (by assumption) rfl q1614 (Or.inl rfl) (Nat.le_of_ble_eq_true rfl) rfl (by decide +kernel) (by first | rfl | exact rf_nar _ | exact rf_nar2 _) (by first | rfl | exact rf_fit _ | exact rf_fit2 _) ?_
        refine wa_aloadV_n (pc := 89) (y := mJ26_rotateLeft) dJ26_rotateLeft_89 rfl (by first | exact rf_s _ | exact rf_n | exact rf_q _) ?_
        refine wa_areturnV (pc := 90) (y := mJ26_rotateLeft) (.object "java/util/HashMap$TreeNode") dJ26_rotateLeft_90 rfl (Or.inl ⟨_, rfl⟩) (by first | exact rf_s _ | exact rf_n | exact rf_q _) ⟨by simp [va_rf], _, rfl, (by repeat (first | exact TFr.refl | refine TFr.upd ?_ (by first | exact hp | exact hrS.1 | exact hx.1 | exact hy.1) (by decide))), fun q hq => by obtain ⟨q1, q2, q3, q4, q5⟩ := tl q hq; have tq := t.2 q hq; refine ⟨q1, ?_, ?_, ?_, ?_⟩ <;> grind [updF_eq, upo, upq, chd, va_rf, bI]⟩
      · refine wa_aloadV_n (pc := 66) (y := mJ26_rotateLeft) dJ26_rotateLeft_66 rfl (by first | exact rf_s _ | exact rf_n | exact rf_q _) ?_
        refine wa_aloadV_n (pc := 67) (y := mJ26_rotateLeft) dJ26_rotateLeft_67 rfl (by first | exact rf_s _ | exact rf_n | exact rf_q _) ?_
        refine wf_put (k := 14) (l := 11) 7 (.object "java/util/HashMap$TreeNode") dJ26_rotateLeft_68 (by assumption) rfl q1615 (Or.inl rfl) (Nat.le_of_ble_eq_true rfl) rfl (by decide +kernel) (by first | rfl | exact rf_nar _ | exact rf_nar2 _) (by first | rfl | exact rf_fit _ | exact rf_fit2 _) ?_
        refine wa_goto (pc := 71) (y := mJ26_rotateLeft) 79 dJ26_rotateLeft_71 rfl ?_
        refine wa_aloadV_n (pc := 79) (y := mJ26_rotateLeft) dJ26_rotateLeft_79 rfl (by first | exact rf_s _ | exact rf_n | exact rf_q _) ?_
        refine wa_aloadV_n (pc := 80) (y := mJ26_rotateLeft) dJ26_rotateLeft_80 rfl (by first | exact rf_s _ | exact rf_n | exact rf_q _) ?_
        refine wf_put (k := 14) (l := 11) 7 (.object "java/util/HashMap$TreeNode") dJ26_rotateLeft_81 (by assumption) rfl q1615 (Or.inl rfl) (Nat.le_of_ble_eq_true rfl) rfl (by decide +kernel) (by first | rfl | exact rf_nar _ | exact rf_nar2 _) (by first | rfl | exact rf_fit _ | exact rf_fit2 _) ?_
        refine wa_aloadV_n (pc := 84) (y := mJ26_rotateLeft) dJ26_rotateLeft_84 rfl (by first | exact rf_s _ | exact rf_n | exact rf_q _) ?_
        refine wa_aloadV_n (pc := 85) (y := mJ26_rotateLeft) dJ26_rotateLeft_85 rfl (by first | exact rf_s _ | exact rf_n | exact rf_q _) ?_
        refine wf_put (k := 14) (l := 11) 6 (.object "java/util/HashMap$TreeNode") dJ26_rotateLeft_86 (by assumption) rfl q1614 (Or.inl rfl) (Nat.le_of_ble_eq_true rfl) rfl (by decide +kernel) (by first | rfl | exact rf_nar _ | exact rf_nar2 _) (by first | rfl | exact rf_fit _ | exact rf_fit2 _) ?_
        refine wa_aloadV_n (pc := 89) (y := mJ26_rotateLeft) dJ26_rotateLeft_89 rfl (by first | exact rf_s _ | exact rf_n | exact rf_q _) ?_
        refine wa_areturnV (pc := 90) (y := mJ26_rotateLeft) (.object "java/util/HashMap$TreeNode") dJ26_rotateLeft_90 rfl (Or.inl ⟨_, rfl⟩) (by first | exact rf_s _ | exact rf_n | exact rf_q _) ⟨by simp [va_rf], _, rfl, (by repeat (first | exact TFr.refl | refine TFr.upd ?_ (by first | exact hp | exact hrS.1 | exact hx.1 | exact hy.1) (by decide))), fun q hq => by obtain ⟨q1, q2, q3, q4, q5⟩ := tl q hq; have tq := t.2 q hq; refine ⟨q1, ?_, ?_, ?_, ?_⟩ <;> grind [updF_eq, upo, upq, chd, va_rf, bI]⟩
    · have hpr9 := tp.2.1 hb45
      rw [hb45]
      refine wa_aloadV_n (pc := 48) (y := mJ26_rotateLeft) dJ26_rotateLeft_48 rfl (by first | exact rf_s _ | exact rf_n | exact rf_q _) ?_
      refine wa_dup (pc := 49) (y := mJ26_rotateLeft) dJ26_rotateLeft_49 (by first | rfl | exact rf_cat _) ?_
      refine wa_astoreV_n (pc := 50) (y := mJ26_rotateLeft) dJ26_rotateLeft_50 (Nat.le_of_ble_eq_true rfl) (by first | rfl | (simp [okst, rf_cat] <;> assumption)) (by first | exact rf_s _ | exact rf_n | exact rf_q _) ?_
      change WA _ _ _ _ (List.set _ 0 _) _ _ _
      simp only [List.set_cons_zero, List.set_cons_succ]
      refine wa_iconst (pc := 51) (y := mJ26_rotateLeft) (Int32.ofNat 0) dJ26_rotateLeft_51 rfl ?_
      refine wf_put (k := 14) (l := 11) 10 .boolean dJ26_rotateLeft_52 (by assumption) rfl q1619 (Or.inl rfl) (Nat.le_of_ble_eq_true rfl) rfl (by decide +kernel) (by first | rfl | exact bI_nar _) (by first | rfl | exact bI_fit _) ?_
      refine wa_goto (pc := 55) (y := mJ26_rotateLeft) 79 dJ26_rotateLeft_55 rfl ?_
      refine wa_aloadV_n (pc := 79) (y := mJ26_rotateLeft) dJ26_rotateLeft_79 rfl (by first | exact rf_s _ | exact rf_n | exact rf_q _) ?_
      refine wa_aloadV_n (pc := 80) (y := mJ26_rotateLeft) dJ26_rotateLeft_80 rfl (by first | exact rf_s _ | exact rf_n | exact rf_q _) ?_
      refine wf_put (k := 14) (l := 11) 7 (.object "java/util/HashMap$TreeNode") dJ26_rotateLeft_81 (by assumption) rfl q1615 (Or.inl rfl) (Nat.le_of_ble_eq_true rfl) rfl (by decide +kernel) (by first | rfl | exact rf_nar _ | exact rf_nar2 _) (by first | rfl | exact rf_fit _ | exact rf_fit2 _) ?_
      refine wa_aloadV_n (pc := 84) (y := mJ26_rotateLeft) dJ26_rotateLeft_84 rfl (by first | exact rf_s _ | exact rf_n | exact rf_q _) ?_
      refine wa_aloadV_n (pc := 85) (y := mJ26_rotateLeft) dJ26_rotateLeft_85 rfl (by first | exact rf_s _ | exact rf_n | exact rf_q _) ?_
      refine wf_put (k := 14) (l := 11) 6 (.object "java/util/HashMap$TreeNode") dJ26_rotateLeft_86 (by assumption) rfl q1614 (Or.inl rfl) (Nat.le_of_ble_eq_true rfl) rfl (by decide +kernel) (by first | rfl | exact rf_nar _ | exact rf_nar2 _) (by first | rfl | exact rf_fit _ | exact rf_fit2 _) ?_
      refine wa_aloadV_n (pc := 89) (y := mJ26_rotateLeft) dJ26_rotateLeft_89 rfl (by first | exact rf_s _ | exact rf_n | exact rf_q _) ?_
      refine wa_areturnV (pc := 90) (y := mJ26_rotateLeft) (.object "java/util/HashMap$TreeNode") dJ26_rotateLeft_90 rfl (Or.inl ⟨_, rfl⟩) (by first | exact rf_s _ | exact rf_n | exact rf_q _) ⟨by simp [va_rf], _, rfl, (by repeat (first | exact TFr.refl | refine TFr.upd ?_ (by first | exact hp | exact hrS.1 | exact hx.1 | exact hy.1) (by decide))), fun q hq => by obtain ⟨q1, q2, q3, q4, q5⟩ := tl q hq; have tq := t.2 q hq; refine ⟨q1, ?_, ?_, ?_, ?_⟩ <;> grind [updF_eq, upo, upq, chd, va_rf, bI]⟩
  · have hx := tr.2.2.1 _ hb25
    obtain ⟨x1, x2, x3, x4, x5⟩ := tl _ hx.1
    rw [hb25]
    have hxp : a25 ≠ p := by intro e; subst e; omega
    have hxr : a25 ≠ r := by intro e; subst e; omega
    refine wa_aloadV (pc := 28) (y := mJ26_rotateLeft) dJ26_rotateLeft_28 rfl (by first | exact rf_s _ | exact rf_n | exact rf_q _) ?_
    refine wa_aloadV_n (pc := 30) (y := mJ26_rotateLeft) dJ26_rotateLeft_30 rfl (by first | exact rf_s _ | exact rf_n | exact rf_q _) ?_
    refine wf_put (k := 14) (l := 11) 6 (.object "java/util/HashMap$TreeNode") dJ26_rotateLeft_31 (by assumption) rfl q1614 (Or.inl rfl) (Nat.le_of_ble_eq_true rfl) rfl (by decide +kernel) (by first | rfl | exact rf_nar _ | exact rf_nar2 _) (by first | rfl | exact rf_fit _ | exact rf_fit2 _) ?_
    refine wa_aloadV_n (pc := 34) (y := mJ26_rotateLeft) dJ26_rotateLeft_34 rfl (by first | exact rf_s _ | exact rf_n | exact rf_q _) ?_
    refine wa_aloadV_n (pc := 35) (y := mJ26_rotateLeft) dJ26_rotateLeft_35 rfl (by first | exact rf_s _ | exact rf_n | exact rf_q _) ?_
    refine wf_get (k := 14) (l := 11) 6 dJ26_rotateLeft_36 (by assumption) rfl q1614 (Or.inl rfl) (Nat.le_of_ble_eq_true rfl) (Nat.le_of_ble_eq_true rfl) (by (repeat (first | exact updF_self _ _ _ _ | (apply updF_i; · decide) | (apply updF_a; · first | assumption | (apply Ne.symm; assumption) | omega) | (apply newF_a; · first | assumption | (apply Ne.symm; assumption) | omega) | exact newL_self (by rfl) | exact newF_self (by rfl) | (apply cpyF_a; · first | assumption | (apply Ne.symm; assumption) | omega))) <;> first | assumption | rfl) ?_
    refine wa_dup_x1 (pc := 39) (y := mJ26_rotateLeft) dJ26_rotateLeft_39 (by first | rfl | exact rf_cat _) (by first | rfl | exact rf_cat _) ?_
    refine wf_put (k := 14) (l := 11) 6 (.object "java/util/HashMap$TreeNode") dJ26_rotateLeft_40 (by assumption) rfl q1614 (Or.inl rfl) (Nat.le_of_ble_eq_true rfl) rfl (by decide +kernel) (by first | rfl | exact rf_nar _ | exact rf_nar2 _) (by first | rfl | exact rf_fit _ | exact rf_fit2 _) ?_
    refine wa_dup (pc := 43) (y := mJ26_rotateLeft) dJ26_rotateLeft_43 (by first | rfl | exact rf_cat _) ?_
    refine wa_astoreV_n (pc := 44) (y := mJ26_rotateLeft) dJ26_rotateLeft_44 (Nat.le_of_ble_eq_true rfl) (by first | rfl | (simp [okst, rf_cat] <;> assumption)) (by first | exact rf_s _ | exact rf_n | exact rf_q _) ?_
    change WA _ _ _ _ (List.set _ 3 _) _ _ _
    simp only [List.set_cons_zero, List.set_cons_succ]
    refine wa_ifnonnullV (pc := 45) 58 dJ26_rotateLeft_45 rfl (by first | exact rf_s _ | exact rf_n | exact rf_q _) (fun a45 hb45 => ?_) (fun hb45 => ?_)
    · have hy := tp.2.2.2.2 _ hb45
      obtain ⟨y1, y2, y3, y4, y5⟩ := tl _ hy.1
      have ty := t.2 _ hy.1
      have hyp : a45 ≠ p := by intro e; subst e; grind
      have hyr : a45 ≠ r := by intro e; subst e; grind
      rw [hb45]
      refine wa_aloadV_n (pc := 58) (y := mJ26_rotateLeft) dJ26_rotateLeft_58 rfl (by first | exact rf_s _ | exact rf_n | exact rf_q _) ?_
      refine wf_get (k := 14) (l := 11) 7 dJ26_rotateLeft_59 (by assumption) rfl q1615 (Or.inl rfl) (Nat.le_of_ble_eq_true rfl) (Nat.le_of_ble_eq_true rfl) (by (repeat (first | exact updF_self _ _ _ _ | (apply updF_i; · decide) | (apply updF_a; · first | assumption | (apply Ne.symm; assumption) | omega) | (apply newF_a; · first | assumption | (apply Ne.symm; assumption) | omega) | exact newL_self (by rfl) | exact newF_self (by rfl) | (apply cpyF_a; · first | assumption | (apply Ne.symm; assumption) | omega))) <;> first | assumption | rfl) ?_
      refine wa_aloadV_n (pc := 62) (y := mJ26_rotateLeft) dJ26_rotateLeft_62 rfl (by first | exact rf_s _ | exact rf_n | exact rf_q _) ?_
      refine wa_acneV (pc := 63) 74 dJ26_rotateLeft_63 rfl (by first | exact rf_s _ | exact rf_n | exact rf_q _) (by first | exact rf_s _ | exact rf_n | exact rf_q _) (fun hb63 => ?_) (fun hb63 => ?_)
      · refine wa_aloadV_n (pc := 74) (y := mJ26_rotateLeft) dJ26_rotateLeft_74 rfl (by first | exact rf_s _ | exact rf_n | exact rf_q _) ?_
        refine wa_aloadV_n (pc := 75) (y := mJ26_rotateLeft) dJ26_rotateLeft_75 rfl (by first | exact rf_s _ | exact rf_n | exact rf_q _) ?_
        refine wf_put (k := 14) (l := 11) 8 (.object "java/util/HashMap$TreeNode") dJ26_rotateLeft_76 (by assumption) rfl q1616 (Or.inl rfl) (Nat.le_of_ble_eq_true rfl) rfl (by decide +kernel) (by first | rfl | exact rf_nar _ | exact rf_nar2 _) (by first | rfl | exact rf_fit _ | exact rf_fit2 _) ?_
        refine wa_aloadV_n (pc := 79) (y := mJ26_rotateLeft) dJ26_rotateLeft_79 rfl (by first | exact rf_s _ | exact rf_n | exact rf_q _) ?_
        refine wa_aloadV_n (pc := 80) (y := mJ26_rotateLeft) dJ26_rotateLeft_80 rfl (by first | exact rf_s _ | exact rf_n | exact rf_q _) ?_
        refine wf_put (k := 14) (l := 11) 7 (.object "java/util/HashMap$TreeNode") dJ26_rotateLeft_81 (by assumption) rfl q1615 (Or.inl rfl) (Nat.le_of_ble_eq_true rfl) rfl (by decide +kernel) (by first | rfl | exact rf_nar _ | exact rf_nar2 _) (by first | rfl | exact rf_fit _ | exact rf_fit2 _) ?_
        refine wa_aloadV_n (pc := 84) (y := mJ26_rotateLeft) dJ26_rotateLeft_84 rfl (by first | exact rf_s _ | exact rf_n | exact rf_q _) ?_
        refine wa_aloadV_n (pc := 85) (y := mJ26_rotateLeft) dJ26_rotateLeft_85 rfl (by first | exact rf_s _ | exact rf_n | exact rf_q _) ?_
        refine wf_put (k := 14) (l := 11) 6 (.object "java/util/HashMap$TreeNode") dJ26_rotateLeft_86 (by assumption) rfl q1614 (Or.inl rfl) (Nat.le_of_ble_eq_true rfl) rfl (by decide +kernel) (by first | rfl | exact rf_nar _ | exact rf_nar2 _) (by first | rfl | exact rf_fit _ | exact rf_fit2 _) ?_
        refine wa_aloadV_n (pc := 89) (y := mJ26_rotateLeft) dJ26_rotateLeft_89 rfl (by first | exact rf_s _ | exact rf_n | exact rf_q _) ?_
        refine wa_areturnV (pc := 90) (y := mJ26_rotateLeft) (.object "java/util/HashMap$TreeNode") dJ26_rotateLeft_90 rfl (Or.inl ⟨_, rfl⟩) (by first | exact rf_s _ | exact rf_n | exact rf_q _) ⟨by simp [va_rf], _, rfl, (by repeat (first | exact TFr.refl | refine TFr.upd ?_ (by first | exact hp | exact hrS.1 | exact hx.1 | exact hy.1) (by decide))), fun q hq => by obtain ⟨q1, q2, q3, q4, q5⟩ := tl q hq; have tq := t.2 q hq; refine ⟨q1, ?_, ?_, ?_, ?_⟩ <;> grind [updF_eq, upo, upq, chd, va_rf, bI]⟩
      · refine wa_aloadV_n (pc := 66) (y := mJ26_rotateLeft) dJ26_rotateLeft_66 rfl (by first | exact rf_s _ | exact rf_n | exact rf_q _) ?_
        refine wa_aloadV_n (pc := 67) (y := mJ26_rotateLeft) dJ26_rotateLeft_67 rfl (by first | exact rf_s _ | exact rf_n | exact rf_q _) ?_
        refine wf_put (k := 14) (l := 11) 7 (.object "java/util/HashMap$TreeNode") dJ26_rotateLeft_68 (by assumption) rfl q1615 (Or.inl rfl) (Nat.le_of_ble_eq_true rfl) rfl (by decide +kernel) (by first | rfl | exact rf_nar _ | exact rf_nar2 _) (by first | rfl | exact rf_fit _ | exact rf_fit2 _) ?_
        refine wa_goto (pc := 71) (y := mJ26_rotateLeft) 79 dJ26_rotateLeft_71 rfl ?_
        refine wa_aloadV_n (pc := 79) (y := mJ26_rotateLeft) dJ26_rotateLeft_79 rfl (by first | exact rf_s _ | exact rf_n | exact rf_q _) ?_
        refine wa_aloadV_n (pc := 80) (y := mJ26_rotateLeft) dJ26_rotateLeft_80 rfl (by first | exact rf_s _ | exact rf_n | exact rf_q _) ?_
        refine wf_put (k := 14) (l := 11) 7 (.object "java/util/HashMap$TreeNode") dJ26_rotateLeft_81 (by assumption) rfl q1615 (Or.inl rfl) (Nat.le_of_ble_eq_true rfl) rfl (by decide +kernel) (by first | rfl | exact rf_nar _ | exact rf_nar2 _) (by first | rfl | exact rf_fit _ | exact rf_fit2 _) ?_
        refine wa_aloadV_n (pc := 84) (y := mJ26_rotateLeft) dJ26_rotateLeft_84 rfl (by first | exact rf_s _ | exact rf_n | exact rf_q _) ?_
        refine wa_aloadV_n (pc := 85) (y := mJ26_rotateLeft) dJ26_rotateLeft_85 rfl (by first | exact rf_s _ | exact rf_n | exact rf_q _) ?_
        refine wf_put (k := 14) (l := 11) 6 (.object "java/util/HashMap$TreeNode") dJ26_rotateLeft_86 (by assumption) rfl q1614 (Or.inl rfl) (Nat.le_of_ble_eq_true rfl) rfl (by decide +kernel) (by first | rfl | exact rf_nar _ | exact rf_nar2 _) (by first | rfl | exact rf_fit _ | exact rf_fit2 _) ?_
        refine wa_aloadV_n (pc := 89) (y := mJ26_rotateLeft) dJ26_rotateLeft_89 rfl (by first | exact rf_s _ | exact rf_n | exact rf_q _) ?_
        refine wa_areturnV (pc := 90) (y := mJ26_rotateLeft) (.object "java/util/HashMap$TreeNode") dJ26_rotateLeft_90 rfl (Or.inl ⟨_, rfl⟩) (by first | exact rf_s _ | exact rf_n | exact rf_q _) ⟨by simp [va_rf], _, rfl, (by repeat (first | exact TFr.refl | refine TFr.upd ?_ (by first | exact hp | exact hrS.1 | exact hx.1 | exact hy.1) (by decide))), fun q hq => by obtain ⟨q1, q2, q3, q4, q5⟩ := tl q hq; have tq := t.2 q hq; refine ⟨q1, ?_, ?_, ?_, ?_⟩ <;> grind [updF_eq, upo, upq, chd, va_rf, bI]⟩
    · have hpr9 := tp.2.1 hb45
      rw [hb45]
      refine wa_aloadV_n (pc := 48) (y := mJ26_rotateLeft) dJ26_rotateLeft_48 rfl (by first | exact rf_s _ | exact rf_n | exact rf_q _) ?_
      refine wa_dup (pc := 49) (y := mJ26_rotateLeft) dJ26_rotateLeft_49 (by first | rfl | exact rf_cat _) ?_
      refine wa_astoreV_n (pc := 50) (y := mJ26_rotateLeft) dJ26_rotateLeft_50 (Nat.le_of_ble_eq_true rfl) (by first | rfl | (simp [okst, rf_cat] <;> assumption)) (by first | exact rf_s _ | exact rf_n | exact rf_q _) ?_
      change WA _ _ _ _ (List.set _ 0 _) _ _ _
      simp only [List.set_cons_zero, List.set_cons_succ]
      refine wa_iconst (pc := 51) (y := mJ26_rotateLeft) (Int32.ofNat 0) dJ26_rotateLeft_51 rfl ?_
      refine wf_put (k := 14) (l := 11) 10 .boolean dJ26_rotateLeft_52 (by assumption) rfl q1619 (Or.inl rfl) (Nat.le_of_ble_eq_true rfl) rfl (by decide +kernel) (by first | rfl | exact bI_nar _) (by first | rfl | exact bI_fit _) ?_
      refine wa_goto (pc := 55) (y := mJ26_rotateLeft) 79 dJ26_rotateLeft_55 rfl ?_
      refine wa_aloadV_n (pc := 79) (y := mJ26_rotateLeft) dJ26_rotateLeft_79 rfl (by first | exact rf_s _ | exact rf_n | exact rf_q _) ?_
      refine wa_aloadV_n (pc := 80) (y := mJ26_rotateLeft) dJ26_rotateLeft_80 rfl (by first | exact rf_s _ | exact rf_n | exact rf_q _) ?_
      refine wf_put (k := 14) (l := 11) 7 (.object "java/util/HashMap$TreeNode") dJ26_rotateLeft_81 (by assumption) rfl q1615 (Or.inl rfl) (Nat.le_of_ble_eq_true rfl) rfl (by decide +kernel) (by first | rfl | exact rf_nar _ | exact rf_nar2 _) (by first | rfl | exact rf_fit _ | exact rf_fit2 _) ?_
      refine wa_aloadV_n (pc := 84) (y := mJ26_rotateLeft) dJ26_rotateLeft_84 rfl (by first | exact rf_s _ | exact rf_n | exact rf_q _) ?_
      refine wa_aloadV_n (pc := 85) (y := mJ26_rotateLeft) dJ26_rotateLeft_85 rfl (by first | exact rf_s _ | exact rf_n | exact rf_q _) ?_
      refine wf_put (k := 14) (l := 11) 6 (.object "java/util/HashMap$TreeNode") dJ26_rotateLeft_86 (by assumption) rfl q1614 (Or.inl rfl) (Nat.le_of_ble_eq_true rfl) rfl (by decide +kernel) (by first | rfl | exact rf_nar _ | exact rf_nar2 _) (by first | rfl | exact rf_fit _ | exact rf_fit2 _) ?_
      refine wa_aloadV_n (pc := 89) (y := mJ26_rotateLeft) dJ26_rotateLeft_89 rfl (by first | exact rf_s _ | exact rf_n | exact rf_q _) ?_
      refine wa_areturnV (pc := 90) (y := mJ26_rotateLeft) (.object "java/util/HashMap$TreeNode") dJ26_rotateLeft_90 rfl (Or.inl ⟨_, rfl⟩) (by first | exact rf_s _ | exact rf_n | exact rf_q _) ⟨by simp [va_rf], _, rfl, (by repeat (first | exact TFr.refl | refine TFr.upd ?_ (by first | exact hp | exact hrS.1 | exact hx.1 | exact hy.1) (by decide))), fun q hq => by obtain ⟨q1, q2, q3, q4, q5⟩ := tl q hq; have tq := t.2 q hq; refine ⟨q1, ?_, ?_, ?_, ?_⟩ <;> grind [updF_eq, upo, upq, chd, va_rf, bI]⟩
theorem s_J26_rotateRight (t : T0 S key root L R P lo hi rk top M) (tl : TL h F S L R P C) (hp : S p) (hr : L p = some r) :
    MA G d mJ26_rotateRight [.ref root, .ref p] (sF h F) (fun q h' => q = .inl (some (.ref (if P p = none then r else root))) ∧ ∃ F2, h' = sF h F2 ∧ TFr S F F2 ∧
      TL h F2 S (upo (chd L (P p) p r) p (R r)) (upo (chd R (P p) p r) r (some p)) (upo (upo (upq P (R r) (some p)) r (P p)) p (some r)) (if P p = none then upo C r false else C)) := by
  have tp := t.2 p hp
  have hrS := tp.2.2.1 r hr
  have tr := t.2 r hrS.1
  obtain ⟨p1, p2, p3, p4, p5⟩ := tl p hp
  obtain ⟨r1, r2, r3, r4, r5⟩ := tl r hrS.1
  have hpr : p ≠ r := by rintro rfl; omega
  change WA G d mJ26_rotateRight 0 [.ref root, .ref p, .retAddr 0, .retAddr 0, .retAddr 0] [] _ _
  rw [hr] at p3
  refine wa_aloadV_n (pc := 0) (y := mJ26_rotateRight) dJ26_rotateRight_0 rfl (by first | exact rf_s _ | exact rf_n | exact rf_q _) ?_
  refine wa_ifnull (pc := 1) (y := mJ26_rotateRight) dJ26_rotateRight_1 ?_
  refine wa_aloadV_n (pc := 4) (y := mJ26_rotateRight) dJ26_rotateRight_4 rfl (by first | exact rf_s _ | exact rf_n | exact rf_q _) ?_
  refine wf_get (k := 14) (l := 11) 7 dJ26_rotateRight_5 (by assumption) rfl q1615 (Or.inl rfl) (Nat.le_of_ble_eq_true rfl) (Nat.le_of_ble_eq_true rfl) (by (repeat (first | exact updF_self _ _ _ _ | (apply updF_i; · decide) | (apply updF_a; · first | assumption | (apply Ne.symm; assumption) | omega) | (apply newF_a; · first | assumption | (apply Ne.symm; assumption) | omega) | exact newL_self (by rfl) | exact newF_self (by rfl) | (apply cpyF_a; · first | assumption | (apply Ne.symm; assumption) | omega))) <;> first | assumption | rfl) ?_
  refine wa_dup (pc := 8) (y := mJ26_rotateRight) dJ26_rotateRight_8 (by first | rfl | exact rf_cat _) ?_
  refine wa_astoreV_n (pc := 9) (y := mJ26_rotateRight) dJ26_rotateRight_9 (Nat.le_of_ble_eq_true rfl) (by first | rfl | (simp [okst, rf_cat] <;> assumption)) (by first | exact rf_s _ | exact rf_n | exact rf_q _) ?_
  change WA _ _ _ _ (List.set _ 2 _) _ _ _
  simp only [List.set_cons_zero, List.set_cons_succ]
  refine wa_ifnull (pc := 10) (y := mJ26_rotateRight) dJ26_rotateRight_10 ?_
  refine wa_aloadV_n (pc := 13) (y := mJ26_rotateRight) dJ26_rotateRight_13 rfl (by first | exact rf_s _ | exact rf_n | exact rf_q _) ?_
  refine wa_aloadV_n (pc := 14) (y := mJ26_rotateRight) dJ26_rotateRight_14 rfl (by first | exact rf_s _ | exact rf_n | exact rf_q _) ?_
  refine wf_get (k := 14) (l := 11) 8 dJ26_rotateRight_15 (by assumption) rfl q1616 (Or.inl rfl) (Nat.le_of_ble_eq_true rfl) (Nat.le_of_ble_eq_true rfl) (by (repeat (first | exact updF_self _ _ _ _ | (apply updF_i; · decide) | (apply updF_a; · first | assumption | (apply Ne.symm; assumption) | omega) | (apply newF_a; · first | assumption | (apply Ne.symm; assumption) | omega) | exact newL_self (by rfl) | exact newF_self (by rfl) | (apply cpyF_a; · first | assumption | (apply Ne.symm; assumption) | omega))) <;> first | assumption | rfl) ?_
  refine wa_dup_x1 (pc := 18) (y := mJ26_rotateRight) dJ26_rotateRight_18 (by first | rfl | exact rf_cat _) (by first | rfl | exact rf_cat _) ?_
  refine wf_put (k := 14) (l := 11) 7 (.object "java/util/HashMap$TreeNode") dJ26_rotateRight_19 (by assumption) rfl q1615 (Or.inl rfl) (Nat.le_of_ble_eq_true rfl) rfl (by decide +kernel) (by first | rfl | exact rf_nar _ | exact rf_nar2 _) (by first | rfl | exact rf_fit _ | exact rf_fit2 _) ?_
  refine wa_dup (pc := 22) (y := mJ26_rotateRight) dJ26_rotateRight_22 (by first | rfl | exact rf_cat _) ?_
  refine wa_astoreV (pc := 23) (y := mJ26_rotateRight) dJ26_rotateRight_23 (Nat.le_of_ble_eq_true rfl) (by first | rfl | (simp [okst, rf_cat] <;> assumption)) (by first | exact rf_s _ | exact rf_n | exact rf_q _) ?_
  simp only [List.set_cons_zero, List.set_cons_succ]
  refine wa_ifnullV (pc := 25) 34 dJ26_rotateRight_25 rfl (by first | exact rf_s _ | exact rf_n | exact rf_q _) (fun hb25 => ?_) (fun a25 hb25 => ?_)
  · refine wa_aloadV_n (pc := 34) (y := mJ26_rotateRight) dJ26_rotateRight_34 rfl (by first | exact rf_s _ | exact rf_n | exact rf_q _) ?_
    refine wa_aloadV_n (pc := 35) (y := mJ26_rotateRight) dJ26_rotateRight_35 rfl (by first | exact rf_s _ | exact rf_n | exact rf_q _) ?_
    refine wf_get (k := 14) (l := 11) 6 dJ26_rotateRight_36 (by assumption) rfl q1614 (Or.inl rfl) (Nat.le_of_ble_eq_true rfl) (Nat.le_of_ble_eq_true rfl) (by (repeat (first | exact updF_self _ _ _ _ | (apply updF_i; · decide) | (apply updF_a; · first | assumption | (apply Ne.symm; assumption) | omega) | (apply newF_a; · first | assumption | (apply Ne.symm; assumption) | omega) | exact newL_self (by rfl) | exact newF_self (by rfl) | (apply cpyF_a; · first | assumption | (apply Ne.symm; assumption) | omega))) <;> first | assumption | rfl) ?_
    refine wa_dup_x1 (pc := 39) (y := mJ26_rotateRight) dJ26_rotateRight_39 (by first | rfl | exact rf_cat _) (by first | rfl | exact rf_cat _) ?_
    refine wf_put (k := 14) (l := 11) 6 (.object "java/util/HashMap$TreeNode") dJ26_rotateRight_40 (by assumption) rfl q1614 (Or.inl rfl) (Nat.le_of_ble_eq_true rfl) rfl (by decide +kernel) (by first | rfl | exact rf_nar _ | exact rf_nar2 _) (by first | rfl | exact rf_fit _ | exact rf_fit2 _) ?_
    refine wa_dup (pc := 43) (y := mJ26_rotateRight) dJ26_rotateRight_43 (by first | rfl | exact rf_cat _) ?_
    refine wa_astoreV_n (pc := 44) (y := mJ26_rotateRight) dJ26_rotateRight_44 (Nat.le_of_ble_eq_true rfl) (by first | rfl | (simp [okst, rf_cat] <;> assumption)) (by first | exact rf_s _ | exact rf_n | exact rf_q _) ?_
    change WA _ _ _ _ (List.set _ 3 _) _ _ _
    simp only [List.set_cons_zero, List.set_cons_succ]
    refine wa_ifnonnullV (pc := 45) 58 dJ26_rotateRight_45 rfl (by first | exact rf_s _ | exact rf_n | exact rf_q _) (fun a45 hb45 => ?_) (fun hb45 => ?_)
    · have hy := tp.2.2.2.2 _ hb45
      obtain ⟨y1, y2, y3, y4, y5⟩ := tl _ hy.1
      have ty := t.2 _ hy.1
      have hyp : a45 ≠ p := by intro e; subst e; grind
      have hyr : a45 ≠ r := by intro e; subst e; grind
      rw [hb45]
      refine wa_aloadV_n (pc := 58) (y := mJ26_rotateRight) dJ26_rotateRight_58 rfl (by first | exact rf_s _ | exact rf_n | exact rf_q _) ?_
      refine wf_get (k := 14) (l := 11) 8 dJ26_rotateRight_59 (by assumption) rfl q1616 (Or.inl rfl) (Nat.le_of_ble_eq_true rfl) (Nat.le_of_ble_eq_true rfl) (by (repeat (first | exact updF_self _ _ _ _ | (apply updF_i; · decide) | (apply updF_a; · first | assumption | (apply Ne.symm; assumption) | omega) | (apply newF_a; · first | assumption | (apply Ne.symm; assumption) | omega) | exact newL_self (by rfl) | exact newF_self (by rfl) | (apply cpyF_a; · first | assumption | (apply Ne.symm; assumption) | omega))) <;> first | assumption | rfl) ?_
      refine wa_aloadV_n (pc := 62) (y := mJ26_rotateRight) dJ26_rotateRight_62 rfl (by first | exact rf_s _ | exact rf_n | exact rf_q _) ?_
      refine wa_acneV (pc := 63) 74 dJ26_rotateRight_63 rfl (by first | exact rf_s _ | exact rf_n | exact rf_q _) (by first | exact rf_s _ | exact rf_n | exact rf_q _) (fun hb63 => ?_) (fun hb63 => ?_)
      · refine wa_aloadV_n (pc := 74) (y := mJ26_rotateRight) dJ26_rotateRight_74 rfl (by first | exact rf_s _ | exact rf_n | exact rf_q _) ?_
        refine wa_aloadV_n (pc := 75) (y := mJ26_rotateRight) dJ26_rotateRight_75 rfl (by first | exact rf_s _ | exact rf_n | exact rf_q _) ?_
        refine wf_put (k := 14) (l := 11) 7 (.object "java/util/HashMap$TreeNode") dJ26_rotateRight_76 (by assumption) rfl q1615 (Or.inl rfl) (Nat.le_of_ble_eq_true rfl) rfl (by decide +kernel) (by first | rfl | exact rf_nar _ | exact rf_nar2 _) (by first | rfl | exact rf_fit _ | exact rf_fit2 _) ?_
        refine wa_aloadV_n (pc := 79) (y := mJ26_rotateRight) dJ26_rotateRight_79 rfl (by first | exact rf_s _ | exact rf_n | exact rf_q _) ?_
        refine wa_aloadV_n (pc := 80) (y := mJ26_rotateRight) dJ26_rotateRight_80 rfl (by first | exact rf_s _ | exact rf_n | exact rf_q _) ?_
        refine wf_put (k := 14) (l := 11) 8 (.object "java/util/HashMap$TreeNode") dJ26_rotateRight_81 (by assumption) rfl q1616 (Or.inl rfl) (Nat.le_of_ble_eq_true rfl) rfl (by decide +kernel) (by first | rfl | exact rf_nar _ | exact rf_nar2 _) (by first | rfl | exact rf_fit _ | exact rf_fit2 _) ?_
        refine wa_aloadV_n (pc := 84) (y := mJ26_rotateRight) dJ26_rotateRight_84 rfl (by first | exact rf_s _ | exact rf_n | exact rf_q _) ?_
        refine wa_aloadV_n (pc := 85) (y := mJ26_rotateRight) dJ26_rotateRight_85 rfl (by first | exact rf_s _ | exact rf_n | exact rf_q _) ?_
        refine wf_put (k := 14) (l := 11) 6 (.object "java/util/HashMap$TreeNode") dJ26_rotateRight_86 (by assumption) rfl q1614 (Or.inl rfl) (Nat.le_of_ble_eq_true rfl) rfl (by decide +kernel) (by first | rfl | exact rf_nar _ | exact rf_nar2 _) (by first | rfl | exact rf_fit _ | exact rf_fit2 _) ?_
        refine wa_aloadV_n (pc := 89) (y := mJ26_rotateRight) dJ26_rotateRight_89 rfl (by first | exact rf_s _ | exact rf_n | exact rf_q _) ?_
        refine wa_areturnV (pc := 90) (y := mJ26_rotateRight) (.object "java/util/HashMap$TreeNode") dJ26_rotateRight_90 rfl (Or.inl ⟨_, rfl⟩) (by first | exact rf_s _ | exact rf_n | exact rf_q _) ⟨by simp [va_rf], _, rfl, (by repeat (first | exact TFr.refl | refine TFr.upd ?_ (by first | exact hp | exact hrS.1 | exact hx.1 | exact hy.1) (by decide))), fun q hq => by obtain ⟨q1, q2, q3, q4, q5⟩ := tl q hq; have tq := t.2 q hq; refine ⟨q1, ?_, ?_, ?_, ?_⟩ <;> grind [updF_eq, upo, upq, chd, va_rf, bI]⟩
      · refine wa_aloadV_n (pc := 66) (y := mJ26_rotateRight) dJ26_rotateRight_66 rfl (by first | exact rf_s _ | exact rf_n | exact rf_q _) ?_
        refine wa_aloadV_n (pc := 67) (y := mJ26_rotateRight) dJ26_rotateRight_67 rfl (by first | exact rf_s _ | exact rf_n | exact rf_q _) ?_
        refine wf_put (k := 14) (l := 11) 8 (.object "java/util/HashMap$TreeNode") dJ26_rotateRight_68 (by assumption) rfl q1616 (Or.inl rfl) (Nat.le_of_ble_eq_true rfl) rfl (by decide +kernel) (by first | rfl | exact rf_nar _ | exact rf_nar2 _) (by first | rfl | exact rf_fit _ | exact rf_fit2 _) ?_
        refine wa_goto (pc := 71) (y := mJ26_rotateRight) 79 dJ26_rotateRight_71 rfl ?_
        refine wa_aloadV_n (pc := 79) (y := mJ26_rotateRight) dJ26_rotateRight_79 rfl (by first | exact rf_s _ | exact rf_n | exact rf_q _) ?_
        refine wa_aloadV_n (pc := 80) (y := mJ26_rotateRight) dJ26_rotateRight_80 rfl (by first | exact rf_s _ | exact rf_n | exact rf_q _) ?_
        refine wf_put (k := 14) (l := 11) 8 (.object "java/util/HashMap$TreeNode") dJ26_rotateRight_81 (by assumption) rfl q1616 (Or.inl rfl) (Nat.le_of_ble_eq_true rfl) rfl (by decide +kernel) (by first | rfl | exact rf_nar _ | exact rf_nar2 _) (by first | rfl | exact rf_fit _ | exact rf_fit2 _) ?_
        refine wa_aloadV_n (pc := 84) (y := mJ26_rotateRight) dJ26_rotateRight_84 rfl (by first | exact rf_s _ | exact rf_n | exact rf_q _) ?_
        refine wa_aloadV_n (pc := 85) (y := mJ26_rotateRight) dJ26_rotateRight_85 rfl (by first | exact rf_s _ | exact rf_n | exact rf_q _) ?_
        refine wf_put (k := 14) (l := 11) 6 (.object "java/util/HashMap$TreeNode") dJ26_rotateRight_86 (by assumption) rfl q1614 (Or.inl rfl) (Nat.le_of_ble_eq_true rfl) rfl (by decide +kernel) (by first | rfl | exact rf_nar _ | exact rf_nar2 _) (by first | rfl | exact rf_fit _ | exact rf_fit2 _) ?_
        refine wa_aloadV_n (pc := 89) (y := mJ26_rotateRight) dJ26_rotateRight_89 rfl (by first | exact rf_s _ | exact rf_n | exact rf_q _) ?_
        refine wa_areturnV (pc := 90) (y := mJ26_rotateRight) (.object "java/util/HashMap$TreeNode") dJ26_rotateRight_90 rfl (Or.inl ⟨_, rfl⟩) (by first | exact rf_s _ | exact rf_n | exact rf_q _) ⟨by simp [va_rf], _, rfl, (by repeat (first | exact TFr.refl | refine TFr.upd ?_ (by first | exact hp | exact hrS.1 | exact hx.1 | exact hy.1) (by decide))), fun q hq => by obtain ⟨q1, q2, q3, q4, q5⟩ := tl q hq; have tq := t.2 q hq; refine ⟨q1, ?_, ?_, ?_, ?_⟩ <;> grind [updF_eq, upo, upq, chd, va_rf, bI]⟩
    · have hpr9 := tp.2.1 hb45
      rw [hb45]
      refine wa_aloadV_n (pc := 48) (y := mJ26_rotateRight) dJ26_rotateRight_48 rfl (by first | exact rf_s _ | exact rf_n | exact rf_q _) ?_
      refine wa_dup (pc := 49) (y := mJ26_rotateRight) dJ26_rotateRight_49 (by first | rfl | exact rf_cat _) ?_
      refine wa_astoreV_n (pc := 50) (y := mJ26_rotateRight) dJ26_rotateRight_50 (Nat.le_of_ble_eq_true rfl) (by first | rfl | (simp [okst, rf_cat] <;> assumption)) (by first | exact rf_s _ | exact rf_n | exact rf_q _) ?_
      change WA _ _ _ _ (List.set _ 0 _) _ _ _
      simp only [List.set_cons_zero, List.set_cons_succ]
      refine wa_iconst (pc := 51) (y := mJ26_rotateRight) (Int32.ofNat 0) dJ26_rotateRight_51 rfl ?_
      refine wf_put (k := 14) (l := 11) 10 .boolean dJ26_rotateRight_52 (by assumption) rfl q1619 (Or.inl rfl) (Nat.le_of_ble_eq_true rfl) rfl (by decide +kernel) (by first | rfl | exact bI_nar _) (by first | rfl | exact bI_fit _) ?_
      refine wa_goto (pc := 55) (y := mJ26_rotateRight) 79 dJ26_rotateRight_55 rfl ?_
      refine wa_aloadV_n (pc := 79) (y := mJ26_rotateRight) dJ26_rotateRight_79 rfl (by first | exact rf_s _ | exact rf_n | exact rf_q _) ?_
      refine wa_aloadV_n (pc := 80) (y := mJ26_rotateRight) dJ26_rotateRight_80 rfl (by first | exact rf_s _ | exact rf_n | exact rf_q _) ?_
      refine wf_put (k := 14) (l := 11) 8 (.object "java/util/HashMap$TreeNode") dJ26_rotateRight_81 (by assumption) rfl q1616 (Or.inl rfl) (Nat.le_of_ble_eq_true rfl) rfl (by decide +kernel) (by first | rfl | exact rf_nar _ | exact rf_nar2 _) (by first | rfl | exact rf_fit _ | exact rf_fit2 _) ?_
      refine wa_aloadV_n (pc := 84) (y := mJ26_rotateRight) dJ26_rotateRight_84 rfl (by first | exact rf_s _ | exact rf_n | exact rf_q _) ?_
      refine wa_aloadV_n (pc := 85) (y := mJ26_rotateRight) dJ26_rotateRight_85 rfl (by first | exact rf_s _ | exact rf_n | exact rf_q _) ?_
      refine wf_put (k := 14) (l := 11) 6 (.object "java/util/HashMap$TreeNode") dJ26_rotateRight_86 (by assumption) rfl q1614 (Or.inl rfl) (Nat.le_of_ble_eq_true rfl) rfl (by decide +kernel) (by first | rfl | exact rf_nar _ | exact rf_nar2 _) (by first | rfl | exact rf_fit _ | exact rf_fit2 _) ?_
      refine wa_aloadV_n (pc := 89) (y := mJ26_rotateRight) dJ26_rotateRight_89 rfl (by first | exact rf_s _ | exact rf_n | exact rf_q _) ?_
      refine wa_areturnV (pc := 90) (y := mJ26_rotateRight) (.object "java/util/HashMap$TreeNode") dJ26_rotateRight_90 rfl (Or.inl ⟨_, rfl⟩) (by first | exact rf_s _ | exact rf_n | exact rf_q _) ⟨by simp [va_rf], _, rfl, (by repeat (first | exact TFr.refl | refine TFr.upd ?_ (by first | exact hp | exact hrS.1 | exact hx.1 | exact hy.1) (by decide))), fun q hq => by obtain ⟨q1, q2, q3, q4, q5⟩ := tl q hq; have tq := t.2 q hq; refine ⟨q1, ?_, ?_, ?_, ?_⟩ <;> grind [updF_eq, upo, upq, chd, va_rf, bI]⟩
  · have hx := tr.2.2.2.1 _ hb25
    obtain ⟨x1, x2, x3, x4, x5⟩ := tl _ hx.1
    rw [hb25]
    have hxp : a25 ≠ p := by intro e; subst e; omega
    have hxr : a25 ≠ r := by intro e; subst e; omega
    refine wa_aloadV (pc := 28) (y := mJ26_rotateRight) dJ26_rotateRight_28 rfl (by first | exact rf_s _ | exact rf_n | exact rf_q _) ?_
    refine wa_aloadV_n (pc := 30) (y := mJ26_rotateRight) dJ26_rotateRight_30 rfl (by first | exact rf_s _ | exact rf_n | exact rf_q _) ?_
    refine wf_put (k := 14) (l := 11) 6 (.object "java/util/HashMap$TreeNode") dJ26_rotateRight_31 (by assumption) rfl q1614 (Or.inl rfl) (Nat.le_of_ble_eq_true rfl) rfl (by decide +kernel) (by first | rfl | exact rf_nar _ | exact rf_nar2 _) (by first | rfl | exact rf_fit _ | exact rf_fit2 _) ?_
    refine wa_aloadV_n (pc := 34) (y := mJ26_rotateRight) dJ26_rotateRight_34 rfl (by first | exact rf_s _ | exact rf_n | exact rf_q _) ?_
    refine wa_aloadV_n (pc := 35) (y := mJ26_rotateRight) dJ26_rotateRight_35 rfl (by first | exact rf_s _ | exact rf_n | exact rf_q _) ?_
    refine wf_get (k := 14) (l := 11) 6 dJ26_rotateRight_36 (by assumption) rfl q1614 (Or.inl rfl) (Nat.le_of_ble_eq_true rfl) (Nat.le_of_ble_eq_true rfl) (by (repeat (first | exact updF_self _ _ _ _ | (apply updF_i; · decide) | (apply updF_a; · first | assumption | (apply Ne.symm; assumption) | omega) | (apply newF_a; · first | assumption | (apply Ne.symm; assumption) | omega) | exact newL_self (by rfl) | exact newF_self (by rfl) | (apply cpyF_a; · first | assumption | (apply Ne.symm; assumption) | omega))) <;> first | assumption | rfl) ?_
    refine wa_dup_x1 (pc := 39) (y := mJ26_rotateRight) dJ26_rotateRight_39 (by first | rfl | exact rf_cat _) (by first | rfl | exact rf_cat _) ?_
    refine wf_put (k := 14) (l := 11) 6 (.object "java/util/HashMap$TreeNode") dJ26_rotateRight_40 (by assumption) rfl q1614 (Or.inl rfl) (Nat.le_of_ble_eq_true rfl) rfl (by decide +kernel) (by first | rfl | exact rf_nar _ | exact rf_nar2 _) (by first | rfl | exact rf_fit _ | exact rf_fit2 _) ?_
    refine wa_dup (pc := 43) (y := mJ26_rotateRight) dJ26_rotateRight_43 (by first | rfl | exact rf_cat _) ?_
    refine wa_astoreV_n (pc := 44) (y := mJ26_rotateRight) dJ26_rotateRight_44 (Nat.le_of_ble_eq_true rfl) (by first | rfl | (simp [okst, rf_cat] <;> assumption)) (by first | exact rf_s _ | exact rf_n | exact rf_q _) ?_
    change WA _ _ _ _ (List.set _ 3 _) _ _ _
    simp only [List.set_cons_zero, List.set_cons_succ]
    refine wa_ifnonnullV (pc := 45) 58 dJ26_rotateRight_45 rfl (by first | exact rf_s _ | exact rf_n | exact rf_q _) (fun a45 hb45 => ?_) (fun hb45 => ?_)
    · have hy := tp.2.2.2.2 _ hb45
      obtain ⟨y1, y2, y3, y4, y5⟩ := tl _ hy.1
      have ty := t.2 _ hy.1
      have hyp : a45 ≠ p := by intro e; subst e; grind
      have hyr : a45 ≠ r := by intro e; subst e; grind
      rw [hb45]
      refine wa_aloadV_n (pc := 58) (y := mJ26_rotateRight) dJ26_rotateRight_58 rfl (by first | exact rf_s _ | exact rf_n | exact rf_q _) ?_
      refine wf_get (k := 14) (l := 11) 8 dJ26_rotateRight_59 (by assumption) rfl q1616 (Or.inl rfl) (Nat.le_of_ble_eq_true rfl) (Nat.le_of_ble_eq_true rfl) (by (repeat (first | exact updF_self _ _ _ _ | (apply updF_i; · decide) | (apply updF_a; · first | assumption | (apply Ne.symm; assumption) | omega) | (apply newF_a; · first | assumption | (apply Ne.symm; assumption) | omega) | exact newL_self (by rfl) | exact newF_self (by rfl) | (apply cpyF_a; · first | assumption | (apply Ne.symm; assumption) | omega))) <;> first | assumption | rfl) ?_
      refine wa_aloadV_n (pc := 62) (y := mJ26_rotateRight) dJ26_rotateRight_62 rfl (by first | exact rf_s _ | exact rf_n | exact rf_q _) ?_
      refine wa_acneV (pc := 63) 74 dJ26_rotateRight_63 rfl (by first | exact rf_s _ | exact rf_n | exact rf_q _) (by first | exact rf_s _ | exact rf_n | exact rf_q _) (fun hb63 => ?_) (fun hb63 => ?_)
      · refine wa_aloadV_n (pc := 74) (y := mJ26_rotateRight) dJ26_rotateRight_74 rfl (by first | exact rf_s _ | exact rf_n | exact rf_q _) ?_
        refine wa_aloadV_n (pc := 75) (y := mJ26_rotateRight) dJ26_rotateRight_75 rfl (by first | exact rf_s _ | exact rf_n | exact rf_q _) ?_
        refine wf_put (k := 14) (l := 11) 7 (.object "java/util/HashMap$TreeNode") dJ26_rotateRight_76 (by assumption) rfl q1615 (Or.inl rfl) (Nat.le_of_ble_eq_true rfl) rfl (by decide +kernel) (by first | rfl | exact rf_nar _ | exact rf_nar2 _) (by first | rfl | exact rf_fit _ | exact rf_fit2 _) ?_
        refine wa_aloadV_n (pc := 79) (y := mJ26_rotateRight) dJ26_rotateRight_79 rfl (by first | exact rf_s _ | exact rf_n | exact rf_q _) ?_
        refine wa_aloadV_n (pc := 80) (y := mJ26_rotateRight) dJ26_rotateRight_80 rfl (by first | exact rf_s _ | exact rf_n | exact rf_q _) ?_
        refine wf_put (k := 14) (l := 11) 8 (.object "java/util/HashMap$TreeNode") dJ26_rotateRight_81 (by assumption) rfl q1616 (Or.inl rfl) (Nat.le_of_ble_eq_true rfl) rfl (by decide +kernel) (by first | rfl | exact rf_nar _ | exact rf_nar2 _) (by first | rfl | exact rf_fit _ | exact rf_fit2 _) ?_
        refine wa_aloadV_n (pc := 84) (y := mJ26_rotateRight) dJ26_rotateRight_84 rfl (by first | exact rf_s _ | exact rf_n | exact rf_q _) ?_
        refine wa_aloadV_n (pc := 85) (y := mJ26_rotateRight) dJ26_rotateRight_85 rfl (by first | exact rf_s _ | exact rf_n | exact rf_q _) ?_
        refine wf_put (k := 14) (l := 11) 6 (.object "java/util/HashMap$TreeNode") dJ26_rotateRight_86 (by assumption) rfl q1614 (Or.inl rfl) (Nat.le_of_ble_eq_true rfl) rfl (by decide +kernel) (by first | rfl | exact rf_nar _ | exact rf_nar2 _) (by first | rfl | exact rf_fit _ | exact rf_fit2 _) ?_
        refine wa_aloadV_n (pc := 89) (y := mJ26_rotateRight) dJ26_rotateRight_89 rfl (by first | exact rf_s _ | exact rf_n | exact rf_q _) ?_
        refine wa_areturnV (pc := 90) (y := mJ26_rotateRight) (.object "java/util/HashMap$TreeNode") dJ26_rotateRight_90 rfl (Or.inl ⟨_, rfl⟩) (by first | exact rf_s _ | exact rf_n | exact rf_q _) ⟨by simp [va_rf], _, rfl, (by repeat (first | exact TFr.refl | refine TFr.upd ?_ (by first | exact hp | exact hrS.1 | exact hx.1 | exact hy.1) (by decide))), fun q hq => by obtain ⟨q1, q2, q3, q4, q5⟩ := tl q hq; have tq := t.2 q hq; refine ⟨q1, ?_, ?_, ?_, ?_⟩ <;> grind [updF_eq, upo, upq, chd, va_rf, bI]⟩
      · refine wa_aloadV_n (pc := 66) (y := mJ26_rotateRight) dJ26_rotateRight_66 rfl (by first | exact rf_s _ | exact rf_n | exact rf_q _) ?_
        refine wa_aloadV_n (pc := 67) (y := mJ26_rotateRight) dJ26_rotateRight_67 rfl (by first | exact rf_s _ | exact rf_n | exact rf_q _) ?_
        refine wf_put (k := 14) (l := 11) 8 (.object "java/util/HashMap$TreeNode") dJ26_rotateRight_68 (by assumption) rfl q1616 (Or.inl rfl) (Nat.le_of_ble_eq_true rfl) rfl (by decide +kernel) (by first | rfl | exact rf_nar _ | exact rf_nar2 _) (by first | rfl | exact rf_fit _ | exact rf_fit2 _) ?_
        refine wa_goto (pc := 71) (y := mJ26_rotateRight) 79 dJ26_rotateRight_71 rfl ?_
        refine wa_aloadV_n (pc := 79) (y := mJ26_rotateRight) dJ26_rotateRight_79 rfl (by first | exact rf_s _ | exact rf_n | exact rf_q _) ?_
        refine wa_aloadV_n (pc := 80) (y := mJ26_rotateRight) dJ26_rotateRight_80 rfl (by first | exact rf_s _ | exact rf_n | exact rf_q _) ?_
        refine wf_put (k := 14) (l := 11) 8 (.object "java/util/HashMap$TreeNode") dJ26_rotateRight_81 (by assumption) rfl q1616 (Or.inl rfl) (Nat.le_of_ble_eq_true rfl) rfl (by decide +kernel) (by first | rfl | exact rf_nar _ | exact rf_nar2 _) (by first | rfl | exact rf_fit _ | exact rf_fit2 _) ?_
        refine wa_aloadV_n (pc := 84) (y := mJ26_rotateRight) dJ26_rotateRight_84 rfl (by first | exact rf_s _ | exact rf_n | exact rf_q _) ?_
        refine wa_aloadV_n (pc := 85) (y := mJ26_rotateRight) dJ26_rotateRight_85 rfl (by first | exact rf_s _ | exact rf_n | exact rf_q _) ?_
        refine wf_put (k := 14) (l := 11) 6 (.object "java/util/HashMap$TreeNode") dJ26_rotateRight_86 (by assumption) rfl q1614 (Or.inl rfl) (Nat.le_of_ble_eq_true rfl) rfl (by decide +kernel) (by first | rfl | exact rf_nar _ | exact rf_nar2 _) (by first | rfl | exact rf_fit _ | exact rf_fit2 _) ?_
        refine wa_aloadV_n (pc := 89) (y := mJ26_rotateRight) dJ26_rotateRight_89 rfl (by first | exact rf_s _ | exact rf_n | exact rf_q _) ?_
        refine wa_areturnV (pc := 90) (y := mJ26_rotateRight) (.object "java/util/HashMap$TreeNode") dJ26_rotateRight_90 rfl (Or.inl ⟨_, rfl⟩) (by first | exact rf_s _ | exact rf_n | exact rf_q _) ⟨by simp [va_rf], _, rfl, (by repeat (first | exact TFr.refl | refine TFr.upd ?_ (by first | exact hp | exact hrS.1 | exact hx.1 | exact hy.1) (by decide))), fun q hq => by obtain ⟨q1, q2, q3, q4, q5⟩ := tl q hq; have tq := t.2 q hq; refine ⟨q1, ?_, ?_, ?_, ?_⟩ <;> grind [updF_eq, upo, upq, chd, va_rf, bI]⟩
    · have hpr9 := tp.2.1 hb45
      rw [hb45]
      refine wa_aloadV_n (pc := 48) (y := mJ26_rotateRight) dJ26_rotateRight_48 rfl (by first | exact rf_s _ | exact rf_n | exact rf_q _) ?_
      refine wa_dup (pc := 49) (y := mJ26_rotateRight) dJ26_rotateRight_49 (by first | rfl | exact rf_cat _) ?_
      refine wa_astoreV_n (pc := 50) (y := mJ26_rotateRight) dJ26_rotateRight_50 (Nat.le_of_ble_eq_true rfl) (by first | rfl | (simp [okst, rf_cat] <;> assumption)) (by first | exact rf_s _ | exact rf_n | exact rf_q _) ?_
      change WA _ _ _ _ (List.set _ 0 _) _ _ _
      simp only [List.set_cons_zero, List.set_cons_succ]
      refine wa_iconst (pc := 51) (y := mJ26_rotateRight) (Int32.ofNat 0) dJ26_rotateRight_51 rfl ?_
      refine wf_put (k := 14) (l := 11) 10 .boolean dJ26_rotateRight_52 (by assumption) rfl q1619 (Or.inl rfl) (Nat.le_of_ble_eq_true rfl) rfl (by decide +kernel) (by first | rfl | exact bI_nar _) (by first | rfl | exact bI_fit _) ?_
      refine wa_goto (pc := 55) (y := mJ26_rotateRight) 79 dJ26_rotateRight_55 rfl ?_
      refine wa_aloadV_n (pc := 79) (y := mJ26_rotateRight) dJ26_rotateRight_79 rfl (by first | exact rf_s _ | exact rf_n | exact rf_q _) ?_
      refine wa_aloadV_n (pc := 80) (y := mJ26_rotateRight) dJ26_rotateRight_80 rfl (by first | exact rf_s _ | exact rf_n | exact rf_q _) ?_
      refine wf_put (k := 14) (l := 11) 8 (.object "java/util/HashMap$TreeNode") dJ26_rotateRight_81 (by assumption) rfl q1616 (Or.inl rfl) (Nat.le_of_ble_eq_true rfl) rfl (by decide +kernel) (by first | rfl | exact rf_nar _ | exact rf_nar2 _) (by first | rfl | exact rf_fit _ | exact rf_fit2 _) ?_
      refine wa_aloadV_n (pc := 84) (y := mJ26_rotateRight) dJ26_rotateRight_84 rfl (by first | exact rf_s _ | exact rf_n | exact rf_q _) ?_
      refine wa_aloadV_n (pc := 85) (y := mJ26_rotateRight) dJ26_rotateRight_85 rfl (by first | exact rf_s _ | exact rf_n | exact rf_q _) ?_
      refine wf_put (k := 14) (l := 11) 6 (.object "java/util/HashMap$TreeNode") dJ26_rotateRight_86 (by assumption) rfl q1614 (Or.inl rfl) (Nat.le_of_ble_eq_true rfl) rfl (by decide +kernel) (by first | rfl | exact rf_nar _ | exact rf_nar2 _) (by first | rfl | exact rf_fit _ | exact rf_fit2 _) ?_
      refine wa_aloadV_n (pc := 89) (y := mJ26_rotateRight) dJ26_rotateRight_89 rfl (by first | exact rf_s _ | exact rf_n | exact rf_q _) ?_
      refine wa_areturnV (pc := 90) (y := mJ26_rotateRight) (.object "java/util/HashMap$TreeNode") dJ26_rotateRight_90 rfl (Or.inl ⟨_, rfl⟩) (by first | exact rf_s _ | exact rf_n | exact rf_q _) ⟨by simp [va_rf], _, rfl, (by repeat (first | exact TFr.refl | refine TFr.upd ?_ (by first | exact hp | exact hrS.1 | exact hx.1 | exact hy.1) (by decide))), fun q hq => by obtain ⟨q1, q2, q3, q4, q5⟩ := tl q hq; have tq := t.2 q hq; refine ⟨q1, ?_, ?_, ?_, ?_⟩ <;> grind [updF_eq, upo, upq, chd, va_rf, bI]⟩
end TREE2
