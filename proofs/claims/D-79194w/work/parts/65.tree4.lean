/-! ===== TreeNode: balanceDeletion ===== -/
/-- the same; and who was a leaf of T is one still -/
def BQT (T : Nat → Prop) (h : AH) (F : Nat → Nat → Value) (S : Nat → Prop) (key : Nat → Nat) (top : Nat) (q : RR) (h' : AH) : Prop := ∃ (root2 : Nat) (F2 : Nat → Nat → Value), q = .inl (some (.ref root2)) ∧ h' = sF h F2 ∧ TFr S F F2 ∧ TrB h F2 S key root2 top ∧ ∀ z, T z → F2 z 7 = .null ∧ F2 z 8 = .null
section TREE4
variable {G : GG} {d n : Nat} {h h2 : AH} {F F2 F3 : Nat → Nat → Value} {S : Nat → Prop} {key : Nat → Nat} {root p r l : Nat} {L R P : Nat → Option Nat} {C : Nat → Bool} {lo hi rk : Nat → Nat} {top M : Nat} {T : Nat → Prop}
theorem TL.lf (tl : TL h F S L R P C) (hT : ∀ z, T z → S z ∧ L z = none ∧ R z = none) : ∀ z, T z → F z 7 = .null ∧ F z 8 = .null := fun z hz => by
  obtain ⟨h1, h2, h3⟩ := hT z hz
  obtain ⟨-, -, e7, e8, -⟩ := tl z h1
  rw [h2] at e7
  rw [h3] at e8
  exact ⟨e7, e8⟩
theorem bd_exit {x : Nat} {F0 : Nat → Nat → Value} {v2 v3 v4 v5 v6 : Value} (t : T0 S key root L R P lo hi rk top M) (tl : TL h F S L R P C) (hx : S x) (fr : TFr S F0 F) (hc : x = root ∨ C x = true) (hT : ∀ z, T z → S z ∧ L z = none ∧ R z = none) :
    WA G d mJ26_balanceDeletion 0 [.ref root, .ref x, v2, v3, v4, v5, v6] [] (sF h F) (BQT T h F0 S key top) := by
  have tx := t.2 x hx
  obtain ⟨x1, x2, x3, x4, x5⟩ := tl x hx
  refine wa_aloadV_n (pc := 0) (y := mJ26_balanceDeletion) dJ26_balanceDeletion_0 rfl (by first | exact rf_s _ | exact rf_n | exact rf_q _) ?_
  refine wa_ifnull (pc := 1) (y := mJ26_balanceDeletion) dJ26_balanceDeletion_1 ?_
  refine wa_aloadV_n (pc := 4) (y := mJ26_balanceDeletion) dJ26_balanceDeletion_4 rfl (by first | exact rf_s _ | exact rf_n | exact rf_q _) ?_
  refine wa_aloadV_n (pc := 5) (y := mJ26_balanceDeletion) dJ26_balanceDeletion_5 rfl (by first | exact rf_s _ | exact rf_n | exact rf_q _) ?_
  refine wa_acneV (pc := 6) 11 dJ26_balanceDeletion_6 rfl (by first | exact rf_s _ | exact rf_n | exact rf_q _) (by first | exact rf_s _ | exact rf_n | exact rf_q _) (fun hb6 => ?_) (fun hb6 => ?_)
  · refine wa_aloadV_n (pc := 11) (y := mJ26_balanceDeletion) dJ26_balanceDeletion_11 rfl (by first | exact rf_s _ | exact rf_n | exact rf_q _) ?_
    refine wf_get (k := 14) (l := 11) 6 dJ26_balanceDeletion_12 (by assumption) rfl q1614 (Or.inl rfl) (Nat.le_of_ble_eq_true rfl) (Nat.le_of_ble_eq_true rfl) (by (repeat (first | exact updF_self _ _ _ _ | (apply updF_i; · decide) | (apply updF_a; · first | assumption | (apply Ne.symm; assumption) | omega) | (apply newF_a; · first | assumption | (apply Ne.symm; assumption) | omega) | exact newL_self (by rfl) | exact newF_self (by rfl) | (apply cpyF_a; · first | assumption | (apply Ne.symm; assumption) | omega))) <;> first | assumption | rfl) ?_
    refine wa_dup (pc := 15) (y := mJ26_balanceDeletion) dJ26_balanceDeletion_15 (by first | rfl | exact rf_cat _) ?_
    refine wa_astoreV_n (pc := 16) (y := mJ26_balanceDeletion) dJ26_balanceDeletion_16 (Nat.le_of_ble_eq_true rfl) (by first | rfl | (simp [okst, rf_cat] <;> assumption)) (by first | exact rf_s _ | exact rf_n | exact rf_q _) ?_
    change WA _ _ _ _ (List.set _ 2 _) _ _ _
    simp only [List.set_cons_zero, List.set_cons_succ]
    refine wa_ifnonnullV (pc := 17) 27 dJ26_balanceDeletion_17 rfl (by first | exact rf_s _ | exact rf_n | exact rf_q _) (fun a17 hb17 => ?_) (fun hb17 => ?_)
    · rw [hb17]
      refine wa_aloadV_n (pc := 27) (y := mJ26_balanceDeletion) dJ26_balanceDeletion_27 rfl (by first | exact rf_s _ | exact rf_n | exact rf_q _) ?_
      refine wf_get (k := 14) (l := 11) 10 dJ26_balanceDeletion_28 (by assumption) rfl q1619 (Or.inl rfl) (Nat.le_of_ble_eq_true rfl) (Nat.le_of_ble_eq_true rfl) (by (repeat (first | exact updF_self _ _ _ _ | (apply updF_i; · decide) | (apply updF_a; · first | assumption | (apply Ne.symm; assumption) | omega) | (apply newF_a; · first | assumption | (apply Ne.symm; assumption) | omega) | exact newL_self (by rfl) | exact newF_self (by rfl) | (apply cpyF_a; · first | assumption | (apply Ne.symm; assumption) | omega))) <;> first | assumption | rfl) ?_
      refine wa_if_eq (pc := 31) 41 dJ26_balanceDeletion_31 rfl (fun hb31 => hc.elim (fun e => absurd (by rw [e]) hb6) (fun e => by rw [e] at hb31; exact absurd hb31 (by decide))) (fun hb31 => ?_)
      refine wa_aloadV_n (pc := 34) (y := mJ26_balanceDeletion) dJ26_balanceDeletion_34 rfl (by first | exact rf_s _ | exact rf_n | exact rf_q _) ?_
      refine wa_iconst (pc := 35) (y := mJ26_balanceDeletion) (Int32.ofNat 0) dJ26_balanceDeletion_35 rfl ?_
      refine wf_put (k := 14) (l := 11) 10 .boolean dJ26_balanceDeletion_36 (by assumption) rfl q1619 (Or.inl rfl) (Nat.le_of_ble_eq_true rfl) rfl (by decide +kernel) (by first | rfl | exact bI_nar _) (by first | rfl | exact bI_fit _) ?_
      refine wa_aloadV_n (pc := 39) (y := mJ26_balanceDeletion) dJ26_balanceDeletion_39 rfl (by first | exact rf_s _ | exact rf_n | exact rf_q _) ?_
      refine wa_areturnV (pc := 40) (y := mJ26_balanceDeletion) (.object "java/util/HashMap$TreeNode") dJ26_balanceDeletion_40 rfl (Or.inl ⟨_, rfl⟩) (by first | exact rf_s _ | exact rf_n | exact rf_q _) ⟨_, _, rfl, rfl, fr.upd hx (by decide), ⟨_, _, _, _, _, _, _, _, t, tl.red (b := false) x⟩, (tl.red (b := false) x).lf hT⟩
    · have hxr := (tx.2.1 hb17).1
      rw [hb17]
      refine wa_aloadV_n (pc := 20) (y := mJ26_balanceDeletion) dJ26_balanceDeletion_20 rfl (by first | exact rf_s _ | exact rf_n | exact rf_q _) ?_
      refine wa_iconst (pc := 21) (y := mJ26_balanceDeletion) (Int32.ofNat 0) dJ26_balanceDeletion_21 rfl ?_
      refine wf_put (k := 14) (l := 11) 10 .boolean dJ26_balanceDeletion_22 (by assumption) rfl q1619 (Or.inl rfl) (Nat.le_of_ble_eq_true rfl) rfl (by decide +kernel) (by first | rfl | exact bI_nar _) (by first | rfl | exact bI_fit _) ?_
      refine wa_aloadV_n (pc := 25) (y := mJ26_balanceDeletion) dJ26_balanceDeletion_25 rfl (by first | exact rf_s _ | exact rf_n | exact rf_q _) ?_
      refine wa_areturnV (pc := 26) (y := mJ26_balanceDeletion) (.object "java/util/HashMap$TreeNode") dJ26_balanceDeletion_26 rfl (Or.inl ⟨_, rfl⟩) (by first | exact rf_s _ | exact rf_n | exact rf_q _) ⟨_, _, by rw [hxr], rfl, fr.upd hx (by decide), ⟨_, _, _, _, _, _, _, _, t, tl.red (b := false) x⟩, (tl.red (b := false) x).lf hT⟩
  · refine wa_aloadV_n (pc := 9) (y := mJ26_balanceDeletion) dJ26_balanceDeletion_9 rfl (by first | exact rf_s _ | exact rf_n | exact rf_q _) ?_
    refine wa_areturnV (pc := 10) (y := mJ26_balanceDeletion) (.object "java/util/HashMap$TreeNode") dJ26_balanceDeletion_10 rfl (Or.inl ⟨_, rfl⟩) (by first | exact rf_s _ | exact rf_n | exact rf_q _) ⟨_, _, rfl, rfl, fr, ⟨_, _, _, _, _, _, _, _, t, tl⟩, tl.lf hT⟩
theorem bd_L222 {x xp xpr : Nat} {F0 : Nat → Nat → Value} {v3 v5 v6 : Value} (c5 : v5.category = 1) (hd : 1 ≤ d) (t : T0 S key root L R P lo hi rk top M) (tl : TL h F S L R P C) (hx : S x) (fr : TFr S F0 F) (h1 : P x = some xp) (h2 : R xp = some xpr) (hT : ∀ z, T z → S z ∧ L z = none ∧ R z = none ∧ key z < key xp) :
    WA G d mJ26_balanceDeletion 222 [.ref root, .ref x, .ref xp, v3, .ref xpr, v5, v6] [] (sF h F) (BQT T h F0 S key top) := by
  have hxp := (t.2 x hx).2.2.2.2 _ h1
  have txp := t.2 xp hxp.1
  have hr := txp.2.2.2.1 _ h2
  have txr := t.2 xpr hr.1
  have n1 : xp ≠ xpr := by intro e; subst e; grind
  obtain ⟨p1, p2, p3, p4, p5⟩ := tl _ hxp.1
  obtain ⟨q1, q2, q3, q4, q5⟩ := tl _ hr.1
  have keyW : ∀ {F3 : Nat → Nat → Value} {C3 : Nat → Bool} {v6 : Value}, TL h F3 S L R P C3 → TFr S F0 F3 → WA G d mJ26_balanceDeletion 261 [.ref root, .ref x, .ref xp, v3, .ref xpr, v5, v6] [] (sF h F3) (BQT T h F0 S key top) := by
    intro F3 C3 v6 tl3 fr3
    obtain ⟨p1, p2, p3, p4, p5⟩ := tl3 _ hxp.1
    refine wa_aloadV_n (pc := 261) (y := mJ26_balanceDeletion) dJ26_balanceDeletion_261 rfl (by first | exact rf_s _ | exact rf_n | exact rf_q _) ?_
    refine wa_ifnull (pc := 262) (y := mJ26_balanceDeletion) dJ26_balanceDeletion_262 ?_
    refine wa_aloadV_n (pc := 265) (y := mJ26_balanceDeletion) dJ26_balanceDeletion_265 rfl (by first | exact rf_s _ | exact rf_n | exact rf_q _) ?_
    refine wa_iconst (pc := 266) (y := mJ26_balanceDeletion) (Int32.ofNat 0) dJ26_balanceDeletion_266 rfl ?_
    refine wf_put (k := 14) (l := 11) 10 .boolean dJ26_balanceDeletion_267 (by assumption) rfl q1619 (Or.inl rfl) (Nat.le_of_ble_eq_true rfl) rfl (by decide +kernel) (by first | rfl | exact bI_nar _) (by first | rfl | exact bI_fit _) ?_
    refine wa_aloadV_n (pc := 270) (y := mJ26_balanceDeletion) dJ26_balanceDeletion_270 rfl (by first | exact rf_s _ | exact rf_n | exact rf_q _) ?_
    refine wa_aloadV_n (pc := 271) (y := mJ26_balanceDeletion) dJ26_balanceDeletion_271 rfl (by first | exact rf_s _ | exact rf_n | exact rf_q _) ?_
    refine wa_callS (pc := 272) (s_rotL (d := d - 1) t (tl3.red (b := false) xp) hxp.1 h2) dJ26_balanceDeletion_272 okJ26_rotateLeft q1364 q1365 rfl rfl (Nat.le_of_ble_eq_true rfl) (Nat.le_of_ble_eq_true rfl) (by omega) ?_
    rintro _ _ - - ⟨root2, F2, L2, R2, P2, C2, lo2, hi2, rk2, M2, rfl, rfl, f2, t2, tl4, g1, g2, g3, g4, g5⟩
    refine aft_v (pc2 := 275) ?_ rfl
    refine wa_astoreV_n (pc := 275) (y := mJ26_balanceDeletion) dJ26_balanceDeletion_275 (Nat.le_of_ble_eq_true rfl) (by first | rfl | (simp [okst, rf_cat] <;> assumption)) (by first | exact rf_s _ | exact rf_n | exact rf_q _) ?_
    change WA _ _ _ _ (List.set _ 0 _) _ _ _
    simp only [List.set_cons_zero, List.set_cons_succ]
    refine wa_aloadV_n (pc := 276) (y := mJ26_balanceDeletion) dJ26_balanceDeletion_276 rfl (by first | exact rf_s _ | exact rf_n | exact rf_q _) ?_
    refine wa_astoreV_n (pc := 277) (y := mJ26_balanceDeletion) dJ26_balanceDeletion_277 (Nat.le_of_ble_eq_true rfl) (by first | rfl | (simp [okst, rf_cat] <;> assumption)) (by first | exact rf_s _ | exact rf_n | exact rf_q _) ?_
    change WA _ _ _ _ (List.set _ 1 _) _ _ _
    simp only [List.set_cons_zero, List.set_cons_succ]
    refine wa_goto (pc := 278) (y := mJ26_balanceDeletion) 0 dJ26_balanceDeletion_278 rfl ?_
    exact bd_exit t2 tl4 t2.1.1 ((fr3.upd hxp.1 (by decide)).trans f2) (Or.inl rfl) (fun z hz => by obtain ⟨w1, w2, w3, w4⟩ := hT z hz; refine ⟨w1, ?_, ?_⟩; (rw [g1]; grind [upo, chd]); (rw [g2]; grind [upo, chd]))
  refine wa_aloadV (pc := 222) (y := mJ26_balanceDeletion) dJ26_balanceDeletion_222 rfl (by first | exact rf_s _ | exact rf_n | exact rf_q _) ?_
  refine wa_ifnull (pc := 224) (y := mJ26_balanceDeletion) dJ26_balanceDeletion_224 ?_
  refine wa_aloadV (pc := 227) (y := mJ26_balanceDeletion) dJ26_balanceDeletion_227 rfl (by first | exact rf_s _ | exact rf_n | exact rf_q _) ?_
  refine wa_aloadV_n (pc := 229) (y := mJ26_balanceDeletion) dJ26_balanceDeletion_229 rfl (by first | exact rf_s _ | exact rf_n | exact rf_q _) ?_
  refine wa_ifnonnull (pc := 230) (y := mJ26_balanceDeletion) 237 dJ26_balanceDeletion_230 rfl ?_
  refine wa_aloadV_n (pc := 237) (y := mJ26_balanceDeletion) dJ26_balanceDeletion_237 rfl (by first | exact rf_s _ | exact rf_n | exact rf_q _) ?_
  refine wf_get (k := 14) (l := 11) 10 dJ26_balanceDeletion_238 (by assumption) rfl q1619 (Or.inl rfl) (Nat.le_of_ble_eq_true rfl) (Nat.le_of_ble_eq_true rfl) (by (repeat (first | exact updF_self _ _ _ _ | (apply updF_i; · decide) | (apply updF_a; · first | assumption | (apply Ne.symm; assumption) | omega) | (apply newF_a; · first | assumption | (apply Ne.symm; assumption) | omega) | exact newL_self (by rfl) | exact newF_self (by rfl) | (apply cpyF_a; · first | assumption | (apply Ne.symm; assumption) | omega))) <;> first | assumption | rfl) ?_
  refine wf_put (k := 14) (l := 11) 10 .boolean dJ26_balanceDeletion_241 (by assumption) rfl q1619 (Or.inl rfl) (Nat.le_of_ble_eq_true rfl) rfl (by decide +kernel) (by first | rfl | exact bI_nar _) (by first | rfl | exact bI_fit _) ?_
  refine wa_aloadV (pc := 244) (y := mJ26_balanceDeletion) dJ26_balanceDeletion_244 rfl (by first | exact rf_s _ | exact rf_n | exact rf_q _) ?_
  refine wf_get (k := 14) (l := 11) 8 dJ26_balanceDeletion_246 (by assumption) rfl q1616 (Or.inl rfl) (Nat.le_of_ble_eq_true rfl) (Nat.le_of_ble_eq_true rfl) (by (repeat (first | exact updF_self _ _ _ _ | (apply updF_i; · decide) | (apply updF_a; · first | assumption | (apply Ne.symm; assumption) | omega) | (apply newF_a; · first | assumption | (apply Ne.symm; assumption) | omega) | exact newL_self (by rfl) | exact newF_self (by rfl) | (apply cpyF_a; · first | assumption | (apply Ne.symm; assumption) | omega))) <;> first | assumption | rfl) ?_
  refine wa_dup (pc := 249) (y := mJ26_balanceDeletion) dJ26_balanceDeletion_249 (by first | rfl | exact rf_cat _) ?_
  refine wa_astoreV (pc := 250) (y := mJ26_balanceDeletion) dJ26_balanceDeletion_250 (Nat.le_of_ble_eq_true rfl) (by first | rfl | (simp [okst, rf_cat] <;> assumption)) (by first | exact rf_s _ | exact rf_n | exact rf_q _) ?_
  simp only [List.set_cons_zero, List.set_cons_succ]
  refine wa_ifnullV (pc := 252) 261 dJ26_balanceDeletion_252 rfl (by first | exact rf_s _ | exact rf_n | exact rf_q _) (fun hb252 => ?_) (fun a252 hb252 => ?_)
  · first | exact keyW ((tl.red (b := C xp) xpr).red (b := false) _) ((fr.upd hr.1 (by decide)).upd hs.1 (by decide)) | exact keyW (tl.red (b := C xp) xpr) (fr.upd hr.1 (by decide))
  · have hs := txr.2.2.2.1 _ hb252
    obtain ⟨s1, s2, s3, s4, s5⟩ := tl _ hs.1
    rw [hb252]
    refine wa_aloadV (pc := 255) (y := mJ26_balanceDeletion) dJ26_balanceDeletion_255 rfl (by first | exact rf_s _ | exact rf_n | exact rf_q _) ?_
    refine wa_iconst (pc := 257) (y := mJ26_balanceDeletion) (Int32.ofNat 0) dJ26_balanceDeletion_257 rfl ?_
    refine wf_put (k := 14) (l := 11) 10 .boolean dJ26_balanceDeletion_258 (by assumption) rfl q1619 (Or.inl rfl) (Nat.le_of_ble_eq_true rfl) rfl (by decide +kernel) (by first | rfl | exact bI_nar _) (by first | rfl | exact bI_fit _) ?_
    first | exact keyW ((tl.red (b := C xp) xpr).red (b := false) _) ((fr.upd hr.1 (by decide)).upd hs.1 (by decide)) | exact keyW (tl.red (b := C xp) xpr) (fr.upd hr.1 (by decide))
theorem bd_R436 {x xp xpl : Nat} {F0 : Nat → Nat → Value} {v4 v5 v6 : Value} (c4 : v4.category = 1) (hd : 1 ≤ d) (t : T0 S key root L R P lo hi rk top M) (tl : TL h F S L R P C) (hx : S x) (fr : TFr S F0 F) (h1 : P x = some xp) (h2 : L xp = some xpl) (hT : ∀ z, T z → S z ∧ L z = none ∧ R z = none ∧ key xp < key z) :
    WA G d mJ26_balanceDeletion 436 [.ref root, .ref x, .ref xp, .ref xpl, v4, v5, v6] [] (sF h F) (BQT T h F0 S key top) := by
  have hxp := (t.2 x hx).2.2.2.2 _ h1
  have txp := t.2 xp hxp.1
  have hr := txp.2.2.1 _ h2
  have txr := t.2 xpl hr.1
  have n1 : xp ≠ xpl := by intro e; subst e; grind
  obtain ⟨p1, p2, p3, p4, p5⟩ := tl _ hxp.1
  obtain ⟨q1, q2, q3, q4, q5⟩ := tl _ hr.1
  have keyW : ∀ {F3 : Nat → Nat → Value} {C3 : Nat → Bool} {v5 : Value}, TL h F3 S L R P C3 → TFr S F0 F3 → WA G d mJ26_balanceDeletion 472 [.ref root, .ref x, .ref xp, .ref xpl, v4, v5, v6] [] (sF h F3) (BQT T h F0 S key top) := by
    intro F3 C3 v5 tl3 fr3
    obtain ⟨p1, p2, p3, p4, p5⟩ := tl3 _ hxp.1
    refine wa_aloadV_n (pc := 472) (y := mJ26_balanceDeletion) dJ26_balanceDeletion_472 rfl (by first | exact rf_s _ | exact rf_n | exact rf_q _) ?_
    refine wa_ifnull (pc := 473) (y := mJ26_balanceDeletion) dJ26_balanceDeletion_473 ?_
    refine wa_aloadV_n (pc := 476) (y := mJ26_balanceDeletion) dJ26_balanceDeletion_476 rfl (by first | exact rf_s _ | exact rf_n | exact rf_q _) ?_
    refine wa_iconst (pc := 477) (y := mJ26_balanceDeletion) (Int32.ofNat 0) dJ26_balanceDeletion_477 rfl ?_
    refine wf_put (k := 14) (l := 11) 10 .boolean dJ26_balanceDeletion_478 (by assumption) rfl q1619 (Or.inl rfl) (Nat.le_of_ble_eq_true rfl) rfl (by decide +kernel) (by first | rfl | exact bI_nar _) (by first | rfl | exact bI_fit _) ?_
    refine wa_aloadV_n (pc := 481) (y := mJ26_balanceDeletion) dJ26_balanceDeletion_481 rfl (by first | exact rf_s _ | exact rf_n | exact rf_q _) ?_
    refine wa_aloadV_n (pc := 482) (y := mJ26_balanceDeletion) dJ26_balanceDeletion_482 rfl (by first | exact rf_s _ | exact rf_n | exact rf_q _) ?_
    refine wa_callS (pc := 483) (s_rotR (d := d - 1) t (tl3.red (b := false) xp) hxp.1 h2) dJ26_balanceDeletion_483 okJ26_rotateRight q1367 q1368 rfl rfl (Nat.le_of_ble_eq_true rfl) (Nat.le_of_ble_eq_true rfl) (by omega) ?_
    rintro _ _ - - ⟨root2, F2, L2, R2, P2, C2, lo2, hi2, rk2, M2, rfl, rfl, f2, t2, tl4, g1, g2, g3, g4, g5⟩
    refine aft_v (pc2 := 486) ?_ rfl
    refine wa_astoreV_n (pc := 486) (y := mJ26_balanceDeletion) dJ26_balanceDeletion_486 (Nat.le_of_ble_eq_true rfl) (by first | rfl | (simp [okst, rf_cat] <;> assumption)) (by first | exact rf_s _ | exact rf_n | exact rf_q _) ?_
    change WA _ _ _ _ (List.set _ 0 _) _ _ _
    simp only [List.set_cons_zero, List.set_cons_succ]
    refine wa_aloadV_n (pc := 487) (y := mJ26_balanceDeletion) dJ26_balanceDeletion_487 rfl (by first | exact rf_s _ | exact rf_n | exact rf_q _) ?_
    refine wa_astoreV_n (pc := 488) (y := mJ26_balanceDeletion) dJ26_balanceDeletion_488 (Nat.le_of_ble_eq_true rfl) (by first | rfl | (simp [okst, rf_cat] <;> assumption)) (by first | exact rf_s _ | exact rf_n | exact rf_q _) ?_
    change WA _ _ _ _ (List.set _ 1 _) _ _ _
    simp only [List.set_cons_zero, List.set_cons_succ]
    refine wa_goto (pc := 489) (y := mJ26_balanceDeletion) 0 dJ26_balanceDeletion_489 rfl ?_
    exact bd_exit t2 tl4 t2.1.1 ((fr3.upd hxp.1 (by decide)).trans f2) (Or.inl rfl) (fun z hz => by obtain ⟨w1, w2, w3, w4⟩ := hT z hz; refine ⟨w1, ?_, ?_⟩; (rw [g1]; grind [upo, chd]); (rw [g2]; grind [upo, chd]))
  refine wa_aloadV_n (pc := 436) (y := mJ26_balanceDeletion) dJ26_balanceDeletion_436 rfl (by first | exact rf_s _ | exact rf_n | exact rf_q _) ?_
  refine wa_ifnull (pc := 437) (y := mJ26_balanceDeletion) dJ26_balanceDeletion_437 ?_
  refine wa_aloadV_n (pc := 440) (y := mJ26_balanceDeletion) dJ26_balanceDeletion_440 rfl (by first | exact rf_s _ | exact rf_n | exact rf_q _) ?_
  refine wa_aloadV_n (pc := 441) (y := mJ26_balanceDeletion) dJ26_balanceDeletion_441 rfl (by first | exact rf_s _ | exact rf_n | exact rf_q _) ?_
  refine wa_ifnonnull (pc := 442) (y := mJ26_balanceDeletion) 449 dJ26_balanceDeletion_442 rfl ?_
  refine wa_aloadV_n (pc := 449) (y := mJ26_balanceDeletion) dJ26_balanceDeletion_449 rfl (by first | exact rf_s _ | exact rf_n | exact rf_q _) ?_
  refine wf_get (k := 14) (l := 11) 10 dJ26_balanceDeletion_450 (by assumption) rfl q1619 (Or.inl rfl) (Nat.le_of_ble_eq_true rfl) (Nat.le_of_ble_eq_true rfl) (by (repeat (first | exact updF_self _ _ _ _ | (apply updF_i; · decide) | (apply updF_a; · first | assumption | (apply Ne.symm; assumption) | omega) | (apply newF_a; · first | assumption | (apply Ne.symm; assumption) | omega) | exact newL_self (by rfl) | exact newF_self (by rfl) | (apply cpyF_a; · first | assumption | (apply Ne.symm; assumption) | omega))) <;> first | assumption | rfl) ?_
  refine wf_put (k := 14) (l := 11) 10 .boolean dJ26_balanceDeletion_453 (by assumption) rfl q1619 (Or.inl rfl) (Nat.le_of_ble_eq_true rfl) rfl (by decide +kernel) (by first | rfl | exact bI_nar _) (by first | rfl | exact bI_fit _) ?_
  refine wa_aloadV_n (pc := 456) (y := mJ26_balanceDeletion) dJ26_balanceDeletion_456 rfl (by first | exact rf_s _ | exact rf_n | exact rf_q _) ?_
  refine wf_get (k := 14) (l := 11) 7 dJ26_balanceDeletion_457 (by assumption) rfl q1615 (Or.inl rfl) (Nat.le_of_ble_eq_true rfl) (Nat.le_of_ble_eq_true rfl) (by (repeat (first | exact updF_self _ _ _ _ | (apply updF_i; · decide) | (apply updF_a; · first | assumption | (apply Ne.symm; assumption) | omega) | (apply newF_a; · first | assumption | (apply Ne.symm; assumption) | omega) | exact newL_self (by rfl) | exact newF_self (by rfl) | (apply cpyF_a; · first | assumption | (apply Ne.symm; assumption) | omega))) <;> first | assumption | rfl) ?_
  refine wa_dup (pc := 460) (y := mJ26_balanceDeletion) dJ26_balanceDeletion_460 (by first | rfl | exact rf_cat _) ?_
  refine wa_astoreV (pc := 461) (y := mJ26_balanceDeletion) dJ26_balanceDeletion_461 (Nat.le_of_ble_eq_true rfl) (by first | rfl | (simp [okst, rf_cat] <;> assumption)) (by first | exact rf_s _ | exact rf_n | exact rf_q _) ?_
  simp only [List.set_cons_zero, List.set_cons_succ]
  refine wa_ifnullV (pc := 463) 472 dJ26_balanceDeletion_463 rfl (by first | exact rf_s _ | exact rf_n | exact rf_q _) (fun hb463 => ?_) (fun a463 hb463 => ?_)
  · first | exact keyW ((tl.red (b := C xp) xpl).red (b := false) _) ((fr.upd hr.1 (by decide)).upd hs.1 (by decide)) | exact keyW (tl.red (b := C xp) xpl) (fr.upd hr.1 (by decide))
  · have hs := txr.2.2.1 _ hb463
    obtain ⟨s1, s2, s3, s4, s5⟩ := tl _ hs.1
    rw [hb463]
    refine wa_aloadV (pc := 466) (y := mJ26_balanceDeletion) dJ26_balanceDeletion_466 rfl (by first | exact rf_s _ | exact rf_n | exact rf_q _) ?_
    refine wa_iconst (pc := 468) (y := mJ26_balanceDeletion) (Int32.ofNat 0) dJ26_balanceDeletion_468 rfl ?_
    refine wf_put (k := 14) (l := 11) 10 .boolean dJ26_balanceDeletion_469 (by assumption) rfl q1619 (Or.inl rfl) (Nat.le_of_ble_eq_true rfl) rfl (by decide +kernel) (by first | rfl | exact bI_nar _) (by first | rfl | exact bI_fit _) ?_
    first | exact keyW ((tl.red (b := C xp) xpl).red (b := false) _) ((fr.upd hr.1 (by decide)).upd hs.1 (by decide)) | exact keyW (tl.red (b := C xp) xpl) (fr.upd hr.1 (by decide))
theorem bd_L166 {x xp xpr : Nat} {sl sr : Option Nat} {F0 : Nat → Nat → Value} {v3 : Value} (hd : 1 ≤ d) (c3 : v3.category = 1) (t : T0 S key root L R P lo hi rk top M) (tl : TL h F S L R P C) (hx : S x) (fr : TFr S F0 F) (h1 : P x = some xp) (h2 : L xp = some x) (h3 : R xp = some xpr) (h4 : L xpr = sl) (h5 : R xpr = sr) (hc : (∃ z, sr = some z ∧ C z = true) ∨ ∃ z, sl = some z ∧ C z = true) (hT : ∀ z, T z → S z ∧ L z = none ∧ R z = none ∧ key z < key xp) :
    WA G d mJ26_balanceDeletion 166 [.ref root, .ref x, .ref xp, v3, .ref xpr, va_rf sl, va_rf sr] [] (sF h F) (BQT T h F0 S key top) := by
  have hxp := (t.2 x hx).2.2.2.2 _ h1
  have txp := t.2 xp hxp.1
  have hr := txp.2.2.2.1 _ h3
  have tr := t.2 _ hr.1
  have nxr : xp ≠ xpr := by intro e; subst e; grind
  have nxx : x ≠ xpr := by intro e; subst e; grind
  obtain ⟨r1, r2, r3, r4, r5⟩ := tl _ hr.1
  have keyV : ∀ {v6 : Value}, (∃ z, sl = some z ∧ C z = true) → WA G d mJ26_balanceDeletion 179 [.ref root, .ref x, .ref xp, v3, .ref xpr, va_rf sl, v6] [] (sF h F) (BQT T h F0 S key top) := by
    rintro v6 ⟨z, rfl, hz⟩
    have hs := tr.2.2.1 _ h4
    have ts := t.2 _ hs.1
    obtain ⟨s1, s2, s3, s4, s5⟩ := tl _ hs.1
    have nz : z ≠ xpr := by intro e; subst e; grind
    have nz2 : z ≠ xp := by intro e; subst e; grind
    have nz3 : z ≠ x := by intro e; subst e; grind
    refine wa_aloadV (pc := 179) (y := mJ26_balanceDeletion) dJ26_balanceDeletion_179 rfl (by first | exact rf_s _ | exact rf_n | exact rf_q _) ?_
    refine wa_ifnull (pc := 181) (y := mJ26_balanceDeletion) dJ26_balanceDeletion_181 ?_
    refine wa_aloadV (pc := 184) (y := mJ26_balanceDeletion) dJ26_balanceDeletion_184 rfl (by first | exact rf_s _ | exact rf_n | exact rf_q _) ?_
    refine wa_iconst (pc := 186) (y := mJ26_balanceDeletion) (Int32.ofNat 0) dJ26_balanceDeletion_186 rfl ?_
    refine wf_put (k := 14) (l := 11) 10 .boolean dJ26_balanceDeletion_187 (by assumption) rfl q1619 (Or.inl rfl) (Nat.le_of_ble_eq_true rfl) rfl (by decide +kernel) (by first | rfl | exact bI_nar _) (by first | rfl | exact bI_fit _) ?_
    refine wa_aloadV (pc := 190) (y := mJ26_balanceDeletion) dJ26_balanceDeletion_190 rfl (by first | exact rf_s _ | exact rf_n | exact rf_q _) ?_
    refine wa_iconst (pc := 192) (y := mJ26_balanceDeletion) (Int32.ofNat 1) dJ26_balanceDeletion_192 rfl ?_
    refine wf_put (k := 14) (l := 11) 10 .boolean dJ26_balanceDeletion_193 (by assumption) rfl q1619 (Or.inl rfl) (Nat.le_of_ble_eq_true rfl) rfl (by decide +kernel) (by first | rfl | exact bI_nar _) (by first | rfl | exact bI_fit _) ?_
    refine wa_aloadV_n (pc := 196) (y := mJ26_balanceDeletion) dJ26_balanceDeletion_196 rfl (by first | exact rf_s _ | exact rf_n | exact rf_q _) ?_
    refine wa_aloadV (pc := 197) (y := mJ26_balanceDeletion) dJ26_balanceDeletion_197 rfl (by first | exact rf_s _ | exact rf_n | exact rf_q _) ?_
    refine wa_callS (pc := 199) (s_rotR (d := d - 1) t ((tl.red (b := false) z).red (b := true) xpr) hr.1 h4) dJ26_balanceDeletion_199 okJ26_rotateRight q1367 q1368 rfl rfl (Nat.le_of_ble_eq_true rfl) (Nat.le_of_ble_eq_true rfl) (by omega) ?_
    rintro _ _ - - ⟨root2, F2, L2, R2, P2, C2, lo2, hi2, rk2, M2, rfl, rfl, f2, t2, tl3, g1, g2, g3, g4, g5⟩
    refine aft_v (pc2 := 202) ?_ rfl
    have e1 : P2 x = some xp := by rw [g3]; grind [upo, upq]
    have e3 : R2 xp = some z := by rw [g2]; grind [upo, chd]
    obtain ⟨y1, y2, y3, y4, y5⟩ := tl3 _ hxp.1
    obtain ⟨w1, w2, w3, w4, w5⟩ := tl3 _ hx
    rw [e1] at w2
    rw [e3] at y4
    refine wa_astoreV_n (pc := 202) (y := mJ26_balanceDeletion) dJ26_balanceDeletion_202 (Nat.le_of_ble_eq_true rfl) (by first | rfl | (simp [okst, rf_cat] <;> assumption)) (by first | exact rf_s _ | exact rf_n | exact rf_q _) ?_
    change WA _ _ _ _ (List.set _ 0 _) _ _ _
    simp only [List.set_cons_zero, List.set_cons_succ]
    refine wa_aloadV_n (pc := 203) (y := mJ26_balanceDeletion) dJ26_balanceDeletion_203 rfl (by first | exact rf_s _ | exact rf_n | exact rf_q _) ?_
    refine wf_get (k := 14) (l := 11) 6 dJ26_balanceDeletion_204 (by assumption) rfl q1614 (Or.inl rfl) (Nat.le_of_ble_eq_true rfl) (Nat.le_of_ble_eq_true rfl) (by (repeat (first | exact updF_self _ _ _ _ | (apply updF_i; · decide) | (apply updF_a; · first | assumption | (apply Ne.symm; assumption) | omega) | (apply newF_a; · first | assumption | (apply Ne.symm; assumption) | omega) | exact newL_self (by rfl) | exact newF_self (by rfl) | (apply cpyF_a; · first | assumption | (apply Ne.symm; assumption) | omega))) <;> first | assumption | rfl) ?_
    refine wa_dup (pc := 207) (y := mJ26_balanceDeletion) dJ26_balanceDeletion_207 (by first | rfl | exact rf_cat _) ?_
    refine wa_astoreV_n (pc := 208) (y := mJ26_balanceDeletion) dJ26_balanceDeletion_208 (Nat.le_of_ble_eq_true rfl) (by first | rfl | (simp [okst, rf_cat] <;> assumption)) (by first | exact rf_s _ | exact rf_n | exact rf_q _) ?_
    change WA _ _ _ _ (List.set _ 2 _) _ _ _
    simp only [List.set_cons_zero, List.set_cons_succ]
    refine wa_ifnonnull (pc := 209) (y := mJ26_balanceDeletion) 216 dJ26_balanceDeletion_209 rfl ?_
    refine wa_aloadV_n (pc := 216) (y := mJ26_balanceDeletion) dJ26_balanceDeletion_216 rfl (by first | exact rf_s _ | exact rf_n | exact rf_q _) ?_
    refine wf_get (k := 14) (l := 11) 8 dJ26_balanceDeletion_217 (by assumption) rfl q1616 (Or.inl rfl) (Nat.le_of_ble_eq_true rfl) (Nat.le_of_ble_eq_true rfl) (by (repeat (first | exact updF_self _ _ _ _ | (apply updF_i; · decide) | (apply updF_a; · first | assumption | (apply Ne.symm; assumption) | omega) | (apply newF_a; · first | assumption | (apply Ne.symm; assumption) | omega) | exact newL_self (by rfl) | exact newF_self (by rfl) | (apply cpyF_a; · first | assumption | (apply Ne.symm; assumption) | omega))) <;> first | assumption | rfl) ?_
    refine wa_astoreV (pc := 220) (y := mJ26_balanceDeletion) dJ26_balanceDeletion_220 (Nat.le_of_ble_eq_true rfl) (by first | rfl | (simp [okst, rf_cat] <;> assumption)) (by first | exact rf_s _ | exact rf_n | exact rf_q _) ?_
    simp only [List.set_cons_zero, List.set_cons_succ]
    exact bd_L222 rfl hd t2 tl3 hx (((fr.upd hs.1 (by decide)).upd hr.1 (by decide)).trans f2) e1 e3 (fun w hw => by obtain ⟨w1, w2, w3, w4⟩ := hT w hw; refine ⟨w1, ?_, ?_, w4⟩; (rw [g1]; grind [upo, chd]); (rw [g2]; grind [upo, chd]))
  refine wa_aloadV (pc := 166) (y := mJ26_balanceDeletion) dJ26_balanceDeletion_166 rfl (by first | exact rf_s _ | exact rf_n | exact rf_q _) ?_
  refine wa_ifnullV (pc := 168) 179 dJ26_balanceDeletion_168 rfl (by first | exact rf_s _ | exact rf_n | exact rf_q _) (fun hb168 => ?_) (fun a168 hb168 => ?_)
  · first | exact keyV (hc.elim (fun ⟨z, h8, h9⟩ => by rw [hb168] at h8; cases h8) id) | exact keyV (hc.elim (fun ⟨z, h8, h9⟩ => by cases h8; rw [h9] at hb176; exact absurd hb176 (by decide)) id)
  · have hs := tr.2.2.2.1 _ (h5.trans hb168)
    obtain ⟨s1, s2, s3, s4, s5⟩ := tl _ hs.1
    subst hb168
    refine wa_aloadV (pc := 171) (y := mJ26_balanceDeletion) dJ26_balanceDeletion_171 rfl (by first | exact rf_s _ | exact rf_n | exact rf_q _) ?_
    refine wf_get (k := 14) (l := 11) 10 dJ26_balanceDeletion_173 (by assumption) rfl q1619 (Or.inl rfl) (Nat.le_of_ble_eq_true rfl) (Nat.le_of_ble_eq_true rfl) (by (repeat (first | exact updF_self _ _ _ _ | (apply updF_i; · decide) | (apply updF_a; · first | assumption | (apply Ne.symm; assumption) | omega) | (apply newF_a; · first | assumption | (apply Ne.symm; assumption) | omega) | exact newL_self (by rfl) | exact newF_self (by rfl) | (apply cpyF_a; · first | assumption | (apply Ne.symm; assumption) | omega))) <;> first | assumption | rfl) ?_
    refine wa_if_ne (pc := 176) 222 dJ26_balanceDeletion_176 rfl (fun hb176 => ?_) (fun hb176 => ?_)
    · exact bd_L222 (rf_cat _) hd t tl hx fr h1 h3 hT
    · first | exact keyV (hc.elim (fun ⟨z, h8, h9⟩ => by rw [hb168] at h8; cases h8) id) | exact keyV (hc.elim (fun ⟨z, h8, h9⟩ => by cases h8; rw [h9] at hb176; exact absurd hb176 (by decide)) id)
theorem bd_L105 {x xp : Nat} {F0 : Nat → Nat → Value} {v3 v5 v6 : Value} (hd : 1 ≤ d) (c3 : v3.category = 1) (c5 : v5.category = 1) (t : T0 S key root L R P lo hi rk top M) (tl : TL h F S L R P C) (hx : S x) (fr : TFr S F0 F) (h1 : P x = some xp) (h2 : L xp = some x)
    (K : ∀ {F3 : Nat → Nat → Value} {C3 : Nat → Bool} {v3 v4 v5 v6 : Value}, v3.category = 1 → v4.category = 1 → v5.category = 1 → v6.category = 1 → TL h F3 S L R P C3 → TFr S F0 F3 → C3 xp = C xp → WA G d mJ26_balanceDeletion 0 [.ref root, .ref xp, .ref xp, v3, v4, v5, v6] [] (sF h F3) (BQT T h F0 S key top)) (c6 : v6.category = 1) (hT : ∀ z, T z → S z ∧ L z = none ∧ R z = none ∧ key z < key xp) :
    WA G d mJ26_balanceDeletion 105 [.ref root, .ref x, .ref xp, v3, va_rf (R xp), v5, v6] [] (sF h F) (BQT T h F0 S key top) := by
  have hxp := (t.2 x hx).2.2.2.2 _ h1
  have txp := t.2 xp hxp.1
  obtain ⟨p1, p2, p3, p4, p5⟩ := tl _ hxp.1
  refine wa_aloadV (pc := 105) (y := mJ26_balanceDeletion) dJ26_balanceDeletion_105 rfl (by first | exact rf_s _ | exact rf_n | exact rf_q _) ?_
  refine wa_ifnonnullV (pc := 107) 115 dJ26_balanceDeletion_107 rfl (by first | exact rf_s _ | exact rf_n | exact rf_q _) (fun a107 hb107 => ?_) (fun hb107 => ?_)
  · have hr := txp.2.2.2.1 _ hb107
    have tr := t.2 _ hr.1
    have nxr : xp ≠ a107 := by intro e; subst e; grind
    have nxr2 : x ≠ a107 := by intro e; subst e; grind
    obtain ⟨r1, r2, r3, r4, r5⟩ := tl _ hr.1
    rw [hb107]
    refine wa_aloadV (pc := 115) (y := mJ26_balanceDeletion) dJ26_balanceDeletion_115 rfl (by first | exact rf_s _ | exact rf_n | exact rf_q _) ?_
    refine wf_get (k := 14) (l := 11) 7 dJ26_balanceDeletion_117 (by assumption) rfl q1615 (Or.inl rfl) (Nat.le_of_ble_eq_true rfl) (Nat.le_of_ble_eq_true rfl) (by (repeat (first | exact updF_self _ _ _ _ | (apply updF_i; · decide) | (apply updF_a; · first | assumption | (apply Ne.symm; assumption) | omega) | (apply newF_a; · first | assumption | (apply Ne.symm; assumption) | omega) | exact newL_self (by rfl) | exact newF_self (by rfl) | (apply cpyF_a; · first | assumption | (apply Ne.symm; assumption) | omega))) <;> first | assumption | rfl) ?_
    refine wa_astoreV (pc := 120) (y := mJ26_balanceDeletion) dJ26_balanceDeletion_120 (Nat.le_of_ble_eq_true rfl) (by first | rfl | (simp [okst, rf_cat] <;> assumption)) (by first | exact rf_s _ | exact rf_n | exact rf_q _) ?_
    simp only [List.set_cons_zero, List.set_cons_succ]
    refine wa_aloadV (pc := 122) (y := mJ26_balanceDeletion) dJ26_balanceDeletion_122 rfl (by first | exact rf_s _ | exact rf_n | exact rf_q _) ?_
    refine wf_get (k := 14) (l := 11) 8 dJ26_balanceDeletion_124 (by assumption) rfl q1616 (Or.inl rfl) (Nat.le_of_ble_eq_true rfl) (Nat.le_of_ble_eq_true rfl) (by (repeat (first | exact updF_self _ _ _ _ | (apply updF_i; · decide) | (apply updF_a; · first | assumption | (apply Ne.symm; assumption) | omega) | (apply newF_a; · first | assumption | (apply Ne.symm; assumption) | omega) | exact newL_self (by rfl) | exact newF_self (by rfl) | (apply cpyF_a; · first | assumption | (apply Ne.symm; assumption) | omega))) <;> first | assumption | rfl) ?_
    refine wa_astoreV (pc := 127) (y := mJ26_balanceDeletion) dJ26_balanceDeletion_127 (Nat.le_of_ble_eq_true rfl) (by first | rfl | (simp [okst, rf_cat] <;> assumption)) (by first | exact rf_s _ | exact rf_n | exact rf_q _) ?_
    simp only [List.set_cons_zero, List.set_cons_succ]
    refine wa_aloadV (pc := 129) (y := mJ26_balanceDeletion) dJ26_balanceDeletion_129 rfl (by first | exact rf_s _ | exact rf_n | exact rf_q _) ?_
    refine wa_ifnullV (pc := 131) 142 dJ26_balanceDeletion_131 rfl (by first | exact rf_s _ | exact rf_n | exact rf_q _) (fun hb131 => ?_) (fun a131 hb131 => ?_)
    · rw [hb131]
      refine wa_aloadV (pc := 142) (y := mJ26_balanceDeletion) dJ26_balanceDeletion_142 rfl (by first | exact rf_s _ | exact rf_n | exact rf_q _) ?_
      refine wa_ifnullV (pc := 144) 155 dJ26_balanceDeletion_144 rfl (by first | exact rf_s _ | exact rf_n | exact rf_q _) (fun hb144 => ?_) (fun a144 hb144 => ?_)
      · rw [hb144]
        refine wa_aloadV (pc := 155) (y := mJ26_balanceDeletion) dJ26_balanceDeletion_155 rfl (by first | exact rf_s _ | exact rf_n | exact rf_q _) ?_
        refine wa_iconst (pc := 157) (y := mJ26_balanceDeletion) (Int32.ofNat 1) dJ26_balanceDeletion_157 rfl ?_
        refine wf_put (k := 14) (l := 11) 10 .boolean dJ26_balanceDeletion_158 (by assumption) rfl q1619 (Or.inl rfl) (Nat.le_of_ble_eq_true rfl) rfl (by decide +kernel) (by first | rfl | exact bI_nar _) (by first | rfl | exact bI_fit _) ?_
        refine wa_aloadV_n (pc := 161) (y := mJ26_balanceDeletion) dJ26_balanceDeletion_161 rfl (by first | exact rf_s _ | exact rf_n | exact rf_q _) ?_
        refine wa_astoreV_n (pc := 162) (y := mJ26_balanceDeletion) dJ26_balanceDeletion_162 (Nat.le_of_ble_eq_true rfl) (by first | rfl | (simp [okst, rf_cat] <;> assumption)) (by first | exact rf_s _ | exact rf_n | exact rf_q _) ?_
        change WA _ _ _ _ (List.set _ 1 _) _ _ _
        simp only [List.set_cons_zero, List.set_cons_succ]
        refine wa_goto (pc := 163) (y := mJ26_balanceDeletion) 278 dJ26_balanceDeletion_163 rfl ?_
        refine wa_goto (pc := 278) (y := mJ26_balanceDeletion) 0 dJ26_balanceDeletion_278 rfl ?_
        first | exact K c3 rfl (rf_cat _) (rf_cat _) (tl.red (b := true) _) (fr.upd hr.1 (by decide)) (by simp [upo, nxr]) | exact K c3 rfl c5 c6 tl fr rfl
      · have hs9 := tr.2.2.1 _ hb144
        obtain ⟨w1, w2, w3, w4, w5⟩ := tl _ hs9.1
        rw [hb144]
        refine wa_aloadV (pc := 147) (y := mJ26_balanceDeletion) dJ26_balanceDeletion_147 rfl (by first | exact rf_s _ | exact rf_n | exact rf_q _) ?_
        refine wf_get (k := 14) (l := 11) 10 dJ26_balanceDeletion_149 (by assumption) rfl q1619 (Or.inl rfl) (Nat.le_of_ble_eq_true rfl) (Nat.le_of_ble_eq_true rfl) (by (repeat (first | exact updF_self _ _ _ _ | (apply updF_i; · decide) | (apply updF_a; · first | assumption | (apply Ne.symm; assumption) | omega) | (apply newF_a; · first | assumption | (apply Ne.symm; assumption) | omega) | exact newL_self (by rfl) | exact newF_self (by rfl) | (apply cpyF_a; · first | assumption | (apply Ne.symm; assumption) | omega))) <;> first | assumption | rfl) ?_
        refine wa_if_ne (pc := 152) 166 dJ26_balanceDeletion_152 rfl (fun hb152 => ?_) (fun hb152 => ?_)
        · first | exact bd_L166 hd c3 t tl hx fr h1 h2 hb107 rfl hb131 (Or.inl ⟨_, rfl, bI_n0 hb139⟩) hT | exact bd_L166 hd c3 t tl hx fr h1 h2 hb107 hb144 hb131 (Or.inr ⟨_, rfl, bI_n0 hb152⟩) hT
        · refine wa_aloadV (pc := 155) (y := mJ26_balanceDeletion) dJ26_balanceDeletion_155 rfl (by first | exact rf_s _ | exact rf_n | exact rf_q _) ?_
          refine wa_iconst (pc := 157) (y := mJ26_balanceDeletion) (Int32.ofNat 1) dJ26_balanceDeletion_157 rfl ?_
          refine wf_put (k := 14) (l := 11) 10 .boolean dJ26_balanceDeletion_158 (by assumption) rfl q1619 (Or.inl rfl) (Nat.le_of_ble_eq_true rfl) rfl (by decide +kernel) (by first | rfl | exact bI_nar _) (by first | rfl | exact bI_fit _) ?_
          refine wa_aloadV_n (pc := 161) (y := mJ26_balanceDeletion) dJ26_balanceDeletion_161 rfl (by first | exact rf_s _ | exact rf_n | exact rf_q _) ?_
          refine wa_astoreV_n (pc := 162) (y := mJ26_balanceDeletion) dJ26_balanceDeletion_162 (Nat.le_of_ble_eq_true rfl) (by first | rfl | (simp [okst, rf_cat] <;> assumption)) (by first | exact rf_s _ | exact rf_n | exact rf_q _) ?_
          change WA _ _ _ _ (List.set _ 1 _) _ _ _
          simp only [List.set_cons_zero, List.set_cons_succ]
          refine wa_goto (pc := 163) (y := mJ26_balanceDeletion) 278 dJ26_balanceDeletion_163 rfl ?_
          refine wa_goto (pc := 278) (y := mJ26_balanceDeletion) 0 dJ26_balanceDeletion_278 rfl ?_
          first | exact K c3 rfl (rf_cat _) (rf_cat _) (tl.red (b := true) _) (fr.upd hr.1 (by decide)) (by simp [upo, nxr]) | exact K c3 rfl c5 c6 tl fr rfl
    · have hs := tr.2.2.2.1 _ hb131
      obtain ⟨s1, s2, s3, s4, s5⟩ := tl _ hs.1
      rw [hb131]
      refine wa_aloadV (pc := 134) (y := mJ26_balanceDeletion) dJ26_balanceDeletion_134 rfl (by first | exact rf_s _ | exact rf_n | exact rf_q _) ?_
      refine wf_get (k := 14) (l := 11) 10 dJ26_balanceDeletion_136 (by assumption) rfl q1619 (Or.inl rfl) (Nat.le_of_ble_eq_true rfl) (Nat.le_of_ble_eq_true rfl) (by (repeat (first | exact updF_self _ _ _ _ | (apply updF_i; · decide) | (apply updF_a; · first | assumption | (apply Ne.symm; assumption) | omega) | (apply newF_a; · first | assumption | (apply Ne.symm; assumption) | omega) | exact newL_self (by rfl) | exact newF_self (by rfl) | (apply cpyF_a; · first | assumption | (apply Ne.symm; assumption) | omega))) <;> first | assumption | rfl) ?_
      refine wa_if_ne (pc := 139) 166 dJ26_balanceDeletion_139 rfl (fun hb139 => ?_) (fun hb139 => ?_)
      · first | exact bd_L166 hd c3 t tl hx fr h1 h2 hb107 rfl hb131 (Or.inl ⟨_, rfl, bI_n0 hb139⟩) hT | exact bd_L166 hd c3 t tl hx fr h1 h2 hb107 hb144 hb131 (Or.inr ⟨_, rfl, bI_n0 hb152⟩) hT
      · refine wa_aloadV (pc := 142) (y := mJ26_balanceDeletion) dJ26_balanceDeletion_142 rfl (by first | exact rf_s _ | exact rf_n | exact rf_q _) ?_
        refine wa_ifnullV (pc := 144) 155 dJ26_balanceDeletion_144 rfl (by first | exact rf_s _ | exact rf_n | exact rf_q _) (fun hb144 => ?_) (fun a144 hb144 => ?_)
        · rw [hb144]
          refine wa_aloadV (pc := 155) (y := mJ26_balanceDeletion) dJ26_balanceDeletion_155 rfl (by first | exact rf_s _ | exact rf_n | exact rf_q _) ?_
          refine wa_iconst (pc := 157) (y := mJ26_balanceDeletion) (Int32.ofNat 1) dJ26_balanceDeletion_157 rfl ?_
          refine wf_put (k := 14) (l := 11) 10 .boolean dJ26_balanceDeletion_158 (by assumption) rfl q1619 (Or.inl rfl) (Nat.le_of_ble_eq_true rfl) rfl (by decide +kernel) (by first | rfl | exact bI_nar _) (by first | rfl | exact bI_fit _) ?_
          refine wa_aloadV_n (pc := 161) (y := mJ26_balanceDeletion) dJ26_balanceDeletion_161 rfl (by first | exact rf_s _ | exact rf_n | exact rf_q _) ?_
          refine wa_astoreV_n (pc := 162) (y := mJ26_balanceDeletion) dJ26_balanceDeletion_162 (Nat.le_of_ble_eq_true rfl) (by first | rfl | (simp [okst, rf_cat] <;> assumption)) (by first | exact rf_s _ | exact rf_n | exact rf_q _) ?_
          change WA _ _ _ _ (List.set _ 1 _) _ _ _
          simp only [List.set_cons_zero, List.set_cons_succ]
          refine wa_goto (pc := 163) (y := mJ26_balanceDeletion) 278 dJ26_balanceDeletion_163 rfl ?_
          refine wa_goto (pc := 278) (y := mJ26_balanceDeletion) 0 dJ26_balanceDeletion_278 rfl ?_
          first | exact K c3 rfl (rf_cat _) (rf_cat _) (tl.red (b := true) _) (fr.upd hr.1 (by decide)) (by simp [upo, nxr]) | exact K c3 rfl c5 c6 tl fr rfl
        · have hs9 := tr.2.2.1 _ hb144
          obtain ⟨w1, w2, w3, w4, w5⟩ := tl _ hs9.1
          rw [hb144]
          refine wa_aloadV (pc := 147) (y := mJ26_balanceDeletion) dJ26_balanceDeletion_147 rfl (by first | exact rf_s _ | exact rf_n | exact rf_q _) ?_
          refine wf_get (k := 14) (l := 11) 10 dJ26_balanceDeletion_149 (by assumption) rfl q1619 (Or.inl rfl) (Nat.le_of_ble_eq_true rfl) (Nat.le_of_ble_eq_true rfl) (by (repeat (first | exact updF_self _ _ _ _ | (apply updF_i; · decide) | (apply updF_a; · first | assumption | (apply Ne.symm; assumption) | omega) | (apply newF_a; · first | assumption | (apply Ne.symm; assumption) | omega) | exact newL_self (by rfl) | exact newF_self (by rfl) | (apply cpyF_a; · first | assumption | (apply Ne.symm; assumption) | omega))) <;> first | assumption | rfl) ?_
          refine wa_if_ne (pc := 152) 166 dJ26_balanceDeletion_152 rfl (fun hb152 => ?_) (fun hb152 => ?_)
          · first | exact bd_L166 hd c3 t tl hx fr h1 h2 hb107 rfl hb131 (Or.inl ⟨_, rfl, bI_n0 hb139⟩) hT | exact bd_L166 hd c3 t tl hx fr h1 h2 hb107 hb144 hb131 (Or.inr ⟨_, rfl, bI_n0 hb152⟩) hT
          · refine wa_aloadV (pc := 155) (y := mJ26_balanceDeletion) dJ26_balanceDeletion_155 rfl (by first | exact rf_s _ | exact rf_n | exact rf_q _) ?_
            refine wa_iconst (pc := 157) (y := mJ26_balanceDeletion) (Int32.ofNat 1) dJ26_balanceDeletion_157 rfl ?_
            refine wf_put (k := 14) (l := 11) 10 .boolean dJ26_balanceDeletion_158 (by assumption) rfl q1619 (Or.inl rfl) (Nat.le_of_ble_eq_true rfl) rfl (by decide +kernel) (by first | rfl | exact bI_nar _) (by first | rfl | exact bI_fit _) ?_
            refine wa_aloadV_n (pc := 161) (y := mJ26_balanceDeletion) dJ26_balanceDeletion_161 rfl (by first | exact rf_s _ | exact rf_n | exact rf_q _) ?_
            refine wa_astoreV_n (pc := 162) (y := mJ26_balanceDeletion) dJ26_balanceDeletion_162 (Nat.le_of_ble_eq_true rfl) (by first | rfl | (simp [okst, rf_cat] <;> assumption)) (by first | exact rf_s _ | exact rf_n | exact rf_q _) ?_
            change WA _ _ _ _ (List.set _ 1 _) _ _ _
            simp only [List.set_cons_zero, List.set_cons_succ]
            refine wa_goto (pc := 163) (y := mJ26_balanceDeletion) 278 dJ26_balanceDeletion_163 rfl ?_
            refine wa_goto (pc := 278) (y := mJ26_balanceDeletion) 0 dJ26_balanceDeletion_278 rfl ?_
            first | exact K c3 rfl (rf_cat _) (rf_cat _) (tl.red (b := true) _) (fr.upd hr.1 (by decide)) (by simp [upo, nxr]) | exact K c3 rfl c5 c6 tl fr rfl
  · rw [hb107]
    refine wa_aloadV_n (pc := 110) (y := mJ26_balanceDeletion) dJ26_balanceDeletion_110 rfl (by first | exact rf_s _ | exact rf_n | exact rf_q _) ?_
    refine wa_astoreV_n (pc := 111) (y := mJ26_balanceDeletion) dJ26_balanceDeletion_111 (Nat.le_of_ble_eq_true rfl) (by first | rfl | (simp [okst, rf_cat] <;> assumption)) (by first | exact rf_s _ | exact rf_n | exact rf_q _) ?_
    change WA _ _ _ _ (List.set _ 1 _) _ _ _
    simp only [List.set_cons_zero, List.set_cons_succ]
    refine wa_goto (pc := 112) (y := mJ26_balanceDeletion) 0 dJ26_balanceDeletion_112 rfl ?_
    first | exact K c3 rfl (rf_cat _) (rf_cat _) (tl.red (b := true) _) (fr.upd hr.1 (by decide)) (by simp [upo, nxr]) | exact K c3 rfl c5 c6 tl fr rfl
theorem bd_R383 {x xp xpl : Nat} {sl sr : Option Nat} {F0 : Nat → Nat → Value} {v4 : Value} (hd : 1 ≤ d) (c4 : v4.category = 1) (t : T0 S key root L R P lo hi rk top M) (tl : TL h F S L R P C) (hx : S x) (fr : TFr S F0 F) (h1 : P x = some xp) (h2 : R xp = some x) (h3 : L xp = some xpl) (h4 : L xpl = sl) (h5 : R xpl = sr) (hc : (∃ z, sl = some z ∧ C z = true) ∨ ∃ z, sr = some z ∧ C z = true) (hT : ∀ z, T z → S z ∧ L z = none ∧ R z = none ∧ key xp < key z) :
    WA G d mJ26_balanceDeletion 383 [.ref root, .ref x, .ref xp, .ref xpl, v4, va_rf sl, va_rf sr] [] (sF h F) (BQT T h F0 S key top) := by
  have hxp := (t.2 x hx).2.2.2.2 _ h1
  have txp := t.2 xp hxp.1
  have hr := txp.2.2.1 _ h3
  have tr := t.2 _ hr.1
  have nxr : xp ≠ xpl := by intro e; subst e; grind
  have nxx : x ≠ xpl := by intro e; subst e; grind
  obtain ⟨r1, r2, r3, r4, r5⟩ := tl _ hr.1
  have keyV : ∀ {v5 : Value}, v5.category = 1 → (∃ z, sr = some z ∧ C z = true) → WA G d mJ26_balanceDeletion 396 [.ref root, .ref x, .ref xp, .ref xpl, v4, v5, va_rf sr] [] (sF h F) (BQT T h F0 S key top) := by
    rintro v5 c5 ⟨z, rfl, hz⟩
    have hs := tr.2.2.2.1 _ h5
    have ts := t.2 _ hs.1
    obtain ⟨s1, s2, s3, s4, s5⟩ := tl _ hs.1
    have nz : z ≠ xpl := by intro e; subst e; grind
    have nz2 : z ≠ xp := by intro e; subst e; grind
    have nz3 : z ≠ x := by intro e; subst e; grind
    refine wa_aloadV (pc := 396) (y := mJ26_balanceDeletion) dJ26_balanceDeletion_396 rfl (by first | exact rf_s _ | exact rf_n | exact rf_q _) ?_
    refine wa_ifnull (pc := 398) (y := mJ26_balanceDeletion) dJ26_balanceDeletion_398 ?_
    refine wa_aloadV (pc := 401) (y := mJ26_balanceDeletion) dJ26_balanceDeletion_401 rfl (by first | exact rf_s _ | exact rf_n | exact rf_q _) ?_
    refine wa_iconst (pc := 403) (y := mJ26_balanceDeletion) (Int32.ofNat 0) dJ26_balanceDeletion_403 rfl ?_
    refine wf_put (k := 14) (l := 11) 10 .boolean dJ26_balanceDeletion_404 (by assumption) rfl q1619 (Or.inl rfl) (Nat.le_of_ble_eq_true rfl) rfl (by decide +kernel) (by first | rfl | exact bI_nar _) (by first | rfl | exact bI_fit _) ?_
    refine wa_aloadV_n (pc := 407) (y := mJ26_balanceDeletion) dJ26_balanceDeletion_407 rfl (by first | exact rf_s _ | exact rf_n | exact rf_q _) ?_
    refine wa_iconst (pc := 408) (y := mJ26_balanceDeletion) (Int32.ofNat 1) dJ26_balanceDeletion_408 rfl ?_
    refine wf_put (k := 14) (l := 11) 10 .boolean dJ26_balanceDeletion_409 (by assumption) rfl q1619 (Or.inl rfl) (Nat.le_of_ble_eq_true rfl) rfl (by decide +kernel) (by first | rfl | exact bI_nar _) (by first | rfl | exact bI_fit _) ?_
    refine wa_aloadV_n (pc := 412) (y := mJ26_balanceDeletion) dJ26_balanceDeletion_412 rfl (by first | exact rf_s _ | exact rf_n | exact rf_q _) ?_
    refine wa_aloadV_n (pc := 413) (y := mJ26_balanceDeletion) dJ26_balanceDeletion_413 rfl (by first | exact rf_s _ | exact rf_n | exact rf_q _) ?_
    refine wa_callS (pc := 414) (s_rotL (d := d - 1) t ((tl.red (b := false) z).red (b := true) xpl) hr.1 h5) dJ26_balanceDeletion_414 okJ26_rotateLeft q1364 q1365 rfl rfl (Nat.le_of_ble_eq_true rfl) (Nat.le_of_ble_eq_true rfl) (by omega) ?_
    rintro _ _ - - ⟨root2, F2, L2, R2, P2, C2, lo2, hi2, rk2, M2, rfl, rfl, f2, t2, tl3, g1, g2, g3, g4, g5⟩
    refine aft_v (pc2 := 417) ?_ rfl
    have e1 : P2 x = some xp := by rw [g3]; grind [upo, upq]
    have e3 : L2 xp = some z := by rw [g1]; grind [upo, chd]
    obtain ⟨y1, y2, y3, y4, y5⟩ := tl3 _ hxp.1
    obtain ⟨w1, w2, w3, w4, w5⟩ := tl3 _ hx
    rw [e1] at w2
    rw [e3] at y3
    refine wa_astoreV_n (pc := 417) (y := mJ26_balanceDeletion) dJ26_balanceDeletion_417 (Nat.le_of_ble_eq_true rfl) (by first | rfl | (simp [okst, rf_cat] <;> assumption)) (by first | exact rf_s _ | exact rf_n | exact rf_q _) ?_
    change WA _ _ _ _ (List.set _ 0 _) _ _ _
    simp only [List.set_cons_zero, List.set_cons_succ]
    refine wa_aloadV_n (pc := 418) (y := mJ26_balanceDeletion) dJ26_balanceDeletion_418 rfl (by first | exact rf_s _ | exact rf_n | exact rf_q _) ?_
    refine wf_get (k := 14) (l := 11) 6 dJ26_balanceDeletion_419 (by assumption) rfl q1614 (Or.inl rfl) (Nat.le_of_ble_eq_true rfl) (Nat.le_of_ble_eq_true rfl) (by (repeat (first | exact updF_self _ _ _ _ | (apply updF_i; · decide) | (apply updF_a; · first | assumption | (apply Ne.symm; assumption) | omega) | (apply newF_a; · first | assumption | (apply Ne.symm; assumption) | omega) | exact newL_self (by rfl) | exact newF_self (by rfl) | (apply cpyF_a; · first | assumption | (apply Ne.symm; assumption) | omega))) <;> first | assumption | rfl) ?_
    refine wa_dup (pc := 422) (y := mJ26_balanceDeletion) dJ26_balanceDeletion_422 (by first | rfl | exact rf_cat _) ?_
    refine wa_astoreV_n (pc := 423) (y := mJ26_balanceDeletion) dJ26_balanceDeletion_423 (Nat.le_of_ble_eq_true rfl) (by first | rfl | (simp [okst, rf_cat] <;> assumption)) (by first | exact rf_s _ | exact rf_n | exact rf_q _) ?_
    change WA _ _ _ _ (List.set _ 2 _) _ _ _
    simp only [List.set_cons_zero, List.set_cons_succ]
    refine wa_ifnonnull (pc := 424) (y := mJ26_balanceDeletion) 431 dJ26_balanceDeletion_424 rfl ?_
    refine wa_aloadV_n (pc := 431) (y := mJ26_balanceDeletion) dJ26_balanceDeletion_431 rfl (by first | exact rf_s _ | exact rf_n | exact rf_q _) ?_
    refine wf_get (k := 14) (l := 11) 7 dJ26_balanceDeletion_432 (by assumption) rfl q1615 (Or.inl rfl) (Nat.le_of_ble_eq_true rfl) (Nat.le_of_ble_eq_true rfl) (by (repeat (first | exact updF_self _ _ _ _ | (apply updF_i; · decide) | (apply updF_a; · first | assumption | (apply Ne.symm; assumption) | omega) | (apply newF_a; · first | assumption | (apply Ne.symm; assumption) | omega) | exact newL_self (by rfl) | exact newF_self (by rfl) | (apply cpyF_a; · first | assumption | (apply Ne.symm; assumption) | omega))) <;> first | assumption | rfl) ?_
    refine wa_astoreV_n (pc := 435) (y := mJ26_balanceDeletion) dJ26_balanceDeletion_435 (Nat.le_of_ble_eq_true rfl) (by first | rfl | (simp [okst, rf_cat] <;> assumption)) (by first | exact rf_s _ | exact rf_n | exact rf_q _) ?_
    change WA _ _ _ _ (List.set _ 3 _) _ _ _
    simp only [List.set_cons_zero, List.set_cons_succ]
    exact bd_R436 c4 hd t2 tl3 hx (((fr.upd hs.1 (by decide)).upd hr.1 (by decide)).trans f2) e1 e3 (fun w hw => by obtain ⟨w1, w2, w3, w4⟩ := hT w hw; refine ⟨w1, ?_, ?_, w4⟩; (rw [g1]; grind [upo, chd]); (rw [g2]; grind [upo, chd]))
  refine wa_aloadV (pc := 383) (y := mJ26_balanceDeletion) dJ26_balanceDeletion_383 rfl (by first | exact rf_s _ | exact rf_n | exact rf_q _) ?_
  refine wa_ifnullV (pc := 385) 396 dJ26_balanceDeletion_385 rfl (by first | exact rf_s _ | exact rf_n | exact rf_q _) (fun hb385 => ?_) (fun a385 hb385 => ?_)
  · first | exact keyV (rf_cat _) (hc.elim (fun ⟨z, h8, h9⟩ => by rw [hb385] at h8; cases h8) id) | exact keyV rfl (hc.elim (fun ⟨z, h8, h9⟩ => by cases h8; rw [h9] at hb393; exact absurd hb393 (by decide)) id)
  · have hs := tr.2.2.1 _ (h4.trans hb385)
    obtain ⟨s1, s2, s3, s4, s5⟩ := tl _ hs.1
    subst hb385
    refine wa_aloadV (pc := 388) (y := mJ26_balanceDeletion) dJ26_balanceDeletion_388 rfl (by first | exact rf_s _ | exact rf_n | exact rf_q _) ?_
    refine wf_get (k := 14) (l := 11) 10 dJ26_balanceDeletion_390 (by assumption) rfl q1619 (Or.inl rfl) (Nat.le_of_ble_eq_true rfl) (Nat.le_of_ble_eq_true rfl) (by (repeat (first | exact updF_self _ _ _ _ | (apply updF_i; · decide) | (apply updF_a; · first | assumption | (apply Ne.symm; assumption) | omega) | (apply newF_a; · first | assumption | (apply Ne.symm; assumption) | omega) | exact newL_self (by rfl) | exact newF_self (by rfl) | (apply cpyF_a; · first | assumption | (apply Ne.symm; assumption) | omega))) <;> first | assumption | rfl) ?_
    refine wa_if_ne (pc := 393) 436 dJ26_balanceDeletion_393 rfl (fun hb393 => ?_) (fun hb393 => ?_)
    · exact bd_R436 c4 hd t tl hx fr h1 h3 hT
    · first | exact keyV (rf_cat _) (hc.elim (fun ⟨z, h8, h9⟩ => by rw [hb385] at h8; cases h8) id) | exact keyV rfl (hc.elim (fun ⟨z, h8, h9⟩ => by cases h8; rw [h9] at hb393; exact absurd hb393 (by decide)) id)
theorem bd_R326 {x xp : Nat} {F0 : Nat → Nat → Value} {v4 v5 v6 : Value} (hd : 1 ≤ d) (c4 : v4.category = 1) (c5 : v5.category = 1) (t : T0 S key root L R P lo hi rk top M) (tl : TL h F S L R P C) (hx : S x) (fr : TFr S F0 F) (h1 : P x = some xp) (h2 : R xp = some x)
    (K : ∀ {F3 : Nat → Nat → Value} {C3 : Nat → Bool} {v3 v4 v5 v6 : Value}, v3.category = 1 → v4.category = 1 → v5.category = 1 → v6.category = 1 → TL h F3 S L R P C3 → TFr S F0 F3 → C3 xp = C xp → WA G d mJ26_balanceDeletion 0 [.ref root, .ref xp, .ref xp, v3, v4, v5, v6] [] (sF h F3) (BQT T h F0 S key top)) (c6 : v6.category = 1) (hT : ∀ z, T z → S z ∧ L z = none ∧ R z = none ∧ key xp < key z) :
    WA G d mJ26_balanceDeletion 326 [.ref root, .ref x, .ref xp, va_rf (L xp), v4, v5, v6] [] (sF h F) (BQT T h F0 S key top) := by
  have hxp := (t.2 x hx).2.2.2.2 _ h1
  have txp := t.2 xp hxp.1
  obtain ⟨p1, p2, p3, p4, p5⟩ := tl _ hxp.1
  refine wa_aloadV_n (pc := 326) (y := mJ26_balanceDeletion) dJ26_balanceDeletion_326 rfl (by first | exact rf_s _ | exact rf_n | exact rf_q _) ?_
  refine wa_ifnonnullV (pc := 327) 335 dJ26_balanceDeletion_327 rfl (by first | exact rf_s _ | exact rf_n | exact rf_q _) (fun a327 hb327 => ?_) (fun hb327 => ?_)
  · have hr := txp.2.2.1 _ hb327
    have tr := t.2 _ hr.1
    have nxr : xp ≠ a327 := by intro e; subst e; grind
    have nxr2 : x ≠ a327 := by intro e; subst e; grind
    obtain ⟨r1, r2, r3, r4, r5⟩ := tl _ hr.1
    rw [hb327]
    refine wa_aloadV_n (pc := 335) (y := mJ26_balanceDeletion) dJ26_balanceDeletion_335 rfl (by first | exact rf_s _ | exact rf_n | exact rf_q _) ?_
    refine wf_get (k := 14) (l := 11) 7 dJ26_balanceDeletion_336 (by assumption) rfl q1615 (Or.inl rfl) (Nat.le_of_ble_eq_true rfl) (Nat.le_of_ble_eq_true rfl) (by (repeat (first | exact updF_self _ _ _ _ | (apply updF_i; · decide) | (apply updF_a; · first | assumption | (apply Ne.symm; assumption) | omega) | (apply newF_a; · first | assumption | (apply Ne.symm; assumption) | omega) | exact newL_self (by rfl) | exact newF_self (by rfl) | (apply cpyF_a; · first | assumption | (apply Ne.symm; assumption) | omega))) <;> first | assumption | rfl) ?_
    refine wa_astoreV (pc := 339) (y := mJ26_balanceDeletion) dJ26_balanceDeletion_339 (Nat.le_of_ble_eq_true rfl) (by first | rfl | (simp [okst, rf_cat] <;> assumption)) (by first | exact rf_s _ | exact rf_n | exact rf_q _) ?_
    simp only [List.set_cons_zero, List.set_cons_succ]
    refine wa_aloadV_n (pc := 341) (y := mJ26_balanceDeletion) dJ26_balanceDeletion_341 rfl (by first | exact rf_s _ | exact rf_n | exact rf_q _) ?_
    refine wf_get (k := 14) (l := 11) 8 dJ26_balanceDeletion_342 (by assumption) rfl q1616 (Or.inl rfl) (Nat.le_of_ble_eq_true rfl) (Nat.le_of_ble_eq_true rfl) (by (repeat (first | exact updF_self _ _ _ _ | (apply updF_i; · decide) | (apply updF_a; · first | assumption | (apply Ne.symm; assumption) | omega) | (apply newF_a; · first | assumption | (apply Ne.symm; assumption) | omega) | exact newL_self (by rfl) | exact newF_self (by rfl) | (apply cpyF_a; · first | assumption | (apply Ne.symm; assumption) | omega))) <;> first | assumption | rfl) ?_
    refine wa_astoreV (pc := 345) (y := mJ26_balanceDeletion) dJ26_balanceDeletion_345 (Nat.le_of_ble_eq_true rfl) (by first | rfl | (simp [okst, rf_cat] <;> assumption)) (by first | exact rf_s _ | exact rf_n | exact rf_q _) ?_
    simp only [List.set_cons_zero, List.set_cons_succ]
    refine wa_aloadV (pc := 347) (y := mJ26_balanceDeletion) dJ26_balanceDeletion_347 rfl (by first | exact rf_s _ | exact rf_n | exact rf_q _) ?_
    refine wa_ifnullV (pc := 349) 360 dJ26_balanceDeletion_349 rfl (by first | exact rf_s _ | exact rf_n | exact rf_q _) (fun hb349 => ?_) (fun a349 hb349 => ?_)
    · rw [hb349]
      refine wa_aloadV (pc := 360) (y := mJ26_balanceDeletion) dJ26_balanceDeletion_360 rfl (by first | exact rf_s _ | exact rf_n | exact rf_q _) ?_
      refine wa_ifnullV (pc := 362) 373 dJ26_balanceDeletion_362 rfl (by first | exact rf_s _ | exact rf_n | exact rf_q _) (fun hb362 => ?_) (fun a362 hb362 => ?_)
      · rw [hb362]
        refine wa_aloadV_n (pc := 373) (y := mJ26_balanceDeletion) dJ26_balanceDeletion_373 rfl (by first | exact rf_s _ | exact rf_n | exact rf_q _) ?_
        refine wa_iconst (pc := 374) (y := mJ26_balanceDeletion) (Int32.ofNat 1) dJ26_balanceDeletion_374 rfl ?_
        refine wf_put (k := 14) (l := 11) 10 .boolean dJ26_balanceDeletion_375 (by assumption) rfl q1619 (Or.inl rfl) (Nat.le_of_ble_eq_true rfl) rfl (by decide +kernel) (by first | rfl | exact bI_nar _) (by first | rfl | exact bI_fit _) ?_
        refine wa_aloadV_n (pc := 378) (y := mJ26_balanceDeletion) dJ26_balanceDeletion_378 rfl (by first | exact rf_s _ | exact rf_n | exact rf_q _) ?_
        refine wa_astoreV_n (pc := 379) (y := mJ26_balanceDeletion) dJ26_balanceDeletion_379 (Nat.le_of_ble_eq_true rfl) (by first | rfl | (simp [okst, rf_cat] <;> assumption)) (by first | exact rf_s _ | exact rf_n | exact rf_q _) ?_
        change WA _ _ _ _ (List.set _ 1 _) _ _ _
        simp only [List.set_cons_zero, List.set_cons_succ]
        refine wa_goto (pc := 380) (y := mJ26_balanceDeletion) 489 dJ26_balanceDeletion_380 rfl ?_
        refine wa_goto (pc := 489) (y := mJ26_balanceDeletion) 0 dJ26_balanceDeletion_489 rfl ?_
        first | exact K rfl c4 (rf_cat _) (rf_cat _) (tl.red (b := true) _) (fr.upd hr.1 (by decide)) (by simp [upo, nxr]) | exact K rfl c4 c5 c6 tl fr rfl
      · have hs9 := tr.2.2.2.1 _ hb362
        obtain ⟨w1, w2, w3, w4, w5⟩ := tl _ hs9.1
        rw [hb362]
        refine wa_aloadV (pc := 365) (y := mJ26_balanceDeletion) dJ26_balanceDeletion_365 rfl (by first | exact rf_s _ | exact rf_n | exact rf_q _) ?_
        refine wf_get (k := 14) (l := 11) 10 dJ26_balanceDeletion_367 (by assumption) rfl q1619 (Or.inl rfl) (Nat.le_of_ble_eq_true rfl) (Nat.le_of_ble_eq_true rfl) (by (repeat (first | exact updF_self _ _ _ _ | (apply updF_i; · decide) | (apply updF_a; · first | assumption | (apply Ne.symm; assumption) | omega) | (apply newF_a; · first | assumption | (apply Ne.symm; assumption) | omega) | exact newL_self (by rfl) | exact newF_self (by rfl) | (apply cpyF_a; · first | assumption | (apply Ne.symm; assumption) | omega))) <;> first | assumption | rfl) ?_
        refine wa_if_ne (pc := 370) 383 dJ26_balanceDeletion_370 rfl (fun hb370 => ?_) (fun hb370 => ?_)
        · first | exact bd_R383 hd c4 t tl hx fr h1 h2 hb327 hb349 rfl (Or.inl ⟨_, rfl, bI_n0 hb357⟩) hT | exact bd_R383 hd c4 t tl hx fr h1 h2 hb327 hb349 hb362 (Or.inr ⟨_, rfl, bI_n0 hb370⟩) hT
        · refine wa_aloadV_n (pc := 373) (y := mJ26_balanceDeletion) dJ26_balanceDeletion_373 rfl (by first | exact rf_s _ | exact rf_n | exact rf_q _) ?_
          refine wa_iconst (pc := 374) (y := mJ26_balanceDeletion) (Int32.ofNat 1) dJ26_balanceDeletion_374 rfl ?_
          refine wf_put (k := 14) (l := 11) 10 .boolean dJ26_balanceDeletion_375 (by assumption) rfl q1619 (Or.inl rfl) (Nat.le_of_ble_eq_true rfl) rfl (by decide +kernel) (by first | rfl | exact bI_nar _) (by first | rfl | exact bI_fit _) ?_
          refine wa_aloadV_n (pc := 378) (y := mJ26_balanceDeletion) dJ26_balanceDeletion_378 rfl (by first | exact rf_s _ | exact rf_n | exact rf_q _) ?_
          refine wa_astoreV_n (pc := 379) (y := mJ26_balanceDeletion) dJ26_balanceDeletion_379 (Nat.le_of_ble_eq_true rfl) (by first | rfl | (simp [okst, rf_cat] <;> assumption)) (by first | exact rf_s _ | exact rf_n | exact rf_q _) ?_
          change WA _ _ _ _ (List.set _ 1 _) _ _ _
          simp only [List.set_cons_zero, List.set_cons_succ]
          refine wa_goto (pc := 380) (y := mJ26_balanceDeletion) 489 dJ26_balanceDeletion_380 rfl ?_
          refine wa_goto (pc := 489) (y := mJ26_balanceDeletion) 0 dJ26_balanceDeletion_489 rfl ?_
          first | exact K rfl c4 (rf_cat _) (rf_cat _) (tl.red (b := true) _) (fr.upd hr.1 (by decide)) (by simp [upo, nxr]) | exact K rfl c4 c5 c6 tl fr rfl
    · have hs := tr.2.2.1 _ hb349
      obtain ⟨s1, s2, s3, s4, s5⟩ := tl _ hs.1
      rw [hb349]
      refine wa_aloadV (pc := 352) (y := mJ26_balanceDeletion) dJ26_balanceDeletion_352 rfl (by first | exact rf_s _ | exact rf_n | exact rf_q _) ?_
      refine wf_get (k := 14) (l := 11) 10 dJ26_balanceDeletion_354 (by assumption) rfl q1619 (Or.inl rfl) (Nat.le_of_ble_eq_true rfl) (Nat.le_of_ble_eq_true rfl) (by (repeat (first | exact updF_self _ _ _ _ | (apply updF_i; · decide) | (apply updF_a; · first | assumption | (apply Ne.symm; assumption) | omega) | (apply newF_a; · first | assumption | (apply Ne.symm; assumption) | omega) | exact newL_self (by rfl) | exact newF_self (by rfl) | (apply cpyF_a; · first | assumption | (apply Ne.symm; assumption) | omega))) <;> first | assumption | rfl) ?_
      refine wa_if_ne (pc := 357) 383 dJ26_balanceDeletion_357 rfl (fun hb357 => ?_) (fun hb357 => ?_)
      · first | exact bd_R383 hd c4 t tl hx fr h1 h2 hb327 hb349 rfl (Or.inl ⟨_, rfl, bI_n0 hb357⟩) hT | exact bd_R383 hd c4 t tl hx fr h1 h2 hb327 hb349 hb362 (Or.inr ⟨_, rfl, bI_n0 hb370⟩) hT
      · refine wa_aloadV (pc := 360) (y := mJ26_balanceDeletion) dJ26_balanceDeletion_360 rfl (by first | exact rf_s _ | exact rf_n | exact rf_q _) ?_
        refine wa_ifnullV (pc := 362) 373 dJ26_balanceDeletion_362 rfl (by first | exact rf_s _ | exact rf_n | exact rf_q _) (fun hb362 => ?_) (fun a362 hb362 => ?_)
        · rw [hb362]
          refine wa_aloadV_n (pc := 373) (y := mJ26_balanceDeletion) dJ26_balanceDeletion_373 rfl (by first | exact rf_s _ | exact rf_n | exact rf_q _) ?_
          refine wa_iconst (pc := 374) (y := mJ26_balanceDeletion) (Int32.ofNat 1) dJ26_balanceDeletion_374 rfl ?_
          refine wf_put (k := 14) (l := 11) 10 .boolean dJ26_balanceDeletion_375 (by assumption) rfl q1619 (Or.inl rfl) (Nat.le_of_ble_eq_true rfl) rfl (by decide +kernel) (by first | rfl | exact bI_nar _) (by first | rfl | exact bI_fit _) ?_
          refine wa_aloadV_n (pc := 378) (y := mJ26_balanceDeletion) dJ26_balanceDeletion_378 rfl (by first | exact rf_s _ | exact rf_n | exact rf_q _) ?_
          refine wa_astoreV_n (pc := 379) (y := mJ26_balanceDeletion) dJ26_balanceDeletion_379 (Nat.le_of_ble_eq_true rfl) (by first | rfl | (simp [okst, rf_cat] <;> assumption)) (by first | exact rf_s _ | exact rf_n | exact rf_q _) ?_
          change WA _ _ _ _ (List.set _ 1 _) _ _ _
          simp only [List.set_cons_zero, List.set_cons_succ]
          refine wa_goto (pc := 380) (y := mJ26_balanceDeletion) 489 dJ26_balanceDeletion_380 rfl ?_
          refine wa_goto (pc := 489) (y := mJ26_balanceDeletion) 0 dJ26_balanceDeletion_489 rfl ?_
          first | exact K rfl c4 (rf_cat _) (rf_cat _) (tl.red (b := true) _) (fr.upd hr.1 (by decide)) (by simp [upo, nxr]) | exact K rfl c4 c5 c6 tl fr rfl
        · have hs9 := tr.2.2.2.1 _ hb362
          obtain ⟨w1, w2, w3, w4, w5⟩ := tl _ hs9.1
          rw [hb362]
          refine wa_aloadV (pc := 365) (y := mJ26_balanceDeletion) dJ26_balanceDeletion_365 rfl (by first | exact rf_s _ | exact rf_n | exact rf_q _) ?_
          refine wf_get (k := 14) (l := 11) 10 dJ26_balanceDeletion_367 (by assumption) rfl q1619 (Or.inl rfl) (Nat.le_of_ble_eq_true rfl) (Nat.le_of_ble_eq_true rfl) (by (repeat (first | exact updF_self _ _ _ _ | (apply updF_i; · decide) | (apply updF_a; · first | assumption | (apply Ne.symm; assumption) | omega) | (apply newF_a; · first | assumption | (apply Ne.symm; assumption) | omega) | exact newL_self (by rfl) | exact newF_self (by rfl) | (apply cpyF_a; · first | assumption | (apply Ne.symm; assumption) | omega))) <;> first | assumption | rfl) ?_
          refine wa_if_ne (pc := 370) 383 dJ26_balanceDeletion_370 rfl (fun hb370 => ?_) (fun hb370 => ?_)
          · first | exact bd_R383 hd c4 t tl hx fr h1 h2 hb327 hb349 rfl (Or.inl ⟨_, rfl, bI_n0 hb357⟩) hT | exact bd_R383 hd c4 t tl hx fr h1 h2 hb327 hb349 hb362 (Or.inr ⟨_, rfl, bI_n0 hb370⟩) hT
          · refine wa_aloadV_n (pc := 373) (y := mJ26_balanceDeletion) dJ26_balanceDeletion_373 rfl (by first | exact rf_s _ | exact rf_n | exact rf_q _) ?_
            refine wa_iconst (pc := 374) (y := mJ26_balanceDeletion) (Int32.ofNat 1) dJ26_balanceDeletion_374 rfl ?_
            refine wf_put (k := 14) (l := 11) 10 .boolean dJ26_balanceDeletion_375 (by assumption) rfl q1619 (Or.inl rfl) (Nat.le_of_ble_eq_true rfl) rfl (by decide +kernel) (by first | rfl | exact bI_nar _) (by first | rfl | exact bI_fit _) ?_
            refine wa_aloadV_n (pc := 378) (y := mJ26_balanceDeletion) dJ26_balanceDeletion_378 rfl (by first | exact rf_s _ | exact rf_n | exact rf_q _) ?_
            refine wa_astoreV_n (pc := 379) (y := mJ26_balanceDeletion) dJ26_balanceDeletion_379 (Nat.le_of_ble_eq_true rfl) (by first | rfl | (simp [okst, rf_cat] <;> assumption)) (by first | exact rf_s _ | exact rf_n | exact rf_q _) ?_
            change WA _ _ _ _ (List.set _ 1 _) _ _ _
            simp only [List.set_cons_zero, List.set_cons_succ]
            refine wa_goto (pc := 380) (y := mJ26_balanceDeletion) 489 dJ26_balanceDeletion_380 rfl ?_
            refine wa_goto (pc := 489) (y := mJ26_balanceDeletion) 0 dJ26_balanceDeletion_489 rfl ?_
            first | exact K rfl c4 (rf_cat _) (rf_cat _) (tl.red (b := true) _) (fr.upd hr.1 (by decide)) (by simp [upo, nxr]) | exact K rfl c4 c5 c6 tl fr rfl
  · rw [hb327]
    refine wa_aloadV_n (pc := 330) (y := mJ26_balanceDeletion) dJ26_balanceDeletion_330 rfl (by first | exact rf_s _ | exact rf_n | exact rf_q _) ?_
    refine wa_astoreV_n (pc := 331) (y := mJ26_balanceDeletion) dJ26_balanceDeletion_331 (Nat.le_of_ble_eq_true rfl) (by first | rfl | (simp [okst, rf_cat] <;> assumption)) (by first | exact rf_s _ | exact rf_n | exact rf_q _) ?_
    change WA _ _ _ _ (List.set _ 1 _) _ _ _
    simp only [List.set_cons_zero, List.set_cons_succ]
    refine wa_goto (pc := 332) (y := mJ26_balanceDeletion) 0 dJ26_balanceDeletion_332 rfl ?_
    first | exact K rfl c4 (rf_cat _) (rf_cat _) (tl.red (b := true) _) (fr.upd hr.1 (by decide)) (by simp [upo, nxr]) | exact K rfl c4 c5 c6 tl fr rfl
theorem bd_loop (hd : 1 ≤ d) : ∀ (n : Nat) {x root : Nat} {F0 F : Nat → Nat → Value} {L R P : Nat → Option Nat} {C : Nat → Bool} {lo hi rk : Nat → Nat} {M : Nat} {v2 v3 v4 v5 v6 : Value}, v2.category = 1 → v3.category = 1 → v4.category = 1 → v5.category = 1 → v6.category = 1 → T0 S key root L R P lo hi rk top M → TL h F S L R P C → S x → TFr S F0 F → rk x ≤ n → (∀ z, T z → S z ∧ L z = none ∧ R z = none ∧ lo x ≤ key z ∧ key z < hi x) →
    WA G d mJ26_balanceDeletion 0 [.ref root, .ref x, v2, v3, v4, v5, v6] [] (sF h F) (BQT T h F0 S key top) := by
  intro n
  induction n with
  | zero =>
    intro x root F0 F L R P C lo hi rk M v2 v3 v4 v5 v6 c2 c3 c4 c5 c6 t tl hx fr hn hT
    refine bd_exit t tl hx fr (Or.inl ?_) (fun z hz => ⟨(hT z hz).1, (hT z hz).2.1, (hT z hz).2.2.1⟩)
    cases e : P x with
    | none => exact ((t.2 x hx).2.1 e).1
    | some xp =>
      have := (t.2 x hx).2.2.2.2 _ e
      have t2 := t.2 xp this.1
      grind
  | succ n ih =>
    intro x root F0 F L R P C lo hi rk M v2 v3 v4 v5 v6 c2 c3 c4 c5 c6 t tl hx fr hn hT
    have tx := t.2 x hx
    obtain ⟨x1, x2, x3, x4, x5⟩ := tl x hx
    have hT1 : ∀ z, T z → S z ∧ L z = none ∧ R z = none := fun z hz => ⟨(hT z hz).1, (hT z hz).2.1, (hT z hz).2.2.1⟩
    refine wa_aloadV_n (pc := 0) (y := mJ26_balanceDeletion) dJ26_balanceDeletion_0 rfl (by first | exact rf_s _ | exact rf_n | exact rf_q _) ?_
    refine wa_ifnull (pc := 1) (y := mJ26_balanceDeletion) dJ26_balanceDeletion_1 ?_
    refine wa_aloadV_n (pc := 4) (y := mJ26_balanceDeletion) dJ26_balanceDeletion_4 rfl (by first | exact rf_s _ | exact rf_n | exact rf_q _) ?_
    refine wa_aloadV_n (pc := 5) (y := mJ26_balanceDeletion) dJ26_balanceDeletion_5 rfl (by first | exact rf_s _ | exact rf_n | exact rf_q _) ?_
    refine wa_acneV (pc := 6) 11 dJ26_balanceDeletion_6 rfl (by first | exact rf_s _ | exact rf_n | exact rf_q _) (by first | exact rf_s _ | exact rf_n | exact rf_q _) (fun hb6 => ?_) (fun hb6 => ?_)
    · refine wa_aloadV_n (pc := 11) (y := mJ26_balanceDeletion) dJ26_balanceDeletion_11 rfl (by first | exact rf_s _ | exact rf_n | exact rf_q _) ?_
      refine wf_get (k := 14) (l := 11) 6 dJ26_balanceDeletion_12 (by assumption) rfl q1614 (Or.inl rfl) (Nat.le_of_ble_eq_true rfl) (Nat.le_of_ble_eq_true rfl) (by (repeat (first | exact updF_self _ _ _ _ | (apply updF_i; · decide) | (apply updF_a; · first | assumption | (apply Ne.symm; assumption) | omega) | (apply newF_a; · first | assumption | (apply Ne.symm; assumption) | omega) | exact newL_self (by rfl) | exact newF_self (by rfl) | (apply cpyF_a; · first | assumption | (apply Ne.symm; assumption) | omega))) <;> first | assumption | rfl) ?_
      refine wa_dup (pc := 15) (y := mJ26_balanceDeletion) dJ26_balanceDeletion_15 (by first | rfl | exact rf_cat _) ?_
      refine wa_astoreV_n (pc := 16) (y := mJ26_balanceDeletion) dJ26_balanceDeletion_16 (Nat.le_of_ble_eq_true rfl) (by first | rfl | (simp [okst, rf_cat] <;> assumption)) (by first | exact rf_s _ | exact rf_n | exact rf_q _) ?_
      change WA _ _ _ _ (List.set _ 2 _) _ _ _
      simp only [List.set_cons_zero, List.set_cons_succ]
      refine wa_ifnonnullV (pc := 17) 27 dJ26_balanceDeletion_17 rfl (by first | exact rf_s _ | exact rf_n | exact rf_q _) (fun a17 hb17 => ?_) (fun hb17 => ?_)
      · obtain ⟨hp, hrk, nxp, hside⟩ := t.up hx hb17
        have tp := t.2 _ hp
        obtain ⟨p1, p2, p3, p4, p5⟩ := tl _ hp
        rw [hb17]
        refine wa_aloadV_n (pc := 27) (y := mJ26_balanceDeletion) dJ26_balanceDeletion_27 rfl (by first | exact rf_s _ | exact rf_n | exact rf_q _) ?_
        refine wf_get (k := 14) (l := 11) 10 dJ26_balanceDeletion_28 (by assumption) rfl q1619 (Or.inl rfl) (Nat.le_of_ble_eq_true rfl) (Nat.le_of_ble_eq_true rfl) (by (repeat (first | exact updF_self _ _ _ _ | (apply updF_i; · decide) | (apply updF_a; · first | assumption | (apply Ne.symm; assumption) | omega) | (apply newF_a; · first | assumption | (apply Ne.symm; assumption) | omega) | exact newL_self (by rfl) | exact newF_self (by rfl) | (apply cpyF_a; · first | assumption | (apply Ne.symm; assumption) | omega))) <;> first | assumption | rfl) ?_
        refine wa_if_eq (pc := 31) 41 dJ26_balanceDeletion_31 rfl (fun hb31 => ?_) (fun hb31 => ?_)
        · refine wa_aloadV_n (pc := 41) (y := mJ26_balanceDeletion) dJ26_balanceDeletion_41 rfl (by first | exact rf_s _ | exact rf_n | exact rf_q _) ?_
          refine wf_get (k := 14) (l := 11) 7 dJ26_balanceDeletion_42 (by assumption) rfl q1615 (Or.inl rfl) (Nat.le_of_ble_eq_true rfl) (Nat.le_of_ble_eq_true rfl) (by (repeat (first | exact updF_self _ _ _ _ | (apply updF_i; · decide) | (apply updF_a; · first | assumption | (apply Ne.symm; assumption) | omega) | (apply newF_a; · first | assumption | (apply Ne.symm; assumption) | omega) | exact newL_self (by rfl) | exact newF_self (by rfl) | (apply cpyF_a; · first | assumption | (apply Ne.symm; assumption) | omega))) <;> first | assumption | rfl) ?_
          refine wa_dup (pc := 45) (y := mJ26_balanceDeletion) dJ26_balanceDeletion_45 (by first | rfl | exact rf_cat _) ?_
          refine wa_astoreV_n (pc := 46) (y := mJ26_balanceDeletion) dJ26_balanceDeletion_46 (Nat.le_of_ble_eq_true rfl) (by first | rfl | (simp [okst, rf_cat] <;> assumption)) (by first | exact rf_s _ | exact rf_n | exact rf_q _) ?_
          change WA _ _ _ _ (List.set _ 3 _) _ _ _
          simp only [List.set_cons_zero, List.set_cons_succ]
          refine wa_aloadV_n (pc := 47) (y := mJ26_balanceDeletion) dJ26_balanceDeletion_47 rfl (by first | exact rf_s _ | exact rf_n | exact rf_q _) ?_
          refine wa_acneV (pc := 48) 281 dJ26_balanceDeletion_48 rfl (by first | exact rf_s _ | exact rf_n | exact rf_q _) (by first | exact rf_s _ | exact rf_n | exact rf_q _) (fun hb48 => ?_) (fun hb48 => ?_)
          · have hxR : R a17 = some x := hside.elim (fun e => absurd e hb48) id
            have hTx : ∀ z, T z → S z ∧ L z = none ∧ R z = none ∧ key a17 < key z := fun z hz => by have h1 := hT z hz; have h2 := tp.2.2.2.1 x hxR; exact ⟨h1.1, h1.2.1, h1.2.2.1, by omega⟩
            have hTp : ∀ z, T z → S z ∧ L z = none ∧ R z = none ∧ lo a17 ≤ key z ∧ key z < hi a17 := fun z hz => by have h1 := hT z hz; have h2 := tp.2.2.2.1 x hxR; exact ⟨h1.1, h1.2.1, h1.2.2.1, by omega, by omega⟩
            refine wa_aloadV_n (pc := 281) (y := mJ26_balanceDeletion) dJ26_balanceDeletion_281 rfl (by first | exact rf_s _ | exact rf_n | exact rf_q _) ?_
            refine wa_ifnullV (pc := 282) 326 dJ26_balanceDeletion_282 rfl (by first | exact rf_s _ | exact rf_n | exact rf_q _) (fun hb282 => ?_) (fun a282 hb282 => ?_)
            · rw [hb282]
              first | exact bd_R326 hd c4 c5 t2 tl3 hx fr2 e1 e2 (fun c3 c4 c5 c6 tl4 fr4 e4 => bd_exit t2 tl4 hp fr4 (Or.inr (e4.trans e3)) (fun z hz => ⟨(hT2 z hz).1, (hT2 z hz).2.1, (hT2 z hz).2.2.1⟩)) c6 hT2 | (have K9 := bd_R326 hd c4 c5 t tl hx fr hb17 hxR (fun c3 c4 c5 c6 tl4 fr4 e4 => ih rfl c3 c4 c5 c6 t tl4 hp fr4 (by omega) hTp) c6 hTx; rw [hb282] at K9; exact K9)
            · obtain ⟨hz, -, -, nz⟩ := t.lc hp hb282
              have nz2 := t.sib hp hb282 hxR
              have hkz : key a282 < key a17 := by have h8 := tp.2.2.1 _ hb282; have h9 := t.2 _ hz; omega
              obtain ⟨z1, z2, z3, z4, z5⟩ := tl _ hz
              rw [hb282]
              refine wa_aloadV_n (pc := 285) (y := mJ26_balanceDeletion) dJ26_balanceDeletion_285 rfl (by first | exact rf_s _ | exact rf_n | exact rf_q _) ?_
              refine wf_get (k := 14) (l := 11) 10 dJ26_balanceDeletion_286 (by assumption) rfl q1619 (Or.inl rfl) (Nat.le_of_ble_eq_true rfl) (Nat.le_of_ble_eq_true rfl) (by (repeat (first | exact updF_self _ _ _ _ | (apply updF_i; · decide) | (apply updF_a; · first | assumption | (apply Ne.symm; assumption) | omega) | (apply newF_a; · first | assumption | (apply Ne.symm; assumption) | omega) | exact newL_self (by rfl) | exact newF_self (by rfl) | (apply cpyF_a; · first | assumption | (apply Ne.symm; assumption) | omega))) <;> first | assumption | rfl) ?_
              refine wa_if_eq (pc := 289) 326 dJ26_balanceDeletion_289 rfl (fun hb289 => ?_) (fun hb289 => ?_)
              · first | exact bd_R326 hd c4 c5 t2 tl3 hx fr2 e1 e2 (fun c3 c4 c5 c6 tl4 fr4 e4 => bd_exit t2 tl4 hp fr4 (Or.inr (e4.trans e3)) (fun z hz => ⟨(hT2 z hz).1, (hT2 z hz).2.1, (hT2 z hz).2.2.1⟩)) c6 hT2 | (have K9 := bd_R326 hd c4 c5 t tl hx fr hb17 hxR (fun c3 c4 c5 c6 tl4 fr4 e4 => ih rfl c3 c4 c5 c6 t tl4 hp fr4 (by omega) hTp) c6 hTx; rw [hb282] at K9; exact K9)
              · refine wa_aloadV_n (pc := 292) (y := mJ26_balanceDeletion) dJ26_balanceDeletion_292 rfl (by first | exact rf_s _ | exact rf_n | exact rf_q _) ?_
                refine wa_iconst (pc := 293) (y := mJ26_balanceDeletion) (Int32.ofNat 0) dJ26_balanceDeletion_293 rfl ?_
                refine wf_put (k := 14) (l := 11) 10 .boolean dJ26_balanceDeletion_294 (by assumption) rfl q1619 (Or.inl rfl) (Nat.le_of_ble_eq_true rfl) rfl (by decide +kernel) (by first | rfl | exact bI_nar _) (by first | rfl | exact bI_fit _) ?_
                refine wa_aloadV_n (pc := 297) (y := mJ26_balanceDeletion) dJ26_balanceDeletion_297 rfl (by first | exact rf_s _ | exact rf_n | exact rf_q _) ?_
                refine wa_iconst (pc := 298) (y := mJ26_balanceDeletion) (Int32.ofNat 1) dJ26_balanceDeletion_298 rfl ?_
                refine wf_put (k := 14) (l := 11) 10 .boolean dJ26_balanceDeletion_299 (by assumption) rfl q1619 (Or.inl rfl) (Nat.le_of_ble_eq_true rfl) rfl (by decide +kernel) (by first | rfl | exact bI_nar _) (by first | rfl | exact bI_fit _) ?_
                refine wa_aloadV_n (pc := 302) (y := mJ26_balanceDeletion) dJ26_balanceDeletion_302 rfl (by first | exact rf_s _ | exact rf_n | exact rf_q _) ?_
                refine wa_aloadV_n (pc := 303) (y := mJ26_balanceDeletion) dJ26_balanceDeletion_303 rfl (by first | exact rf_s _ | exact rf_n | exact rf_q _) ?_
                refine wa_callS (pc := 304) (s_rotR (d := d - 1) t ((tl.red (b := false) a282).red (b := true) a17) hp hb282) dJ26_balanceDeletion_304 okJ26_rotateRight q1367 q1368 rfl rfl (Nat.le_of_ble_eq_true rfl) (Nat.le_of_ble_eq_true rfl) (by omega) ?_
                rintro _ _ - - ⟨root2, F2, L2, R2, P2, C2, lo2, hi2, rk2, M2, rfl, rfl, f2, t2, tl3, g1, g2, g3, g4, g5⟩
                refine aft_v (pc2 := 307) ?_ rfl
                have e1 : P2 x = some a17 := by clear ih; rw [g3]; grind [upo, upq]
                have e2 : R2 a17 = some x := by clear ih; rw [g2]; grind [upo, chd]
                have e3 : C2 a17 = true := by clear ih; rw [g4]; grind [upo]
                obtain ⟨y1, y2, y3, y4, y5⟩ := tl3 _ hp
                obtain ⟨w1, w2, w3, w4, w5⟩ := tl3 _ hx
                rw [e1] at w2
                have hT2 : ∀ w, T w → S w ∧ L2 w = none ∧ R2 w = none ∧ key a17 < key w := fun w hw => by clear ih hT hTp; obtain ⟨w1, w2, w3, w4⟩ := hTx w hw; refine ⟨w1, ?_, ?_, w4⟩; (rw [g1]; grind [upo, chd]); (rw [g2]; grind [upo, chd])
                have fr2 := ((fr.upd hz (by decide)).upd hp (by decide)).trans f2
                refine wa_astoreV_n (pc := 307) (y := mJ26_balanceDeletion) dJ26_balanceDeletion_307 (Nat.le_of_ble_eq_true rfl) (by first | rfl | (simp [okst, rf_cat] <;> assumption)) (by first | exact rf_s _ | exact rf_n | exact rf_q _) ?_
                change WA _ _ _ _ (List.set _ 0 _) _ _ _
                simp only [List.set_cons_zero, List.set_cons_succ]
                refine wa_aloadV_n (pc := 308) (y := mJ26_balanceDeletion) dJ26_balanceDeletion_308 rfl (by first | exact rf_s _ | exact rf_n | exact rf_q _) ?_
                refine wf_get (k := 14) (l := 11) 6 dJ26_balanceDeletion_309 (by assumption) rfl q1614 (Or.inl rfl) (Nat.le_of_ble_eq_true rfl) (Nat.le_of_ble_eq_true rfl) (by (repeat (first | exact updF_self _ _ _ _ | (apply updF_i; · decide) | (apply updF_a; · first | assumption | (apply Ne.symm; assumption) | omega) | (apply newF_a; · first | assumption | (apply Ne.symm; assumption) | omega) | exact newL_self (by rfl) | exact newF_self (by rfl) | (apply cpyF_a; · first | assumption | (apply Ne.symm; assumption) | omega))) <;> first | assumption | rfl) ?_
                refine wa_dup (pc := 312) (y := mJ26_balanceDeletion) dJ26_balanceDeletion_312 (by first | rfl | exact rf_cat _) ?_
                refine wa_astoreV_n (pc := 313) (y := mJ26_balanceDeletion) dJ26_balanceDeletion_313 (Nat.le_of_ble_eq_true rfl) (by first | rfl | (simp [okst, rf_cat] <;> assumption)) (by first | exact rf_s _ | exact rf_n | exact rf_q _) ?_
                change WA _ _ _ _ (List.set _ 2 _) _ _ _
                simp only [List.set_cons_zero, List.set_cons_succ]
                refine wa_ifnonnull (pc := 314) (y := mJ26_balanceDeletion) 321 dJ26_balanceDeletion_314 rfl ?_
                refine wa_aloadV_n (pc := 321) (y := mJ26_balanceDeletion) dJ26_balanceDeletion_321 rfl (by first | exact rf_s _ | exact rf_n | exact rf_q _) ?_
                refine wf_get (k := 14) (l := 11) 7 dJ26_balanceDeletion_322 (by assumption) rfl q1615 (Or.inl rfl) (Nat.le_of_ble_eq_true rfl) (Nat.le_of_ble_eq_true rfl) (by (repeat (first | exact updF_self _ _ _ _ | (apply updF_i; · decide) | (apply updF_a; · first | assumption | (apply Ne.symm; assumption) | omega) | (apply newF_a; · first | assumption | (apply Ne.symm; assumption) | omega) | exact newL_self (by rfl) | exact newF_self (by rfl) | (apply cpyF_a; · first | assumption | (apply Ne.symm; assumption) | omega))) <;> first | assumption | rfl) ?_
                refine wa_astoreV_n (pc := 325) (y := mJ26_balanceDeletion) dJ26_balanceDeletion_325 (Nat.le_of_ble_eq_true rfl) (by first | rfl | (simp [okst, rf_cat] <;> assumption)) (by first | exact rf_s _ | exact rf_n | exact rf_q _) ?_
                change WA _ _ _ _ (List.set _ 3 _) _ _ _
                simp only [List.set_cons_zero, List.set_cons_succ]
                first | exact bd_R326 hd c4 c5 t2 tl3 hx fr2 e1 e2 (fun c3 c4 c5 c6 tl4 fr4 e4 => bd_exit t2 tl4 hp fr4 (Or.inr (e4.trans e3)) (fun z hz => ⟨(hT2 z hz).1, (hT2 z hz).2.1, (hT2 z hz).2.2.1⟩)) c6 hT2 | (have K9 := bd_R326 hd c4 c5 t tl hx fr hb17 hxR (fun c3 c4 c5 c6 tl4 fr4 e4 => ih rfl c3 c4 c5 c6 t tl4 hp fr4 (by omega) hTp) c6 hTx; rw [hb282] at K9; exact K9)
          · have hTx : ∀ z, T z → S z ∧ L z = none ∧ R z = none ∧ key z < key a17 := fun z hz => by have h1 := hT z hz; have h2 := tp.2.2.1 x hb48; exact ⟨h1.1, h1.2.1, h1.2.2.1, by omega⟩
            have hTp : ∀ z, T z → S z ∧ L z = none ∧ R z = none ∧ lo a17 ≤ key z ∧ key z < hi a17 := fun z hz => by have h1 := hT z hz; have h2 := tp.2.2.1 x hb48; exact ⟨h1.1, h1.2.1, h1.2.2.1, by omega, by omega⟩
            refine wa_aloadV_n (pc := 51) (y := mJ26_balanceDeletion) dJ26_balanceDeletion_51 rfl (by first | exact rf_s _ | exact rf_n | exact rf_q _) ?_
            refine wf_get (k := 14) (l := 11) 8 dJ26_balanceDeletion_52 (by assumption) rfl q1616 (Or.inl rfl) (Nat.le_of_ble_eq_true rfl) (Nat.le_of_ble_eq_true rfl) (by (repeat (first | exact updF_self _ _ _ _ | (apply updF_i; · decide) | (apply updF_a; · first | assumption | (apply Ne.symm; assumption) | omega) | (apply newF_a; · first | assumption | (apply Ne.symm; assumption) | omega) | exact newL_self (by rfl) | exact newF_self (by rfl) | (apply cpyF_a; · first | assumption | (apply Ne.symm; assumption) | omega))) <;> first | assumption | rfl) ?_
            refine wa_dup (pc := 55) (y := mJ26_balanceDeletion) dJ26_balanceDeletion_55 (by first | rfl | exact rf_cat _) ?_
            refine wa_astoreV (pc := 56) (y := mJ26_balanceDeletion) dJ26_balanceDeletion_56 (Nat.le_of_ble_eq_true rfl) (by first | rfl | (simp [okst, rf_cat] <;> assumption)) (by first | exact rf_s _ | exact rf_n | exact rf_q _) ?_
            simp only [List.set_cons_zero, List.set_cons_succ]
            refine wa_ifnullV (pc := 58) 105 dJ26_balanceDeletion_58 rfl (by first | exact rf_s _ | exact rf_n | exact rf_q _) (fun hb58 => ?_) (fun a58 hb58 => ?_)
            · rw [hb58]
              first | exact bd_L105 hd (rf_cat _) c5 t2 tl3 hx fr2 e1 e2 (fun c3 c4 c5 c6 tl4 fr4 e4 => bd_exit t2 tl4 hp fr4 (Or.inr (e4.trans e3)) (fun z hz => ⟨(hT2 z hz).1, (hT2 z hz).2.1, (hT2 z hz).2.2.1⟩)) c6 hT2 | (have K9 := bd_L105 (v3 := va_rf (L a17)) hd (rf_cat _) c5 t tl hx fr hb17 hb48 (fun c3 c4 c5 c6 tl4 fr4 e4 => ih rfl c3 c4 c5 c6 t tl4 hp fr4 (by omega) hTp) c6 hTx; rw [hb58] at K9; exact K9)
            · obtain ⟨hz, -, -, nz⟩ := t.rc hp hb58
              have nz2 := t.sib hp hb48 hb58
              have hkz : key a17 < key a58 := by have h8 := tp.2.2.2.1 _ hb58; have h9 := t.2 _ hz; omega
              obtain ⟨z1, z2, z3, z4, z5⟩ := tl _ hz
              rw [hb58]
              refine wa_aloadV (pc := 61) (y := mJ26_balanceDeletion) dJ26_balanceDeletion_61 rfl (by first | exact rf_s _ | exact rf_n | exact rf_q _) ?_
              refine wf_get (k := 14) (l := 11) 10 dJ26_balanceDeletion_63 (by assumption) rfl q1619 (Or.inl rfl) (Nat.le_of_ble_eq_true rfl) (Nat.le_of_ble_eq_true rfl) (by (repeat (first | exact updF_self _ _ _ _ | (apply updF_i; · decide) | (apply updF_a; · first | assumption | (apply Ne.symm; assumption) | omega) | (apply newF_a; · first | assumption | (apply Ne.symm; assumption) | omega) | exact newL_self (by rfl) | exact newF_self (by rfl) | (apply cpyF_a; · first | assumption | (apply Ne.symm; assumption) | omega))) <;> first | assumption | rfl) ?_
              refine wa_if_eq (pc := 66) 105 dJ26_balanceDeletion_66 rfl (fun hb66 => ?_) (fun hb66 => ?_)
              · first | exact bd_L105 hd (rf_cat _) c5 t2 tl3 hx fr2 e1 e2 (fun c3 c4 c5 c6 tl4 fr4 e4 => bd_exit t2 tl4 hp fr4 (Or.inr (e4.trans e3)) (fun z hz => ⟨(hT2 z hz).1, (hT2 z hz).2.1, (hT2 z hz).2.2.1⟩)) c6 hT2 | (have K9 := bd_L105 (v3 := va_rf (L a17)) hd (rf_cat _) c5 t tl hx fr hb17 hb48 (fun c3 c4 c5 c6 tl4 fr4 e4 => ih rfl c3 c4 c5 c6 t tl4 hp fr4 (by omega) hTp) c6 hTx; rw [hb58] at K9; exact K9)
              · refine wa_aloadV (pc := 69) (y := mJ26_balanceDeletion) dJ26_balanceDeletion_69 rfl (by first | exact rf_s _ | exact rf_n | exact rf_q _) ?_
                refine wa_iconst (pc := 71) (y := mJ26_balanceDeletion) (Int32.ofNat 0) dJ26_balanceDeletion_71 rfl ?_
                refine wf_put (k := 14) (l := 11) 10 .boolean dJ26_balanceDeletion_72 (by assumption) rfl q1619 (Or.inl rfl) (Nat.le_of_ble_eq_true rfl) rfl (by decide +kernel) (by first | rfl | exact bI_nar _) (by first | rfl | exact bI_fit _) ?_
                refine wa_aloadV_n (pc := 75) (y := mJ26_balanceDeletion) dJ26_balanceDeletion_75 rfl (by first | exact rf_s _ | exact rf_n | exact rf_q _) ?_
                refine wa_iconst (pc := 76) (y := mJ26_balanceDeletion) (Int32.ofNat 1) dJ26_balanceDeletion_76 rfl ?_
                refine wf_put (k := 14) (l := 11) 10 .boolean dJ26_balanceDeletion_77 (by assumption) rfl q1619 (Or.inl rfl) (Nat.le_of_ble_eq_true rfl) rfl (by decide +kernel) (by first | rfl | exact bI_nar _) (by first | rfl | exact bI_fit _) ?_
                refine wa_aloadV_n (pc := 80) (y := mJ26_balanceDeletion) dJ26_balanceDeletion_80 rfl (by first | exact rf_s _ | exact rf_n | exact rf_q _) ?_
                refine wa_aloadV_n (pc := 81) (y := mJ26_balanceDeletion) dJ26_balanceDeletion_81 rfl (by first | exact rf_s _ | exact rf_n | exact rf_q _) ?_
                refine wa_callS (pc := 82) (s_rotL (d := d - 1) t ((tl.red (b := false) a58).red (b := true) a17) hp hb58) dJ26_balanceDeletion_82 okJ26_rotateLeft q1364 q1365 rfl rfl (Nat.le_of_ble_eq_true rfl) (Nat.le_of_ble_eq_true rfl) (by omega) ?_
                rintro _ _ - - ⟨root2, F2, L2, R2, P2, C2, lo2, hi2, rk2, M2, rfl, rfl, f2, t2, tl3, g1, g2, g3, g4, g5⟩
                refine aft_v (pc2 := 85) ?_ rfl
                have e1 : P2 x = some a17 := by clear ih; rw [g3]; grind [upo, upq]
                have e2 : L2 a17 = some x := by clear ih; rw [g1]; grind [upo, chd]
                have e3 : C2 a17 = true := by clear ih; rw [g4]; grind [upo]
                obtain ⟨y1, y2, y3, y4, y5⟩ := tl3 _ hp
                obtain ⟨w1, w2, w3, w4, w5⟩ := tl3 _ hx
                rw [e1] at w2
                have hT2 : ∀ w, T w → S w ∧ L2 w = none ∧ R2 w = none ∧ key w < key a17 := fun w hw => by clear ih hT hTp; obtain ⟨w1, w2, w3, w4⟩ := hTx w hw; refine ⟨w1, ?_, ?_, w4⟩; (rw [g1]; grind [upo, chd]); (rw [g2]; grind [upo, chd])
                have fr2 := ((fr.upd hz (by decide)).upd hp (by decide)).trans f2
                refine wa_astoreV_n (pc := 85) (y := mJ26_balanceDeletion) dJ26_balanceDeletion_85 (Nat.le_of_ble_eq_true rfl) (by first | rfl | (simp [okst, rf_cat] <;> assumption)) (by first | exact rf_s _ | exact rf_n | exact rf_q _) ?_
                change WA _ _ _ _ (List.set _ 0 _) _ _ _
                simp only [List.set_cons_zero, List.set_cons_succ]
                refine wa_aloadV_n (pc := 86) (y := mJ26_balanceDeletion) dJ26_balanceDeletion_86 rfl (by first | exact rf_s _ | exact rf_n | exact rf_q _) ?_
                refine wf_get (k := 14) (l := 11) 6 dJ26_balanceDeletion_87 (by assumption) rfl q1614 (Or.inl rfl) (Nat.le_of_ble_eq_true rfl) (Nat.le_of_ble_eq_true rfl) (by (repeat (first | exact updF_self _ _ _ _ | (apply updF_i; · decide) | (apply updF_a; · first | assumption | (apply Ne.symm; assumption) | omega) | (apply newF_a; · first | assumption | (apply Ne.symm; assumption) | omega) | exact newL_self (by rfl) | exact newF_self (by rfl) | (apply cpyF_a; · first | assumption | (apply Ne.symm; assumption) | omega))) <;> first | assumption | rfl) ?_
                refine wa_dup (pc := 90) (y := mJ26_balanceDeletion) dJ26_balanceDeletion_90 (by first | rfl | exact rf_cat _) ?_
                refine wa_astoreV_n (pc := 91) (y := mJ26_balanceDeletion) dJ26_balanceDeletion_91 (Nat.le_of_ble_eq_true rfl) (by first | rfl | (simp [okst, rf_cat] <;> assumption)) (by first | exact rf_s _ | exact rf_n | exact rf_q _) ?_
                change WA _ _ _ _ (List.set _ 2 _) _ _ _
                simp only [List.set_cons_zero, List.set_cons_succ]
                refine wa_ifnonnull (pc := 92) (y := mJ26_balanceDeletion) 99 dJ26_balanceDeletion_92 rfl ?_
                refine wa_aloadV_n (pc := 99) (y := mJ26_balanceDeletion) dJ26_balanceDeletion_99 rfl (by first | exact rf_s _ | exact rf_n | exact rf_q _) ?_
                refine wf_get (k := 14) (l := 11) 8 dJ26_balanceDeletion_100 (by assumption) rfl q1616 (Or.inl rfl) (Nat.le_of_ble_eq_true rfl) (Nat.le_of_ble_eq_true rfl) (by (repeat (first | exact updF_self _ _ _ _ | (apply updF_i; · decide) | (apply updF_a; · first | assumption | (apply Ne.symm; assumption) | omega) | (apply newF_a; · first | assumption | (apply Ne.symm; assumption) | omega) | exact newL_self (by rfl) | exact newF_self (by rfl) | (apply cpyF_a; · first | assumption | (apply Ne.symm; assumption) | omega))) <;> first | assumption | rfl) ?_
                refine wa_astoreV (pc := 103) (y := mJ26_balanceDeletion) dJ26_balanceDeletion_103 (Nat.le_of_ble_eq_true rfl) (by first | rfl | (simp [okst, rf_cat] <;> assumption)) (by first | exact rf_s _ | exact rf_n | exact rf_q _) ?_
                simp only [List.set_cons_zero, List.set_cons_succ]
                first | exact bd_L105 hd (rf_cat _) c5 t2 tl3 hx fr2 e1 e2 (fun c3 c4 c5 c6 tl4 fr4 e4 => bd_exit t2 tl4 hp fr4 (Or.inr (e4.trans e3)) (fun z hz => ⟨(hT2 z hz).1, (hT2 z hz).2.1, (hT2 z hz).2.2.1⟩)) c6 hT2 | (have K9 := bd_L105 (v3 := va_rf (L a17)) hd (rf_cat _) c5 t tl hx fr hb17 hb48 (fun c3 c4 c5 c6 tl4 fr4 e4 => ih rfl c3 c4 c5 c6 t tl4 hp fr4 (by omega) hTp) c6 hTx; rw [hb58] at K9; exact K9)
        · refine wa_aloadV_n (pc := 34) (y := mJ26_balanceDeletion) dJ26_balanceDeletion_34 rfl (by first | exact rf_s _ | exact rf_n | exact rf_q _) ?_
          refine wa_iconst (pc := 35) (y := mJ26_balanceDeletion) (Int32.ofNat 0) dJ26_balanceDeletion_35 rfl ?_
          refine wf_put (k := 14) (l := 11) 10 .boolean dJ26_balanceDeletion_36 (by assumption) rfl q1619 (Or.inl rfl) (Nat.le_of_ble_eq_true rfl) rfl (by decide +kernel) (by first | rfl | exact bI_nar _) (by first | rfl | exact bI_fit _) ?_
          refine wa_aloadV_n (pc := 39) (y := mJ26_balanceDeletion) dJ26_balanceDeletion_39 rfl (by first | exact rf_s _ | exact rf_n | exact rf_q _) ?_
          refine wa_areturnV (pc := 40) (y := mJ26_balanceDeletion) (.object "java/util/HashMap$TreeNode") dJ26_balanceDeletion_40 rfl (Or.inl ⟨_, rfl⟩) (by first | exact rf_s _ | exact rf_n | exact rf_q _) ⟨_, _, rfl, rfl, fr.upd hx (by decide), ⟨_, _, _, _, _, _, _, _, t, tl.red (b := false) x⟩, (tl.red (b := false) x).lf hT1⟩
      · have hxr := (tx.2.1 hb17).1
        rw [hb17]
        refine wa_aloadV_n (pc := 20) (y := mJ26_balanceDeletion) dJ26_balanceDeletion_20 rfl (by first | exact rf_s _ | exact rf_n | exact rf_q _) ?_
        refine wa_iconst (pc := 21) (y := mJ26_balanceDeletion) (Int32.ofNat 0) dJ26_balanceDeletion_21 rfl ?_
        refine wf_put (k := 14) (l := 11) 10 .boolean dJ26_balanceDeletion_22 (by assumption) rfl q1619 (Or.inl rfl) (Nat.le_of_ble_eq_true rfl) rfl (by decide +kernel) (by first | rfl | exact bI_nar _) (by first | rfl | exact bI_fit _) ?_
        refine wa_aloadV_n (pc := 25) (y := mJ26_balanceDeletion) dJ26_balanceDeletion_25 rfl (by first | exact rf_s _ | exact rf_n | exact rf_q _) ?_
        refine wa_areturnV (pc := 26) (y := mJ26_balanceDeletion) (.object "java/util/HashMap$TreeNode") dJ26_balanceDeletion_26 rfl (Or.inl ⟨_, rfl⟩) (by first | exact rf_s _ | exact rf_n | exact rf_q _) ⟨_, _, by rw [hxr], rfl, fr.upd hx (by decide), ⟨_, _, _, _, _, _, _, _, t, tl.red (b := false) x⟩, (tl.red (b := false) x).lf hT1⟩
    · refine wa_aloadV_n (pc := 9) (y := mJ26_balanceDeletion) dJ26_balanceDeletion_9 rfl (by first | exact rf_s _ | exact rf_n | exact rf_q _) ?_
      refine wa_areturnV (pc := 10) (y := mJ26_balanceDeletion) (.object "java/util/HashMap$TreeNode") dJ26_balanceDeletion_10 rfl (Or.inl ⟨_, rfl⟩) (by first | exact rf_s _ | exact rf_n | exact rf_q _) ⟨_, _, rfl, rfl, fr, ⟨_, _, _, _, _, _, _, _, t, tl⟩, tl.lf hT1⟩
theorem s_J26_balanceDeletion {x : Nat} (hd : 1 ≤ d) (t : T0 S key root L R P lo hi rk top M) (tl : TL h F S L R P C) (hx : S x) (hT : ∀ z, T z → S z ∧ L z = none ∧ R z = none ∧ lo x ≤ key z ∧ key z < hi x) :
    MA G d mJ26_balanceDeletion [.ref root, .ref x] (sF h F) (BQT T h F S key top) := by
  change WA G d mJ26_balanceDeletion 0 [.ref root, .ref x, .retAddr 0, .retAddr 0, .retAddr 0, .retAddr 0, .retAddr 0] [] _ _
  exact bd_loop hd _ rfl rfl rfl rfl rfl t tl hx TFr.refl (Nat.le_refl _) hT
end TREE4
