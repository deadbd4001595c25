/-! ===== TreeNode: balanceInsertion ===== -/
def TrB (h : AH) (F : Nat → Nat → Value) (S : Nat → Prop) (key : Nat → Nat) (root top : Nat) : Prop :=
  ∃ (L R P : Nat → Option Nat) (C : Nat → Bool) (lo hi rk : Nat → Nat) (M : Nat), T0 S key root L R P lo hi rk top M ∧ TL h F S L R P C
/-- what a rotation at p leaves: r takes p's place; left or right -/
def RotQ (b : Bool) (h : AH) (F : Nat → Nat → Value) (S : Nat → Prop) (key : Nat → Nat) (root p r top : Nat) (L R P : Nat → Option Nat) (C : Nat → Bool) (q : RR) (h' : AH) : Prop :=
  ∃ (root2 : Nat) (F2 : Nat → Nat → Value) (L2 R2 P2 : Nat → Option Nat) (C2 : Nat → Bool) (lo2 hi2 rk2 : Nat → Nat) (M2 : Nat), q = .inl (some (.ref root2)) ∧ h' = sF h F2 ∧ TFr S F F2 ∧ T0 S key root2 L2 R2 P2 lo2 hi2 rk2 top M2 ∧ TL h F2 S L2 R2 P2 C2 ∧
    (∀ z, L2 z = (if b then upo (chd L (P p) p r) r (some p) else upo (chd L (P p) p r) p (R r)) z) ∧ (∀ z, R2 z = (if b then upo (chd R (P p) p r) p (L r) else upo (chd R (P p) p r) r (some p)) z) ∧
    (∀ z, P2 z = upo (upo (upq P (if b then L r else R r) (some p)) r (P p)) p (some r) z) ∧ (∀ z, C2 z = (if P p = none then upo C r false else C) z) ∧ root2 = (if P p = none then r else root)
section TREE3
variable {G : GG} {d n : Nat} {h h2 : AH} {F F2 F3 : Nat → Nat → Value} {S : Nat → Prop} {key : Nat → Nat} {root p r l : Nat} {L R P : Nat → Option Nat} {C : Nat → Bool} {lo hi rk : Nat → Nat} {top M : Nat}
theorem s_rotL (t : T0 S key root L R P lo hi rk top M) (tl : TL h F S L R P C) (hp : S p) (hr : R p = some r) : MA G d mJ26_rotateLeft [.ref root, .ref p] (sF h F) (RotQ true h F S key root p r top L R P C) :=
  (s_J26_rotateLeft t tl hp hr).mono fun q h' _ _ ⟨e1, F2, e2, e3, e4⟩ => ⟨_, F2, _, _, _, _, _, _, _, _, e1, e2, e3, rotL t hp hr, e4, fun _ => rfl, fun _ => rfl, fun _ => rfl, fun _ => rfl, rfl⟩
theorem s_rotR (t : T0 S key root L R P lo hi rk top M) (tl : TL h F S L R P C) (hp : S p) (hr : L p = some r) : MA G d mJ26_rotateRight [.ref root, .ref p] (sF h F) (RotQ false h F S key root p r top L R P C) :=
  (s_J26_rotateRight t tl hp hr).mono fun q h' _ _ ⟨e1, F2, e2, e3, e4⟩ => ⟨_, F2, _, _, _, _, _, _, _, _, e1, e2, e3, rotR t hp hr, e4, fun _ => rfl, fun _ => rfl, fun _ => rfl, fun _ => rfl, rfl⟩
theorem TL.red {b : Bool} (tl : TL h F S L R P C) (p : Nat) : TL h (updF F p 10 (.int (bI b))) S L R P (upo C p b) := fun q hq => by
  obtain ⟨q1, q2, q3, q4, q5⟩ := tl q hq
  refine ⟨q1, updF_i (by decide) q2, updF_i (by decide) q3, updF_i (by decide) q4, ?_⟩
  by_cases e : q = p
  · subst e
    simp [upo, updF_self]
  · simp only [upo, if_neg e]
    exact updF_a e q5
def BQ (h : AH) (F : Nat → Nat → Value) (S : Nat → Prop) (key : Nat → Nat) (top : Nat) (q : RR) (h' : AH) : Prop := ∃ (root2 : Nat) (F2 : Nat → Nat → Value), q = .inl (some (.ref root2)) ∧ h' = sF h F2 ∧ TFr S F F2 ∧ TrB h F2 S key root2 top
theorem bi_exit {x : Nat} {F0 : Nat → Nat → Value} {v2 v3 v4 v5 : Value} (t : T0 S key root L R P lo hi rk top M) (tl : TL h F S L R P C) (hx : S x) (fr : TFr S F0 F) (hc : ∀ xp, P x = some xp → C xp = false ∨ P xp = none) :
    WA G d mJ26_balanceInsertion 5 [.ref root, .ref x, v2, v3, v4, v5] [] (sF h F) (BQ h F0 S key top) := by
  have tx := t.2 x hx
  obtain ⟨x1, x2, x3, x4, x5⟩ := tl x hx
  refine wa_aloadV_n (pc := 5) (y := mJ26_balanceInsertion) dJ26_balanceInsertion_5 rfl (by first | exact rf_s _ | exact rf_n | exact rf_q _) ?_
  refine wf_get (k := 14) (l := 11) 6 dJ26_balanceInsertion_6 (by assumption) rfl q1614 (Or.inl rfl) (Nat.le_of_ble_eq_true rfl) (Nat.le_of_ble_eq_true rfl) (by (repeat (first | exact updF_self _ _ _ _ | (apply updF_i; · decide) | (apply updF_a; · first | assumption | (apply Ne.symm; assumption) | omega) | (apply newF_a; · first | assumption | (apply Ne.symm; assumption) | omega) | exact newL_self (by rfl) | exact newF_self (by rfl) | (apply cpyF_a; · first | assumption | (apply Ne.symm; assumption) | omega))) <;> first | assumption | rfl) ?_
  refine wa_dup (pc := 9) (y := mJ26_balanceInsertion) dJ26_balanceInsertion_9 (by first | rfl | exact rf_cat _) ?_
  refine wa_astoreV_n (pc := 10) (y := mJ26_balanceInsertion) dJ26_balanceInsertion_10 (Nat.le_of_ble_eq_true rfl) (by first | rfl | (simp [okst, rf_cat] <;> assumption)) (by first | exact rf_s _ | exact rf_n | exact rf_q _) ?_
  change WA _ _ _ _ (List.set _ 2 _) _ _ _
  simp only [List.set_cons_zero, List.set_cons_succ]
  refine wa_ifnonnullV (pc := 11) 21 dJ26_balanceInsertion_11 rfl (by first | exact rf_s _ | exact rf_n | exact rf_q _) (fun a11 hb11 => ?_) (fun hb11 => ?_)
  · have hp := tx.2.2.2.2 _ hb11
    obtain ⟨p1, p2, p3, p4, p5⟩ := tl _ hp.1
    rw [hb11]
    refine wa_aloadV_n (pc := 21) (y := mJ26_balanceInsertion) dJ26_balanceInsertion_21 rfl (by first | exact rf_s _ | exact rf_n | exact rf_q _) ?_
    refine wf_get (k := 14) (l := 11) 10 dJ26_balanceInsertion_22 (by assumption) rfl q1619 (Or.inl rfl) (Nat.le_of_ble_eq_true rfl) (Nat.le_of_ble_eq_true rfl) (by (repeat (first | exact updF_self _ _ _ _ | (apply updF_i; · decide) | (apply updF_a; · first | assumption | (apply Ne.symm; assumption) | omega) | (apply newF_a; · first | assumption | (apply Ne.symm; assumption) | omega) | exact newL_self (by rfl) | exact newF_self (by rfl) | (apply cpyF_a; · first | assumption | (apply Ne.symm; assumption) | omega))) <;> first | assumption | rfl) ?_
    refine wa_if_eq (pc := 25) 37 dJ26_balanceInsertion_25 rfl (fun hb25 => ?_) (fun hb25 => ?_)
    · refine wa_aloadV_n (pc := 37) (y := mJ26_balanceInsertion) dJ26_balanceInsertion_37 rfl (by first | exact rf_s _ | exact rf_n | exact rf_q _) ?_
      refine wa_areturnV (pc := 38) (y := mJ26_balanceInsertion) (.object "java/util/HashMap$TreeNode") dJ26_balanceInsertion_38 rfl (Or.inl ⟨_, rfl⟩) (by first | exact rf_s _ | exact rf_n | exact rf_q _) ⟨_, _, rfl, rfl, fr, _, _, _, _, _, _, _, _, t, tl⟩
    · refine wa_aloadV_n (pc := 28) (y := mJ26_balanceInsertion) dJ26_balanceInsertion_28 rfl (by first | exact rf_s _ | exact rf_n | exact rf_q _) ?_
      refine wf_get (k := 14) (l := 11) 6 dJ26_balanceInsertion_29 (by assumption) rfl q1614 (Or.inl rfl) (Nat.le_of_ble_eq_true rfl) (Nat.le_of_ble_eq_true rfl) (by (repeat (first | exact updF_self _ _ _ _ | (apply updF_i; · decide) | (apply updF_a; · first | assumption | (apply Ne.symm; assumption) | omega) | (apply newF_a; · first | assumption | (apply Ne.symm; assumption) | omega) | exact newL_self (by rfl) | exact newF_self (by rfl) | (apply cpyF_a; · first | assumption | (apply Ne.symm; assumption) | omega))) <;> first | assumption | rfl) ?_
      refine wa_dup (pc := 32) (y := mJ26_balanceInsertion) dJ26_balanceInsertion_32 (by first | rfl | exact rf_cat _) ?_
      refine wa_astoreV_n (pc := 33) (y := mJ26_balanceInsertion) dJ26_balanceInsertion_33 (Nat.le_of_ble_eq_true rfl) (by first | rfl | (simp [okst, rf_cat] <;> assumption)) (by first | exact rf_s _ | exact rf_n | exact rf_q _) ?_
      change WA _ _ _ _ (List.set _ 3 _) _ _ _
      simp only [List.set_cons_zero, List.set_cons_succ]
      refine wa_ifnonnullV (pc := 34) 39 dJ26_balanceInsertion_34 rfl (by first | exact rf_s _ | exact rf_n | exact rf_q _) (fun a34 hb34 => absurd ((hc _ hb11).elim (fun e => absurd e (bI_n0 hb25 ▸ (by simp))) (fun e => by rw [hb34] at e; cases e)) id) (fun hb34 => ?_)
      refine wa_aloadV_n (pc := 37) (y := mJ26_balanceInsertion) dJ26_balanceInsertion_37 rfl (by first | exact rf_s _ | exact rf_n | exact rf_q _) ?_
      refine wa_areturnV (pc := 38) (y := mJ26_balanceInsertion) (.object "java/util/HashMap$TreeNode") dJ26_balanceInsertion_38 rfl (Or.inl ⟨_, rfl⟩) (by first | exact rf_s _ | exact rf_n | exact rf_q _) ⟨_, _, rfl, rfl, fr, _, _, _, _, _, _, _, _, t, tl⟩
  · have hxr := (tx.2.1 hb11).1
    rw [hb11]
    refine wa_aloadV_n (pc := 14) (y := mJ26_balanceInsertion) dJ26_balanceInsertion_14 rfl (by first | exact rf_s _ | exact rf_n | exact rf_q _) ?_
    refine wa_iconst (pc := 15) (y := mJ26_balanceInsertion) (Int32.ofNat 0) dJ26_balanceInsertion_15 rfl ?_
    refine wf_put (k := 14) (l := 11) 10 .boolean dJ26_balanceInsertion_16 (by assumption) rfl q1619 (Or.inl rfl) (Nat.le_of_ble_eq_true rfl) rfl (by decide +kernel) (by first | rfl | exact bI_nar _) (by first | rfl | exact bI_fit _) ?_
    refine wa_aloadV_n (pc := 19) (y := mJ26_balanceInsertion) dJ26_balanceInsertion_19 rfl (by first | exact rf_s _ | exact rf_n | exact rf_q _) ?_
    refine wa_areturnV (pc := 20) (y := mJ26_balanceInsertion) (.object "java/util/HashMap$TreeNode") dJ26_balanceInsertion_20 rfl (Or.inl ⟨_, rfl⟩) (by first | exact rf_s _ | exact rf_n | exact rf_q _) ⟨_, _, by rw [hxr], rfl, fr.upd hx (by decide), _, _, _, _, _, _, _, _, t, tl.red (b := false) x⟩
theorem bi_left {x xp xpp : Nat} {F0 : Nat → Nat → Value} {v4 v5 : Value} (hd : 1 ≤ d) (t : T0 S key root L R P lo hi rk top M) (tl : TL h F S L R P C) (hx : S x) (fr : TFr S F0 F) (h1 : P x = some xp) (h2 : P xp = some xpp) (h3 : L xpp = some xp) (h4 : L xp = some x) :
    WA G d mJ26_balanceInsertion 123 [.ref root, .ref x, .ref xp, .ref xpp, v4, v5] [] (sF h F) (BQ h F0 S key top) := by
  have hxp := (t.2 x hx).2.2.2.2 _ h1
  have txp := t.2 xp hxp.1
  have hxpp := txp.2.2.2.2 _ h2
  have txpp := t.2 xpp hxpp.1
  have n1 : xp ≠ xpp := by intro e; subst e; grind
  have n2 : x ≠ xp := by intro e; subst e; grind
  have n3 : x ≠ xpp := by intro e; subst e; grind
  obtain ⟨p1, p2, p3, p4, p5⟩ := tl _ hxp.1
  obtain ⟨q1, q2, q3, q4, q5⟩ := tl _ hxpp.1
  have tl2 := (tl.red (b := false) xp).red (b := true) xpp
  have fr2 : TFr S F0 (updF (updF F xp 10 (.int (bI false))) xpp 10 (.int (bI true))) := (fr.upd hxp.1 (by decide)).upd hxpp.1 (by decide)
  refine wa_aloadV_n (pc := 123) (y := mJ26_balanceInsertion) dJ26_balanceInsertion_123 rfl (by first | exact rf_s _ | exact rf_n | exact rf_q _) ?_
  refine wa_ifnull (pc := 124) (y := mJ26_balanceInsertion) dJ26_balanceInsertion_124 ?_
  refine wa_aloadV_n (pc := 127) (y := mJ26_balanceInsertion) dJ26_balanceInsertion_127 rfl (by first | exact rf_s _ | exact rf_n | exact rf_q _) ?_
  refine wa_iconst (pc := 128) (y := mJ26_balanceInsertion) (Int32.ofNat 0) dJ26_balanceInsertion_128 rfl ?_
  refine wf_put (k := 14) (l := 11) 10 .boolean dJ26_balanceInsertion_129 (by assumption) rfl q1619 (Or.inl rfl) (Nat.le_of_ble_eq_true rfl) rfl (by decide +kernel) (by first | rfl | exact bI_nar _) (by first | rfl | exact bI_fit _) ?_
  refine wa_aloadV_n (pc := 132) (y := mJ26_balanceInsertion) dJ26_balanceInsertion_132 rfl (by first | exact rf_s _ | exact rf_n | exact rf_q _) ?_
  refine wa_ifnull (pc := 133) (y := mJ26_balanceInsertion) dJ26_balanceInsertion_133 ?_
  refine wa_aloadV_n (pc := 136) (y := mJ26_balanceInsertion) dJ26_balanceInsertion_136 rfl (by first | exact rf_s _ | exact rf_n | exact rf_q _) ?_
  refine wa_iconst (pc := 137) (y := mJ26_balanceInsertion) (Int32.ofNat 1) dJ26_balanceInsertion_137 rfl ?_
  refine wf_put (k := 14) (l := 11) 10 .boolean dJ26_balanceInsertion_138 (by assumption) rfl q1619 (Or.inl rfl) (Nat.le_of_ble_eq_true rfl) rfl (by decide +kernel) (by first | rfl | exact bI_nar _) (by first | rfl | exact bI_fit _) ?_
  refine wa_aloadV_n (pc := 141) (y := mJ26_balanceInsertion) dJ26_balanceInsertion_141 rfl (by first | exact rf_s _ | exact rf_n | exact rf_q _) ?_
  refine wa_aloadV_n (pc := 142) (y := mJ26_balanceInsertion) dJ26_balanceInsertion_142 rfl (by first | exact rf_s _ | exact rf_n | exact rf_q _) ?_
  refine wa_callS (pc := 143) (s_rotR (d := d - 1) t tl2 hxpp.1 h3) dJ26_balanceInsertion_143 okJ26_rotateRight q1367 q1368 rfl rfl (Nat.le_of_ble_eq_true rfl) (Nat.le_of_ble_eq_true rfl) (by omega) ?_
  rintro _ _ - - ⟨root2, F2, L2, R2, P2, C2, lo2, hi2, rk2, M2, rfl, rfl, f2, t2, tl3, g1, g2, g3, g4, g5⟩
  refine aft_v (pc2 := 146) ?_ rfl
  refine wa_astoreV_n (pc := 146) (y := mJ26_balanceInsertion) dJ26_balanceInsertion_146 (Nat.le_of_ble_eq_true rfl) (by first | rfl | (simp [okst, rf_cat] <;> assumption)) (by first | exact rf_s _ | exact rf_n | exact rf_q _) ?_
  change WA _ _ _ _ (List.set _ 0 _) _ _ _
  simp only [List.set_cons_zero, List.set_cons_succ]
  refine wa_goto (pc := 147) (y := mJ26_balanceInsertion) 5 dJ26_balanceInsertion_147 rfl ?_
  refine bi_exit t2 tl3 hx (fr2.trans f2) (fun z hz => ?_)
  have e1 : P2 x = some xp := by rw [g3]; grind [upo, upq]
  have e2 : C2 xp = false := by rw [g4]; grind [upo]
  rw [e1] at hz
  cases hz
  exact Or.inl e2
theorem bi_right {x xp xpp : Nat} {F0 : Nat → Nat → Value} {v4 v5 : Value} (hd : 1 ≤ d) (t : T0 S key root L R P lo hi rk top M) (tl : TL h F S L R P C) (hx : S x) (fr : TFr S F0 F) (h1 : P x = some xp) (h2 : P xp = some xpp) (h3 : R xpp = some xp) (h4 : R xp = some x) :
    WA G d mJ26_balanceInsertion 218 [.ref root, .ref x, .ref xp, .ref xpp, v4, v5] [] (sF h F) (BQ h F0 S key top) := by
  have hxp := (t.2 x hx).2.2.2.2 _ h1
  have txp := t.2 xp hxp.1
  have hxpp := txp.2.2.2.2 _ h2
  have txpp := t.2 xpp hxpp.1
  have n1 : xp ≠ xpp := by intro e; subst e; grind
  have n2 : x ≠ xp := by intro e; subst e; grind
  have n3 : x ≠ xpp := by intro e; subst e; grind
  obtain ⟨p1, p2, p3, p4, p5⟩ := tl _ hxp.1
  obtain ⟨q1, q2, q3, q4, q5⟩ := tl _ hxpp.1
  have tl2 := (tl.red (b := false) xp).red (b := true) xpp
  have fr2 : TFr S F0 (updF (updF F xp 10 (.int (bI false))) xpp 10 (.int (bI true))) := (fr.upd hxp.1 (by decide)).upd hxpp.1 (by decide)
  refine wa_aloadV_n (pc := 218) (y := mJ26_balanceInsertion) dJ26_balanceInsertion_218 rfl (by first | exact rf_s _ | exact rf_n | exact rf_q _) ?_
  refine wa_ifnull (pc := 219) (y := mJ26_balanceInsertion) dJ26_balanceInsertion_219 ?_
  refine wa_aloadV_n (pc := 222) (y := mJ26_balanceInsertion) dJ26_balanceInsertion_222 rfl (by first | exact rf_s _ | exact rf_n | exact rf_q _) ?_
  refine wa_iconst (pc := 223) (y := mJ26_balanceInsertion) (Int32.ofNat 0) dJ26_balanceInsertion_223 rfl ?_
  refine wf_put (k := 14) (l := 11) 10 .boolean dJ26_balanceInsertion_224 (by assumption) rfl q1619 (Or.inl rfl) (Nat.le_of_ble_eq_true rfl) rfl (by decide +kernel) (by first | rfl | exact bI_nar _) (by first | rfl | exact bI_fit _) ?_
  refine wa_aloadV_n (pc := 227) (y := mJ26_balanceInsertion) dJ26_balanceInsertion_227 rfl (by first | exact rf_s _ | exact rf_n | exact rf_q _) ?_
  refine wa_ifnull (pc := 228) (y := mJ26_balanceInsertion) dJ26_balanceInsertion_228 ?_
  refine wa_aloadV_n (pc := 231) (y := mJ26_balanceInsertion) dJ26_balanceInsertion_231 rfl (by first | exact rf_s _ | exact rf_n | exact rf_q _) ?_
  refine wa_iconst (pc := 232) (y := mJ26_balanceInsertion) (Int32.ofNat 1) dJ26_balanceInsertion_232 rfl ?_
  refine wf_put (k := 14) (l := 11) 10 .boolean dJ26_balanceInsertion_233 (by assumption) rfl q1619 (Or.inl rfl) (Nat.le_of_ble_eq_true rfl) rfl (by decide +kernel) (by first | rfl | exact bI_nar _) (by first | rfl | exact bI_fit _) ?_
  refine wa_aloadV_n (pc := 236) (y := mJ26_balanceInsertion) dJ26_balanceInsertion_236 rfl (by first | exact rf_s _ | exact rf_n | exact rf_q _) ?_
  refine wa_aloadV_n (pc := 237) (y := mJ26_balanceInsertion) dJ26_balanceInsertion_237 rfl (by first | exact rf_s _ | exact rf_n | exact rf_q _) ?_
  refine wa_callS (pc := 238) (s_rotL (d := d - 1) t tl2 hxpp.1 h3) dJ26_balanceInsertion_238 okJ26_rotateLeft q1364 q1365 rfl rfl (Nat.le_of_ble_eq_true rfl) (Nat.le_of_ble_eq_true rfl) (by omega) ?_
  rintro _ _ - - ⟨root2, F2, L2, R2, P2, C2, lo2, hi2, rk2, M2, rfl, rfl, f2, t2, tl3, g1, g2, g3, g4, g5⟩
  refine aft_v (pc2 := 241) ?_ rfl
  refine wa_astoreV_n (pc := 241) (y := mJ26_balanceInsertion) dJ26_balanceInsertion_241 (Nat.le_of_ble_eq_true rfl) (by first | rfl | (simp [okst, rf_cat] <;> assumption)) (by first | exact rf_s _ | exact rf_n | exact rf_q _) ?_
  change WA _ _ _ _ (List.set _ 0 _) _ _ _
  simp only [List.set_cons_zero, List.set_cons_succ]
  refine wa_goto (pc := 242) (y := mJ26_balanceInsertion) 5 dJ26_balanceInsertion_242 rfl ?_
  refine bi_exit t2 tl3 hx (fr2.trans f2) (fun z hz => ?_)
  have e1 : P2 x = some xp := by rw [g3]; grind [upo, upq]
  have e2 : C2 xp = false := by rw [g4]; grind [upo]
  rw [e1] at hz
  cases hz
  exact Or.inl e2
theorem bi_loop (hd : 1 ≤ d) : ∀ (n : Nat) {x root : Nat} {F0 F : Nat → Nat → Value} {L R P : Nat → Option Nat} {C : Nat → Bool} {lo hi rk : Nat → Nat} {M : Nat} {v2 v3 v4 v5 : Value}, T0 S key root L R P lo hi rk top M → TL h F S L R P C → S x → TFr S F0 F → rk x ≤ n →
    WA G d mJ26_balanceInsertion 5 [.ref root, .ref x, v2, v3, v4, v5] [] (sF h F) (BQ h F0 S key top) := by
  intro n
  induction n with
  | zero =>
    intro x root F0 F L R P C lo hi rk M v2 v3 v4 v5 t tl hx fr hn
    refine bi_exit t tl hx fr (fun xp hxp => ?_)
    have := (t.2 x hx).2.2.2.2 _ hxp
    have t2 := t.2 xp this.1
    grind
  | succ n ih =>
    intro x root F0 F L R P C lo hi rk M v2 v3 v4 v5 t tl hx fr hn
    have tx := t.2 x hx
    obtain ⟨x1, x2, x3, x4, x5⟩ := tl x hx
    refine wa_aloadV_n (pc := 5) (y := mJ26_balanceInsertion) dJ26_balanceInsertion_5 rfl (by first | exact rf_s _ | exact rf_n | exact rf_q _) ?_
    refine wf_get (k := 14) (l := 11) 6 dJ26_balanceInsertion_6 (by assumption) rfl q1614 (Or.inl rfl) (Nat.le_of_ble_eq_true rfl) (Nat.le_of_ble_eq_true rfl) (by (repeat (first | exact updF_self _ _ _ _ | (apply updF_i; · decide) | (apply updF_a; · first | assumption | (apply Ne.symm; assumption) | omega) | (apply newF_a; · first | assumption | (apply Ne.symm; assumption) | omega) | exact newL_self (by rfl) | exact newF_self (by rfl) | (apply cpyF_a; · first | assumption | (apply Ne.symm; assumption) | omega))) <;> first | assumption | rfl) ?_
    refine wa_dup (pc := 9) (y := mJ26_balanceInsertion) dJ26_balanceInsertion_9 (by first | rfl | exact rf_cat _) ?_
    refine wa_astoreV_n (pc := 10) (y := mJ26_balanceInsertion) dJ26_balanceInsertion_10 (Nat.le_of_ble_eq_true rfl) (by first | rfl | (simp [okst, rf_cat] <;> assumption)) (by first | exact rf_s _ | exact rf_n | exact rf_q _) ?_
    change WA _ _ _ _ (List.set _ 2 _) _ _ _
    simp only [List.set_cons_zero, List.set_cons_succ]
    refine wa_ifnonnullV (pc := 11) 21 dJ26_balanceInsertion_11 rfl (by first | exact rf_s _ | exact rf_n | exact rf_q _) (fun a11 hb11 => ?_) (fun hb11 => ?_)
    · have hp := tx.2.2.2.2 _ hb11
      have tp := t.2 _ hp.1
      obtain ⟨p1, p2, p3, p4, p5⟩ := tl _ hp.1
      have nxp : x ≠ a11 := by intro e; subst e; grind
      rw [hb11]
      refine wa_aloadV_n (pc := 21) (y := mJ26_balanceInsertion) dJ26_balanceInsertion_21 rfl (by first | exact rf_s _ | exact rf_n | exact rf_q _) ?_
      refine wf_get (k := 14) (l := 11) 10 dJ26_balanceInsertion_22 (by assumption) rfl q1619 (Or.inl rfl) (Nat.le_of_ble_eq_true rfl) (Nat.le_of_ble_eq_true rfl) (by (repeat (first | exact updF_self _ _ _ _ | (apply updF_i; · decide) | (apply updF_a; · first | assumption | (apply Ne.symm; assumption) | omega) | (apply newF_a; · first | assumption | (apply Ne.symm; assumption) | omega) | exact newL_self (by rfl) | exact newF_self (by rfl) | (apply cpyF_a; · first | assumption | (apply Ne.symm; assumption) | omega))) <;> first | assumption | rfl) ?_
      refine wa_if_eq (pc := 25) 37 dJ26_balanceInsertion_25 rfl (fun hb25 => ?_) (fun hb25 => ?_)
      · refine wa_aloadV_n (pc := 37) (y := mJ26_balanceInsertion) dJ26_balanceInsertion_37 rfl (by first | exact rf_s _ | exact rf_n | exact rf_q _) ?_
        refine wa_areturnV (pc := 38) (y := mJ26_balanceInsertion) (.object "java/util/HashMap$TreeNode") dJ26_balanceInsertion_38 rfl (Or.inl ⟨_, rfl⟩) (by first | exact rf_s _ | exact rf_n | exact rf_q _) ⟨_, _, rfl, rfl, fr, _, _, _, _, _, _, _, _, t, tl⟩
      · refine wa_aloadV_n (pc := 28) (y := mJ26_balanceInsertion) dJ26_balanceInsertion_28 rfl (by first | exact rf_s _ | exact rf_n | exact rf_q _) ?_
        refine wf_get (k := 14) (l := 11) 6 dJ26_balanceInsertion_29 (by assumption) rfl q1614 (Or.inl rfl) (Nat.le_of_ble_eq_true rfl) (Nat.le_of_ble_eq_true rfl) (by (repeat (first | exact updF_self _ _ _ _ | (apply updF_i; · decide) | (apply updF_a; · first | assumption | (apply Ne.symm; assumption) | omega) | (apply newF_a; · first | assumption | (apply Ne.symm; assumption) | omega) | exact newL_self (by rfl) | exact newF_self (by rfl) | (apply cpyF_a; · first | assumption | (apply Ne.symm; assumption) | omega))) <;> first | assumption | rfl) ?_
        refine wa_dup (pc := 32) (y := mJ26_balanceInsertion) dJ26_balanceInsertion_32 (by first | rfl | exact rf_cat _) ?_
        refine wa_astoreV_n (pc := 33) (y := mJ26_balanceInsertion) dJ26_balanceInsertion_33 (Nat.le_of_ble_eq_true rfl) (by first | rfl | (simp [okst, rf_cat] <;> assumption)) (by first | exact rf_s _ | exact rf_n | exact rf_q _) ?_
        change WA _ _ _ _ (List.set _ 3 _) _ _ _
        simp only [List.set_cons_zero, List.set_cons_succ]
        refine wa_ifnonnullV (pc := 34) 39 dJ26_balanceInsertion_34 rfl (by first | exact rf_s _ | exact rf_n | exact rf_q _) (fun a34 hb34 => ?_) (fun hb34 => ?_)
        · have hq := tp.2.2.2.2 _ hb34
          have tq := t.2 _ hq.1
          obtain ⟨q1, q2, q3, q4, q5⟩ := tl _ hq.1
          have npq : a11 ≠ a34 := by intro e; subst e; grind
          have hrk : rk a34 < rk a11 ∧ rk a11 < rk x := by grind
          rw [hb34]
          refine wa_aloadV_n (pc := 39) (y := mJ26_balanceInsertion) dJ26_balanceInsertion_39 rfl (by first | exact rf_s _ | exact rf_n | exact rf_q _) ?_
          refine wa_aloadV_n (pc := 40) (y := mJ26_balanceInsertion) dJ26_balanceInsertion_40 rfl (by first | exact rf_s _ | exact rf_n | exact rf_q _) ?_
          refine wf_get (k := 14) (l := 11) 7 dJ26_balanceInsertion_41 (by assumption) rfl q1615 (Or.inl rfl) (Nat.le_of_ble_eq_true rfl) (Nat.le_of_ble_eq_true rfl) (by (repeat (first | exact updF_self _ _ _ _ | (apply updF_i; · decide) | (apply updF_a; · first | assumption | (apply Ne.symm; assumption) | omega) | (apply newF_a; · first | assumption | (apply Ne.symm; assumption) | omega) | exact newL_self (by rfl) | exact newF_self (by rfl) | (apply cpyF_a; · first | assumption | (apply Ne.symm; assumption) | omega))) <;> first | assumption | rfl) ?_
          refine wa_dup (pc := 44) (y := mJ26_balanceInsertion) dJ26_balanceInsertion_44 (by first | rfl | exact rf_cat _) ?_
          refine wa_astoreV (pc := 45) (y := mJ26_balanceInsertion) dJ26_balanceInsertion_45 (Nat.le_of_ble_eq_true rfl) (by first | rfl | (simp [okst, rf_cat] <;> assumption)) (by first | exact rf_s _ | exact rf_n | exact rf_q _) ?_
          simp only [List.set_cons_zero, List.set_cons_succ]
          refine wa_acneV (pc := 47) 150 dJ26_balanceInsertion_47 rfl (by first | exact rf_s _ | exact rf_n | exact rf_q _) (by first | exact rf_s _ | exact rf_n | exact rf_q _) (fun hb47 => ?_) (fun hb47 => ?_)
          · have hlr : R a34 = some a11 := by grind
            refine wa_aloadV (pc := 150) (y := mJ26_balanceInsertion) dJ26_balanceInsertion_150 rfl (by first | exact rf_s _ | exact rf_n | exact rf_q _) ?_
            refine wa_ifnullV (pc := 152) 184 dJ26_balanceInsertion_152 rfl (by first | exact rf_s _ | exact rf_n | exact rf_q _) (fun hb152 => ?_) (fun a152 hb152 => ?_)
            · refine wa_aloadV_n (pc := 184) (y := mJ26_balanceInsertion) dJ26_balanceInsertion_184 rfl (by first | exact rf_s _ | exact rf_n | exact rf_q _) ?_
              refine wa_aloadV_n (pc := 185) (y := mJ26_balanceInsertion) dJ26_balanceInsertion_185 rfl (by first | exact rf_s _ | exact rf_n | exact rf_q _) ?_
              refine wf_get (k := 14) (l := 11) 7 dJ26_balanceInsertion_186 (by assumption) rfl q1615 (Or.inl rfl) (Nat.le_of_ble_eq_true rfl) (Nat.le_of_ble_eq_true rfl) (by (repeat (first | exact updF_self _ _ _ _ | (apply updF_i; · decide) | (apply updF_a; · first | assumption | (apply Ne.symm; assumption) | omega) | (apply newF_a; · first | assumption | (apply Ne.symm; assumption) | omega) | exact newL_self (by rfl) | exact newF_self (by rfl) | (apply cpyF_a; · first | assumption | (apply Ne.symm; assumption) | omega))) <;> first | assumption | rfl) ?_
              refine wa_acneV (pc := 189) 218 dJ26_balanceInsertion_189 rfl (by first | exact rf_s _ | exact rf_n | exact rf_q _) (by first | exact rf_s _ | exact rf_n | exact rf_q _) (fun hb189 => ?_) (fun hb189 => ?_)
              · have hxl : R a11 = some x := by grind
                first | exact bi_right hd t2 tl3 hp.1 (fr.trans f2) e1 e2 e3 e4 | exact bi_right hd t tl hx fr hb11 hb34 hlr hxl
              · have hxl : L a11 = some x := hb189.symm
                refine wa_aloadV_n (pc := 192) (y := mJ26_balanceInsertion) dJ26_balanceInsertion_192 rfl (by first | exact rf_s _ | exact rf_n | exact rf_q _) ?_
                refine wa_aloadV_n (pc := 193) (y := mJ26_balanceInsertion) dJ26_balanceInsertion_193 rfl (by first | exact rf_s _ | exact rf_n | exact rf_q _) ?_
                refine wa_dup (pc := 194) (y := mJ26_balanceInsertion) dJ26_balanceInsertion_194 (by first | rfl | exact rf_cat _) ?_
                refine wa_astoreV_n (pc := 195) (y := mJ26_balanceInsertion) dJ26_balanceInsertion_195 (Nat.le_of_ble_eq_true rfl) (by first | rfl | (simp [okst, rf_cat] <;> assumption)) (by first | exact rf_s _ | exact rf_n | exact rf_q _) ?_
                change WA _ _ _ _ (List.set _ 1 _) _ _ _
                simp only [List.set_cons_zero, List.set_cons_succ]
                refine wa_callS (pc := 196) (s_rotR (d := d - 1) t tl hp.1 hxl) dJ26_balanceInsertion_196 okJ26_rotateRight q1367 q1368 rfl rfl (Nat.le_of_ble_eq_true rfl) (Nat.le_of_ble_eq_true rfl) (by omega) ?_
                rintro _ _ - - ⟨root2, F2, L2, R2, P2, C2, lo2, hi2, rk2, M2, rfl, rfl, f2, t2, tl3, g1, g2, g3, g4, g5⟩
                refine aft_v (pc2 := 199) ?_ rfl
                have e1 : P2 a11 = some x := by rw [g3]; grind [upo, upq]
                have e2 : P2 x = some a34 := by rw [g3]; grind [upo, upq]
                have e3 : R2 a34 = some x := by rw [g2]; grind [upo, chd]
                have e4 : R2 x = some a11 := by rw [g2]; grind [upo, chd]
                obtain ⟨y1, y2, y3, y4, y5⟩ := tl3 _ hp.1
                obtain ⟨w1, w2, w3, w4, w5⟩ := tl3 _ hx
                rw [e1] at y2
                rw [e2] at w2
                refine wa_astoreV_n (pc := 199) (y := mJ26_balanceInsertion) dJ26_balanceInsertion_199 (Nat.le_of_ble_eq_true rfl) (by first | rfl | (simp [okst, rf_cat] <;> assumption)) (by first | exact rf_s _ | exact rf_n | exact rf_q _) ?_
                change WA _ _ _ _ (List.set _ 0 _) _ _ _
                simp only [List.set_cons_zero, List.set_cons_succ]
                refine wa_aloadV_n (pc := 200) (y := mJ26_balanceInsertion) dJ26_balanceInsertion_200 rfl (by first | exact rf_s _ | exact rf_n | exact rf_q _) ?_
                refine wf_get (k := 14) (l := 11) 6 dJ26_balanceInsertion_201 (by assumption) rfl q1614 (Or.inl rfl) (Nat.le_of_ble_eq_true rfl) (Nat.le_of_ble_eq_true rfl) (by (repeat (first | exact updF_self _ _ _ _ | (apply updF_i; · decide) | (apply updF_a; · first | assumption | (apply Ne.symm; assumption) | omega) | (apply newF_a; · first | assumption | (apply Ne.symm; assumption) | omega) | exact newL_self (by rfl) | exact newF_self (by rfl) | (apply cpyF_a; · first | assumption | (apply Ne.symm; assumption) | omega))) <;> first | assumption | rfl) ?_
                refine wa_dup (pc := 204) (y := mJ26_balanceInsertion) dJ26_balanceInsertion_204 (by first | rfl | exact rf_cat _) ?_
                refine wa_astoreV_n (pc := 205) (y := mJ26_balanceInsertion) dJ26_balanceInsertion_205 (Nat.le_of_ble_eq_true rfl) (by first | rfl | (simp [okst, rf_cat] <;> assumption)) (by first | exact rf_s _ | exact rf_n | exact rf_q _) ?_
                change WA _ _ _ _ (List.set _ 2 _) _ _ _
                simp only [List.set_cons_zero, List.set_cons_succ]
                refine wa_ifnonnull (pc := 206) (y := mJ26_balanceInsertion) 213 dJ26_balanceInsertion_206 rfl ?_
                refine wa_aloadV_n (pc := 213) (y := mJ26_balanceInsertion) dJ26_balanceInsertion_213 rfl (by first | exact rf_s _ | exact rf_n | exact rf_q _) ?_
                refine wf_get (k := 14) (l := 11) 6 dJ26_balanceInsertion_214 (by assumption) rfl q1614 (Or.inl rfl) (Nat.le_of_ble_eq_true rfl) (Nat.le_of_ble_eq_true rfl) (by (repeat (first | exact updF_self _ _ _ _ | (apply updF_i; · decide) | (apply updF_a; · first | assumption | (apply Ne.symm; assumption) | omega) | (apply newF_a; · first | assumption | (apply Ne.symm; assumption) | omega) | exact newL_self (by rfl) | exact newF_self (by rfl) | (apply cpyF_a; · first | assumption | (apply Ne.symm; assumption) | omega))) <;> first | assumption | rfl) ?_
                refine wa_astoreV_n (pc := 217) (y := mJ26_balanceInsertion) dJ26_balanceInsertion_217 (Nat.le_of_ble_eq_true rfl) (by first | rfl | (simp [okst, rf_cat] <;> assumption)) (by first | exact rf_s _ | exact rf_n | exact rf_q _) ?_
                change WA _ _ _ _ (List.set _ 3 _) _ _ _
                simp only [List.set_cons_zero, List.set_cons_succ]
                first | exact bi_right hd t2 tl3 hp.1 (fr.trans f2) e1 e2 e3 e4 | exact bi_right hd t tl hx fr hb11 hb34 hlr hxl
            · have hz := tq.2.2.1 _ hb152
              obtain ⟨z1, z2, z3, z4, z5⟩ := tl _ hz.1
              rw [hb152]
              refine wa_aloadV (pc := 155) (y := mJ26_balanceInsertion) dJ26_balanceInsertion_155 rfl (by first | exact rf_s _ | exact rf_n | exact rf_q _) ?_
              refine wf_get (k := 14) (l := 11) 10 dJ26_balanceInsertion_157 (by assumption) rfl q1619 (Or.inl rfl) (Nat.le_of_ble_eq_true rfl) (Nat.le_of_ble_eq_true rfl) (by (repeat (first | exact updF_self _ _ _ _ | (apply updF_i; · decide) | (apply updF_a; · first | assumption | (apply Ne.symm; assumption) | omega) | (apply newF_a; · first | assumption | (apply Ne.symm; assumption) | omega) | exact newL_self (by rfl) | exact newF_self (by rfl) | (apply cpyF_a; · first | assumption | (apply Ne.symm; assumption) | omega))) <;> first | assumption | rfl) ?_
              refine wa_if_eq (pc := 160) 184 dJ26_balanceInsertion_160 rfl (fun hb160 => ?_) (fun hb160 => ?_)
              · refine wa_aloadV_n (pc := 184) (y := mJ26_balanceInsertion) dJ26_balanceInsertion_184 rfl (by first | exact rf_s _ | exact rf_n | exact rf_q _) ?_
                refine wa_aloadV_n (pc := 185) (y := mJ26_balanceInsertion) dJ26_balanceInsertion_185 rfl (by first | exact rf_s _ | exact rf_n | exact rf_q _) ?_
                refine wf_get (k := 14) (l := 11) 7 dJ26_balanceInsertion_186 (by assumption) rfl q1615 (Or.inl rfl) (Nat.le_of_ble_eq_true rfl) (Nat.le_of_ble_eq_true rfl) (by (repeat (first | exact updF_self _ _ _ _ | (apply updF_i; · decide) | (apply updF_a; · first | assumption | (apply Ne.symm; assumption) | omega) | (apply newF_a; · first | assumption | (apply Ne.symm; assumption) | omega) | exact newL_self (by rfl) | exact newF_self (by rfl) | (apply cpyF_a; · first | assumption | (apply Ne.symm; assumption) | omega))) <;> first | assumption | rfl) ?_
                refine wa_acneV (pc := 189) 218 dJ26_balanceInsertion_189 rfl (by first | exact rf_s _ | exact rf_n | exact rf_q _) (by first | exact rf_s _ | exact rf_n | exact rf_q _) (fun hb189 => ?_) (fun hb189 => ?_)
                · have hxl : R a11 = some x := by grind
                  first | exact bi_right hd t2 tl3 hp.1 (fr.trans f2) e1 e2 e3 e4 | exact bi_right hd t tl hx fr hb11 hb34 hlr hxl
                · have hxl : L a11 = some x := hb189.symm
                  refine wa_aloadV_n (pc := 192) (y := mJ26_balanceInsertion) dJ26_balanceInsertion_192 rfl (by first | exact rf_s _ | exact rf_n | exact rf_q _) ?_
                  refine wa_aloadV_n (pc := 193) (y := mJ26_balanceInsertion) dJ26_balanceInsertion_193 rfl (by first | exact rf_s _ | exact rf_n | exact rf_q _) ?_
                  refine wa_dup (pc := 194) (y := mJ26_balanceInsertion) dJ26_balanceInsertion_194 (by first | rfl | exact rf_cat _) ?_
                  refine wa_astoreV_n (pc := 195) (y := mJ26_balanceInsertion) dJ26_balanceInsertion_195 (Nat.le_of_ble_eq_true rfl) (by first | rfl | (simp [okst, rf_cat] <;> assumption)) (by first | exact rf_s _ | exact rf_n | exact rf_q _) ?_
                  change WA _ _ _ _ (List.set _ 1 _) _ _ _
                  simp only [List.set_cons_zero, List.set_cons_succ]
                  refine wa_callS (pc := 196) (s_rotR (d := d - 1) t tl hp.1 hxl) dJ26_balanceInsertion_196 okJ26_rotateRight q1367 q1368 rfl rfl (Nat.le_of_ble_eq_true rfl) (Nat.le_of_ble_eq_true rfl) (by omega) ?_
                  rintro _ _ - - ⟨root2, F2, L2, R2, P2, C2, lo2, hi2, rk2, M2, rfl, rfl, f2, t2, tl3, g1, g2, g3, g4, g5⟩
                  refine aft_v (pc2 := 199) ?_ rfl
                  have e1 : P2 a11 = some x := by rw [g3]; grind [upo, upq]
                  have e2 : P2 x = some a34 := by rw [g3]; grind [upo, upq]
                  have e3 : R2 a34 = some x := by rw [g2]; grind [upo, chd]
                  have e4 : R2 x = some a11 := by rw [g2]; grind [upo, chd]
                  obtain ⟨y1, y2, y3, y4, y5⟩ := tl3 _ hp.1
                  obtain ⟨w1, w2, w3, w4, w5⟩ := tl3 _ hx
                  rw [e1] at y2
                  rw [e2] at w2
                  refine wa_astoreV_n (pc := 199) (y := mJ26_balanceInsertion) dJ26_balanceInsertion_199 (Nat.le_of_ble_eq_true rfl) (by first | rfl | (simp [okst, rf_cat] <;> assumption)) (by first | exact rf_s _ | exact rf_n | exact rf_q _) ?_
                  change WA _ _ _ _ (List.set _ 0 _) _ _ _
                  simp only [List.set_cons_zero, List.set_cons_succ]
                  refine wa_aloadV_n (pc := 200) (y := mJ26_balanceInsertion) dJ26_balanceInsertion_200 rfl (by first | exact rf_s _ | exact rf_n | exact rf_q _) ?_
                  refine wf_get (k := 14) (l := 11) 6 dJ26_balanceInsertion_201 (by assumption) rfl q1614 (Or.inl rfl) (Nat.le_of_ble_eq_true rfl) (Nat.le_of_ble_eq_true rfl) (by (repeat (first | exact updF_self _ _ _ _ | (apply updF_i; · decide) | (apply updF_a; · first | assumption | (apply Ne.symm; assumption) | omega) | (apply newF_a; · first | assumption | (apply Ne.symm; assumption) | omega) | exact newL_self (by rfl) | exact newF_self (by rfl) | (apply cpyF_a; · first | assumption | (apply Ne.symm; assumption) | omega))) <;> first | assumption | rfl) ?_
                  refine wa_dup (pc := 204) (y := mJ26_balanceInsertion) dJ26_balanceInsertion_204 (by first | rfl | exact rf_cat _) ?_
                  refine wa_astoreV_n (pc := 205) (y := mJ26_balanceInsertion) dJ26_balanceInsertion_205 (Nat.le_of_ble_eq_true rfl) (by first | rfl | (simp [okst, rf_cat] <;> assumption)) (by first | exact rf_s _ | exact rf_n | exact rf_q _) ?_
                  change WA _ _ _ _ (List.set _ 2 _) _ _ _
                  simp only [List.set_cons_zero, List.set_cons_succ]
                  refine wa_ifnonnull (pc := 206) (y := mJ26_balanceInsertion) 213 dJ26_balanceInsertion_206 rfl ?_
                  refine wa_aloadV_n (pc := 213) (y := mJ26_balanceInsertion) dJ26_balanceInsertion_213 rfl (by first | exact rf_s _ | exact rf_n | exact rf_q _) ?_
                  refine wf_get (k := 14) (l := 11) 6 dJ26_balanceInsertion_214 (by assumption) rfl q1614 (Or.inl rfl) (Nat.le_of_ble_eq_true rfl) (Nat.le_of_ble_eq_true rfl) (by (repeat (first | exact updF_self _ _ _ _ | (apply updF_i; · decide) | (apply updF_a; · first | assumption | (apply Ne.symm; assumption) | omega) | (apply newF_a; · first | assumption | (apply Ne.symm; assumption) | omega) | exact newL_self (by rfl) | exact newF_self (by rfl) | (apply cpyF_a; · first | assumption | (apply Ne.symm; assumption) | omega))) <;> first | assumption | rfl) ?_
                  refine wa_astoreV_n (pc := 217) (y := mJ26_balanceInsertion) dJ26_balanceInsertion_217 (Nat.le_of_ble_eq_true rfl) (by first | rfl | (simp [okst, rf_cat] <;> assumption)) (by first | exact rf_s _ | exact rf_n | exact rf_q _) ?_
                  change WA _ _ _ _ (List.set _ 3 _) _ _ _
                  simp only [List.set_cons_zero, List.set_cons_succ]
                  first | exact bi_right hd t2 tl3 hp.1 (fr.trans f2) e1 e2 e3 e4 | exact bi_right hd t tl hx fr hb11 hb34 hlr hxl
              · refine wa_aloadV (pc := 163) (y := mJ26_balanceInsertion) dJ26_balanceInsertion_163 rfl (by first | exact rf_s _ | exact rf_n | exact rf_q _) ?_
                refine wa_iconst (pc := 165) (y := mJ26_balanceInsertion) (Int32.ofNat 0) dJ26_balanceInsertion_165 rfl ?_
                refine wf_put (k := 14) (l := 11) 10 .boolean dJ26_balanceInsertion_166 (by assumption) rfl q1619 (Or.inl rfl) (Nat.le_of_ble_eq_true rfl) rfl (by decide +kernel) (by first | rfl | exact bI_nar _) (by first | rfl | exact bI_fit _) ?_
                refine wa_aloadV_n (pc := 169) (y := mJ26_balanceInsertion) dJ26_balanceInsertion_169 rfl (by first | exact rf_s _ | exact rf_n | exact rf_q _) ?_
                refine wa_iconst (pc := 170) (y := mJ26_balanceInsertion) (Int32.ofNat 0) dJ26_balanceInsertion_170 rfl ?_
                refine wf_put (k := 14) (l := 11) 10 .boolean dJ26_balanceInsertion_171 (by assumption) rfl q1619 (Or.inl rfl) (Nat.le_of_ble_eq_true rfl) rfl (by decide +kernel) (by first | rfl | exact bI_nar _) (by first | rfl | exact bI_fit _) ?_
                refine wa_aloadV_n (pc := 174) (y := mJ26_balanceInsertion) dJ26_balanceInsertion_174 rfl (by first | exact rf_s _ | exact rf_n | exact rf_q _) ?_
                refine wa_iconst (pc := 175) (y := mJ26_balanceInsertion) (Int32.ofNat 1) dJ26_balanceInsertion_175 rfl ?_
                refine wf_put (k := 14) (l := 11) 10 .boolean dJ26_balanceInsertion_176 (by assumption) rfl q1619 (Or.inl rfl) (Nat.le_of_ble_eq_true rfl) rfl (by decide +kernel) (by first | rfl | exact bI_nar _) (by first | rfl | exact bI_fit _) ?_
                refine wa_aloadV_n (pc := 179) (y := mJ26_balanceInsertion) dJ26_balanceInsertion_179 rfl (by first | exact rf_s _ | exact rf_n | exact rf_q _) ?_
                refine wa_astoreV_n (pc := 180) (y := mJ26_balanceInsertion) dJ26_balanceInsertion_180 (Nat.le_of_ble_eq_true rfl) (by first | rfl | (simp [okst, rf_cat] <;> assumption)) (by first | exact rf_s _ | exact rf_n | exact rf_q _) ?_
                change WA _ _ _ _ (List.set _ 1 _) _ _ _
                simp only [List.set_cons_zero, List.set_cons_succ]
                refine wa_goto (pc := 181) (y := mJ26_balanceInsertion) 5 dJ26_balanceInsertion_181 rfl ?_
                exact ih t (((tl.red (b := false) _).red (b := false) _).red (b := true) _) hq.1 (((fr.upd hz.1 (by decide)).upd hp.1 (by decide)).upd hq.1 (by decide)) (by omega)
          · have hlr : L a34 = some a11 := hb47.symm
            refine wa_aloadV_n (pc := 50) (y := mJ26_balanceInsertion) dJ26_balanceInsertion_50 rfl (by first | exact rf_s _ | exact rf_n | exact rf_q _) ?_
            refine wf_get (k := 14) (l := 11) 8 dJ26_balanceInsertion_51 (by assumption) rfl q1616 (Or.inl rfl) (Nat.le_of_ble_eq_true rfl) (Nat.le_of_ble_eq_true rfl) (by (repeat (first | exact updF_self _ _ _ _ | (apply updF_i; · decide) | (apply updF_a; · first | assumption | (apply Ne.symm; assumption) | omega) | (apply newF_a; · first | assumption | (apply Ne.symm; assumption) | omega) | exact newL_self (by rfl) | exact newF_self (by rfl) | (apply cpyF_a; · first | assumption | (apply Ne.symm; assumption) | omega))) <;> first | assumption | rfl) ?_
            refine wa_dup (pc := 54) (y := mJ26_balanceInsertion) dJ26_balanceInsertion_54 (by first | rfl | exact rf_cat _) ?_
            refine wa_astoreV (pc := 55) (y := mJ26_balanceInsertion) dJ26_balanceInsertion_55 (Nat.le_of_ble_eq_true rfl) (by first | rfl | (simp [okst, rf_cat] <;> assumption)) (by first | exact rf_s _ | exact rf_n | exact rf_q _) ?_
            simp only [List.set_cons_zero, List.set_cons_succ]
            refine wa_ifnullV (pc := 57) 89 dJ26_balanceInsertion_57 rfl (by first | exact rf_s _ | exact rf_n | exact rf_q _) (fun hb57 => ?_) (fun a57 hb57 => ?_)
            · refine wa_aloadV_n (pc := 89) (y := mJ26_balanceInsertion) dJ26_balanceInsertion_89 rfl (by first | exact rf_s _ | exact rf_n | exact rf_q _) ?_
              refine wa_aloadV_n (pc := 90) (y := mJ26_balanceInsertion) dJ26_balanceInsertion_90 rfl (by first | exact rf_s _ | exact rf_n | exact rf_q _) ?_
              refine wf_get (k := 14) (l := 11) 8 dJ26_balanceInsertion_91 (by assumption) rfl q1616 (Or.inl rfl) (Nat.le_of_ble_eq_true rfl) (Nat.le_of_ble_eq_true rfl) (by (repeat (first | exact updF_self _ _ _ _ | (apply updF_i; · decide) | (apply updF_a; · first | assumption | (apply Ne.symm; assumption) | omega) | (apply newF_a; · first | assumption | (apply Ne.symm; assumption) | omega) | exact newL_self (by rfl) | exact newF_self (by rfl) | (apply cpyF_a; · first | assumption | (apply Ne.symm; assumption) | omega))) <;> first | assumption | rfl) ?_
              refine wa_acneV (pc := 94) 123 dJ26_balanceInsertion_94 rfl (by first | exact rf_s _ | exact rf_n | exact rf_q _) (by first | exact rf_s _ | exact rf_n | exact rf_q _) (fun hb94 => ?_) (fun hb94 => ?_)
              · have hxl : L a11 = some x := by grind
                first | exact bi_left hd t2 tl3 hp.1 (fr.trans f2) e1 e2 e3 e4 | exact bi_left hd t tl hx fr hb11 hb34 hlr hxl
              · have hxl : R a11 = some x := hb94.symm
                refine wa_aloadV_n (pc := 97) (y := mJ26_balanceInsertion) dJ26_balanceInsertion_97 rfl (by first | exact rf_s _ | exact rf_n | exact rf_q _) ?_
                refine wa_aloadV_n (pc := 98) (y := mJ26_balanceInsertion) dJ26_balanceInsertion_98 rfl (by first | exact rf_s _ | exact rf_n | exact rf_q _) ?_
                refine wa_dup (pc := 99) (y := mJ26_balanceInsertion) dJ26_balanceInsertion_99 (by first | rfl | exact rf_cat _) ?_
                refine wa_astoreV_n (pc := 100) (y := mJ26_balanceInsertion) dJ26_balanceInsertion_100 (Nat.le_of_ble_eq_true rfl) (by first | rfl | (simp [okst, rf_cat] <;> assumption)) (by first | exact rf_s _ | exact rf_n | exact rf_q _) ?_
                change WA _ _ _ _ (List.set _ 1 _) _ _ _
                simp only [List.set_cons_zero, List.set_cons_succ]
                refine wa_callS (pc := 101) (s_rotL (d := d - 1) t tl hp.1 hxl) dJ26_balanceInsertion_101 okJ26_rotateLeft q1364 q1365 rfl rfl (Nat.le_of_ble_eq_true rfl) (Nat.le_of_ble_eq_true rfl) (by omega) ?_
                rintro _ _ - - ⟨root2, F2, L2, R2, P2, C2, lo2, hi2, rk2, M2, rfl, rfl, f2, t2, tl3, g1, g2, g3, g4, g5⟩
                refine aft_v (pc2 := 104) ?_ rfl
                have e1 : P2 a11 = some x := by rw [g3]; grind [upo, upq]
                have e2 : P2 x = some a34 := by rw [g3]; grind [upo, upq]
                have e3 : L2 a34 = some x := by rw [g1]; grind [upo, chd]
                have e4 : L2 x = some a11 := by rw [g1]; grind [upo, chd]
                obtain ⟨y1, y2, y3, y4, y5⟩ := tl3 _ hp.1
                obtain ⟨w1, w2, w3, w4, w5⟩ := tl3 _ hx
                rw [e1] at y2
                rw [e2] at w2
                refine wa_astoreV_n (pc := 104) (y := mJ26_balanceInsertion) dJ26_balanceInsertion_104 (Nat.le_of_ble_eq_true rfl) (by first | rfl | (simp [okst, rf_cat] <;> assumption)) (by first | exact rf_s _ | exact rf_n | exact rf_q _) ?_
                change WA _ _ _ _ (List.set _ 0 _) _ _ _
                simp only [List.set_cons_zero, List.set_cons_succ]
                refine wa_aloadV_n (pc := 105) (y := mJ26_balanceInsertion) dJ26_balanceInsertion_105 rfl (by first | exact rf_s _ | exact rf_n | exact rf_q _) ?_
                refine wf_get (k := 14) (l := 11) 6 dJ26_balanceInsertion_106 (by assumption) rfl q1614 (Or.inl rfl) (Nat.le_of_ble_eq_true rfl) (Nat.le_of_ble_eq_true rfl) (by (repeat (first | exact updF_self _ _ _ _ | (apply updF_i; · decide) | (apply updF_a; · first | assumption | (apply Ne.symm; assumption) | omega) | (apply newF_a; · first | assumption | (apply Ne.symm; assumption) | omega) | exact newL_self (by rfl) | exact newF_self (by rfl) | (apply cpyF_a; · first | assumption | (apply Ne.symm; assumption) | omega))) <;> first | assumption | rfl) ?_
                refine wa_dup (pc := 109) (y := mJ26_balanceInsertion) dJ26_balanceInsertion_109 (by first | rfl | exact rf_cat _) ?_
                refine wa_astoreV_n (pc := 110) (y := mJ26_balanceInsertion) dJ26_balanceInsertion_110 (Nat.le_of_ble_eq_true rfl) (by first | rfl | (simp [okst, rf_cat] <;> assumption)) (by first | exact rf_s _ | exact rf_n | exact rf_q _) ?_
                change WA _ _ _ _ (List.set _ 2 _) _ _ _
                simp only [List.set_cons_zero, List.set_cons_succ]
                refine wa_ifnonnull (pc := 111) (y := mJ26_balanceInsertion) 118 dJ26_balanceInsertion_111 rfl ?_
                refine wa_aloadV_n (pc := 118) (y := mJ26_balanceInsertion) dJ26_balanceInsertion_118 rfl (by first | exact rf_s _ | exact rf_n | exact rf_q _) ?_
                refine wf_get (k := 14) (l := 11) 6 dJ26_balanceInsertion_119 (by assumption) rfl q1614 (Or.inl rfl) (Nat.le_of_ble_eq_true rfl) (Nat.le_of_ble_eq_true rfl) (by (repeat (first | exact updF_self _ _ _ _ | (apply updF_i; · decide) | (apply updF_a; · first | assumption | (apply Ne.symm; assumption) | omega) | (apply newF_a; · first | assumption | (apply Ne.symm; assumption) | omega) | exact newL_self (by rfl) | exact newF_self (by rfl) | (apply cpyF_a; · first | assumption | (apply Ne.symm; assumption) | omega))) <;> first | assumption | rfl) ?_
                refine wa_astoreV_n (pc := 122) (y := mJ26_balanceInsertion) dJ26_balanceInsertion_122 (Nat.le_of_ble_eq_true rfl) (by first | rfl | (simp [okst, rf_cat] <;> assumption)) (by first | exact rf_s _ | exact rf_n | exact rf_q _) ?_
                change WA _ _ _ _ (List.set _ 3 _) _ _ _
                simp only [List.set_cons_zero, List.set_cons_succ]
                first | exact bi_left hd t2 tl3 hp.1 (fr.trans f2) e1 e2 e3 e4 | exact bi_left hd t tl hx fr hb11 hb34 hlr hxl
            · have hz := tq.2.2.2.1 _ hb57
              obtain ⟨z1, z2, z3, z4, z5⟩ := tl _ hz.1
              rw [hb57]
              refine wa_aloadV (pc := 60) (y := mJ26_balanceInsertion) dJ26_balanceInsertion_60 rfl (by first | exact rf_s _ | exact rf_n | exact rf_q _) ?_
              refine wf_get (k := 14) (l := 11) 10 dJ26_balanceInsertion_62 (by assumption) rfl q1619 (Or.inl rfl) (Nat.le_of_ble_eq_true rfl) (Nat.le_of_ble_eq_true rfl) (by (repeat (first | exact updF_self _ _ _ _ | (apply updF_i; · decide) | (apply updF_a; · first | assumption | (apply Ne.symm; assumption) | omega) | (apply newF_a; · first | assumption | (apply Ne.symm; assumption) | omega) | exact newL_self (by rfl) | exact newF_self (by rfl) | (apply cpyF_a; · first | assumption | (apply Ne.symm; assumption) | omega))) <;> first | assumption | rfl) ?_
              refine wa_if_eq (pc := 65) 89 dJ26_balanceInsertion_65 rfl (fun hb65 => ?_) (fun hb65 => ?_)
              · refine wa_aloadV_n (pc := 89) (y := mJ26_balanceInsertion) dJ26_balanceInsertion_89 rfl (by first | exact rf_s _ | exact rf_n | exact rf_q _) ?_
                refine wa_aloadV_n (pc := 90) (y := mJ26_balanceInsertion) dJ26_balanceInsertion_90 rfl (by first | exact rf_s _ | exact rf_n | exact rf_q _) ?_
                refine wf_get (k := 14) (l := 11) 8 dJ26_balanceInsertion_91 (by assumption) rfl q1616 (Or.inl rfl) (Nat.le_of_ble_eq_true rfl) (Nat.le_of_ble_eq_true rfl) (by (repeat (first | exact updF_self _ _ _ _ | (apply updF_i; · decide) | (apply updF_a; · first | assumption | (apply Ne.symm; assumption) | omega) | (apply newF_a; · first | assumption | (apply Ne.symm; assumption) | omega) | exact newL_self (by rfl) | exact newF_self (by rfl) | (apply cpyF_a; · first | assumption | (apply Ne.symm; assumption) | omega))) <;> first | assumption | rfl) ?_
                refine wa_acneV (pc := 94) 123 dJ26_balanceInsertion_94 rfl (by first | exact rf_s _ | exact rf_n | exact rf_q _) (by first | exact rf_s _ | exact rf_n | exact rf_q _) (fun hb94 => ?_) (fun hb94 => ?_)
                · have hxl : L a11 = some x := by grind
                  first | exact bi_left hd t2 tl3 hp.1 (fr.trans f2) e1 e2 e3 e4 | exact bi_left hd t tl hx fr hb11 hb34 hlr hxl
                · have hxl : R a11 = some x := hb94.symm
                  refine wa_aloadV_n (pc := 97) (y := mJ26_balanceInsertion) dJ26_balanceInsertion_97 rfl (by first | exact rf_s _ | exact rf_n | exact rf_q _) ?_
                  refine wa_aloadV_n (pc := 98) (y := mJ26_balanceInsertion) dJ26_balanceInsertion_98 rfl (by first | exact rf_s _ | exact rf_n | exact rf_q _) ?_
                  refine wa_dup (pc := 99) (y := mJ26_balanceInsertion) dJ26_balanceInsertion_99 (by first | rfl | exact rf_cat _) ?_
                  refine wa_astoreV_n (pc := 100) (y := mJ26_balanceInsertion) dJ26_balanceInsertion_100 (Nat.le_of_ble_eq_true rfl) (by first | rfl | (simp [okst, rf_cat] <;> assumption)) (by first | exact rf_s _ | exact rf_n | exact rf_q _) ?_
                  change WA _ _ _ _ (List.set _ 1 _) _ _ _
                  simp only [List.set_cons_zero, List.set_cons_succ]
                  refine wa_callS (pc := 101) (s_rotL (d := d - 1) t tl hp.1 hxl) dJ26_balanceInsertion_101 okJ26_rotateLeft q1364 q1365 rfl rfl (Nat.le_of_ble_eq_true rfl) (Nat.le_of_ble_eq_true rfl) (by omega) ?_
                  rintro _ _ - - ⟨root2, F2, L2, R2, P2, C2, lo2, hi2, rk2, M2, rfl, rfl, f2, t2, tl3, g1, g2, g3, g4, g5⟩
                  refine aft_v (pc2 := 104) ?_ rfl
                  have e1 : P2 a11 = some x := by rw [g3]; grind [upo, upq]
                  have e2 : P2 x = some a34 := by rw [g3]; grind [upo, upq]
                  have e3 : L2 a34 = some x := by rw [g1]; grind [upo, chd]
                  have e4 : L2 x = some a11 := by rw [g1]; grind [upo, chd]
                  obtain ⟨y1, y2, y3, y4, y5⟩ := tl3 _ hp.1
                  obtain ⟨w1, w2, w3, w4, w5⟩ := tl3 _ hx
                  rw [e1] at y2
                  rw [e2] at w2
                  refine wa_astoreV_n (pc := 104) (y := mJ26_balanceInsertion) dJ26_balanceInsertion_104 (Nat.le_of_ble_eq_true rfl) (by first | rfl | (simp [okst, rf_cat] <;> assumption)) (by first | exact rf_s _ | exact rf_n | exact rf_q _) ?_
                  change WA _ _ _ _ (List.set _ 0 _) _ _ _
                  simp only [List.set_cons_zero, List.set_cons_succ]
                  refine wa_aloadV_n (pc := 105) (y := mJ26_balanceInsertion) dJ26_balanceInsertion_105 rfl (by first | exact rf_s _ | exact rf_n | exact rf_q _) ?_
                  refine wf_get (k := 14) (l := 11) 6 dJ26_balanceInsertion_106 (by assumption) rfl q1614 (Or.inl rfl) (Nat.le_of_ble_eq_true rfl) (Nat.le_of_ble_eq_true rfl) (by (repeat (first | exact updF_self _ _ _ _ | (apply updF_i; · decide) | (apply updF_a; · first | assumption | (apply Ne.symm; assumption) | omega) | (apply newF_a; · first | assumption | (apply Ne.symm; assumption) | omega) | exact newL_self (by rfl) | exact newF_self (by rfl) | (apply cpyF_a; · first | assumption | (apply Ne.symm; assumption) | omega))) <;> first | assumption | rfl) ?_
                  refine wa_dup (pc := 109) (y := mJ26_balanceInsertion) dJ26_balanceInsertion_109 (by first | rfl | exact rf_cat _) ?_
                  refine wa_astoreV_n (pc := 110) (y := mJ26_balanceInsertion) dJ26_balanceInsertion_110 (Nat.le_of_ble_eq_true rfl) (by first | rfl | (simp [okst, rf_cat] <;> assumption)) (by first | exact rf_s _ | exact rf_n | exact rf_q _) ?_
                  change WA _ _ _ _ (List.set _ 2 _) _ _ _
                  simp only [List.set_cons_zero, List.set_cons_succ]
                  refine wa_ifnonnull (pc := 111) (y := mJ26_balanceInsertion) 118 dJ26_balanceInsertion_111 rfl ?_
                  refine wa_aloadV_n (pc := 118) (y := mJ26_balanceInsertion) dJ26_balanceInsertion_118 rfl (by first | exact rf_s _ | exact rf_n | exact rf_q _) ?_
                  refine wf_get (k := 14) (l := 11) 6 dJ26_balanceInsertion_119 (by assumption) rfl q1614 (Or.inl rfl) (Nat.le_of_ble_eq_true rfl) (Nat.le_of_ble_eq_true rfl) (by (repeat (first | exact updF_self _ _ _ _ | (apply updF_i; · decide) | (apply updF_a; · first | assumption | (apply Ne.symm; assumption) | omega) | (apply newF_a; · first | assumption | (apply Ne.symm; assumption) | omega) | exact newL_self (by rfl) | exact newF_self (by rfl) | (apply cpyF_a; · first | assumption | (apply Ne.symm; assumption) | omega))) <;> first | assumption | rfl) ?_
                  refine wa_astoreV_n (pc := 122) (y := mJ26_balanceInsertion) dJ26_balanceInsertion_122 (Nat.le_of_ble_eq_true rfl) (by first | rfl | (simp [okst, rf_cat] <;> assumption)) (by first | exact rf_s _ | exact rf_n | exact rf_q _) ?_
                  change WA _ _ _ _ (List.set _ 3 _) _ _ _
                  simp only [List.set_cons_zero, List.set_cons_succ]
                  first | exact bi_left hd t2 tl3 hp.1 (fr.trans f2) e1 e2 e3 e4 | exact bi_left hd t tl hx fr hb11 hb34 hlr hxl
              · refine wa_aloadV (pc := 68) (y := mJ26_balanceInsertion) dJ26_balanceInsertion_68 rfl (by first | exact rf_s _ | exact rf_n | exact rf_q _) ?_
                refine wa_iconst (pc := 70) (y := mJ26_balanceInsertion) (Int32.ofNat 0) dJ26_balanceInsertion_70 rfl ?_
                refine wf_put (k := 14) (l := 11) 10 .boolean dJ26_balanceInsertion_71 (by assumption) rfl q1619 (Or.inl rfl) (Nat.le_of_ble_eq_true rfl) rfl (by decide +kernel) (by first | rfl | exact bI_nar _) (by first | rfl | exact bI_fit _) ?_
                refine wa_aloadV_n (pc := 74) (y := mJ26_balanceInsertion) dJ26_balanceInsertion_74 rfl (by first | exact rf_s _ | exact rf_n | exact rf_q _) ?_
                refine wa_iconst (pc := 75) (y := mJ26_balanceInsertion) (Int32.ofNat 0) dJ26_balanceInsertion_75 rfl ?_
                refine wf_put (k := 14) (l := 11) 10 .boolean dJ26_balanceInsertion_76 (by assumption) rfl q1619 (Or.inl rfl) (Nat.le_of_ble_eq_true rfl) rfl (by decide +kernel) (by first | rfl | exact bI_nar _) (by first | rfl | exact bI_fit _) ?_
                refine wa_aloadV_n (pc := 79) (y := mJ26_balanceInsertion) dJ26_balanceInsertion_79 rfl (by first | exact rf_s _ | exact rf_n | exact rf_q _) ?_
                refine wa_iconst (pc := 80) (y := mJ26_balanceInsertion) (Int32.ofNat 1) dJ26_balanceInsertion_80 rfl ?_
                refine wf_put (k := 14) (l := 11) 10 .boolean dJ26_balanceInsertion_81 (by assumption) rfl q1619 (Or.inl rfl) (Nat.le_of_ble_eq_true rfl) rfl (by decide +kernel) (by first | rfl | exact bI_nar _) (by first | rfl | exact bI_fit _) ?_
                refine wa_aloadV_n (pc := 84) (y := mJ26_balanceInsertion) dJ26_balanceInsertion_84 rfl (by first | exact rf_s _ | exact rf_n | exact rf_q _) ?_
                refine wa_astoreV_n (pc := 85) (y := mJ26_balanceInsertion) dJ26_balanceInsertion_85 (Nat.le_of_ble_eq_true rfl) (by first | rfl | (simp [okst, rf_cat] <;> assumption)) (by first | exact rf_s _ | exact rf_n | exact rf_q _) ?_
                change WA _ _ _ _ (List.set _ 1 _) _ _ _
                simp only [List.set_cons_zero, List.set_cons_succ]
                refine wa_goto (pc := 86) (y := mJ26_balanceInsertion) 5 dJ26_balanceInsertion_86 rfl ?_
                exact ih t (((tl.red (b := false) _).red (b := false) _).red (b := true) _) hq.1 (((fr.upd hz.1 (by decide)).upd hp.1 (by decide)).upd hq.1 (by decide)) (by omega)
        · refine wa_aloadV_n (pc := 37) (y := mJ26_balanceInsertion) dJ26_balanceInsertion_37 rfl (by first | exact rf_s _ | exact rf_n | exact rf_q _) ?_
          refine wa_areturnV (pc := 38) (y := mJ26_balanceInsertion) (.object "java/util/HashMap$TreeNode") dJ26_balanceInsertion_38 rfl (Or.inl ⟨_, rfl⟩) (by first | exact rf_s _ | exact rf_n | exact rf_q _) ⟨_, _, rfl, rfl, fr, _, _, _, _, _, _, _, _, t, tl⟩
    · have hxr := (tx.2.1 hb11).1
      rw [hb11]
      refine wa_aloadV_n (pc := 14) (y := mJ26_balanceInsertion) dJ26_balanceInsertion_14 rfl (by first | exact rf_s _ | exact rf_n | exact rf_q _) ?_
      refine wa_iconst (pc := 15) (y := mJ26_balanceInsertion) (Int32.ofNat 0) dJ26_balanceInsertion_15 rfl ?_
      refine wf_put (k := 14) (l := 11) 10 .boolean dJ26_balanceInsertion_16 (by assumption) rfl q1619 (Or.inl rfl) (Nat.le_of_ble_eq_true rfl) rfl (by decide +kernel) (by first | rfl | exact bI_nar _) (by first | rfl | exact bI_fit _) ?_
      refine wa_aloadV_n (pc := 19) (y := mJ26_balanceInsertion) dJ26_balanceInsertion_19 rfl (by first | exact rf_s _ | exact rf_n | exact rf_q _) ?_
      refine wa_areturnV (pc := 20) (y := mJ26_balanceInsertion) (.object "java/util/HashMap$TreeNode") dJ26_balanceInsertion_20 rfl (Or.inl ⟨_, rfl⟩) (by first | exact rf_s _ | exact rf_n | exact rf_q _) ⟨_, _, by rw [hxr], rfl, fr.upd hx (by decide), _, _, _, _, _, _, _, _, t, tl.red (b := false) x⟩
theorem s_J26_balanceInsertion {x : Nat} (hd : 1 ≤ d) (t : T0 S key root L R P lo hi rk top M) (tl : TL h F S L R P C) (hx : S x) :
    MA G d mJ26_balanceInsertion [.ref root, .ref x] (sF h F) (BQ h F S key top) := by
  obtain ⟨x1, x2, x3, x4, x5⟩ := tl x hx
  change WA G d mJ26_balanceInsertion 0 [.ref root, .ref x, .retAddr 0, .retAddr 0, .retAddr 0, .retAddr 0] [] _ _
  refine wa_aloadV_n (pc := 0) (y := mJ26_balanceInsertion) dJ26_balanceInsertion_0 rfl (by first | exact rf_s _ | exact rf_n | exact rf_q _) ?_
  refine wa_iconst (pc := 1) (y := mJ26_balanceInsertion) (Int32.ofNat 1) dJ26_balanceInsertion_1 rfl ?_
  refine wf_put (k := 14) (l := 11) 10 .boolean dJ26_balanceInsertion_2 (by assumption) rfl q1619 (Or.inl rfl) (Nat.le_of_ble_eq_true rfl) rfl (by decide +kernel) (by first | rfl | exact bI_nar _) (by first | rfl | exact bI_fit _) ?_
  exact bi_loop hd _ t (tl.red (b := true) x) hx (TFr.refl.upd hx (by decide)) (Nat.le_refl _)
end TREE3
