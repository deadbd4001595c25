/-! ===== keys; TreeNode: root, find, getTreeNode ===== -/
/-- the key number x = 12 * cue + channel at q -/
def KeyAt (h : AH) (F : Nat → Nat → Value) (q x : Nat) : Prop := Is h q 4 2 ∧ F q 0 = .int (Int32.ofNat (x / 12)) ∧ F q 1 = .int (Int32.ofNat (x % 12)) ∧ x < 1200
/-- what a node holds: hash, key, value -/
def NK (h : AH) (F : Nat → Nat → Value) (p x : Nat) : Prop := F p 0 = .int (Int32.ofNat x) ∧ ∃ q, F p 1 = .ref q ∧ KeyAt h F q x
section FIND
variable {G : GG} {d n : Nat} {h h2 : AH} {F F2 F3 : Nat → Nat → Value} {S : Nat → Prop} {key : Nat → Nat} {root p q r x : Nat} {L R P : Nat → Option Nat} {C : Nat → Bool} {lo hi rk : Nat → Nat} {top M : Nat}
theorem s_X5_hashCode (K : KeyAt h F q x) : MA G d mX5_hashCode [.ref q] (sF h F) (fun r h' => r = .inl (some (.int (Int32.ofNat x))) ∧ h' = sF h F) := by
  obtain ⟨k1, k2, k3, k4⟩ := K
  change WA G d mX5_hashCode 0 [.ref q] [] _ _
  refine wa_bipush (pc := 0) (y := mX5_hashCode) (Int32.ofNat 12) dX5_hashCode_0 rfl ?_
  refine wa_aloadV_n (pc := 2) (y := mX5_hashCode) dX5_hashCode_2 rfl (by first | exact rf_s _ | exact rf_n | exact rf_q _) ?_
  refine wf_get (k := 4) (l := 2) 0 dX5_hashCode_3 (by assumption) rfl q435 (Or.inl rfl) (Nat.le_of_ble_eq_true rfl) (Nat.le_of_ble_eq_true rfl) (by (repeat (first | exact updF_self _ _ _ _ | (apply updF_i; · decide) | (apply updF_a; · first | assumption | (apply Ne.symm; assumption) | omega) | (apply newF_a; · first | assumption | (apply Ne.symm; assumption) | omega) | exact newL_self (by rfl) | exact newF_self (by rfl) | (apply cpyF_a; · first | assumption | (apply Ne.symm; assumption) | omega))) <;> first | assumption | rfl) ?_
  first | with_reducible refine wa_imulN (pc := 6) (y := mX5_hashCode) dX5_hashCode_6 ?_ | refine wa_imul (pc := 6) (y := mX5_hashCode) dX5_hashCode_6 ?_
  refine wa_aloadV_n (pc := 7) (y := mX5_hashCode) dX5_hashCode_7 rfl (by first | exact rf_s _ | exact rf_n | exact rf_q _) ?_
  refine wf_get (k := 4) (l := 2) 1 dX5_hashCode_8 (by assumption) rfl q438 (Or.inl rfl) (Nat.le_of_ble_eq_true rfl) (Nat.le_of_ble_eq_true rfl) (by (repeat (first | exact updF_self _ _ _ _ | (apply updF_i; · decide) | (apply updF_a; · first | assumption | (apply Ne.symm; assumption) | omega) | (apply newF_a; · first | assumption | (apply Ne.symm; assumption) | omega) | exact newL_self (by rfl) | exact newF_self (by rfl) | (apply cpyF_a; · first | assumption | (apply Ne.symm; assumption) | omega))) <;> first | assumption | rfl) ?_
  first | with_reducible refine wa_iaddN (pc := 11) (y := mX5_hashCode) dX5_hashCode_11 ?_ | refine wa_iadd (pc := 11) (y := mX5_hashCode) dX5_hashCode_11 ?_
  rw [Nat.div_add_mod x 12]
  refine wa_ireturn (pc := 12) (y := mX5_hashCode) .int dX5_hashCode_12 rfl rfl ⟨rfl, rfl⟩
theorem s_X5_equals {z w : Nat} (K : KeyAt h F q x) (K2 : KeyAt h F w z) : MA G d mX5_equals [.ref q, .ref w] (sF h F) (fun r h' => r = .inl (some (.int (bI (decide (x = z))))) ∧ h' = sF h F) := by
  obtain ⟨k1, k2, k3, k4⟩ := K
  obtain ⟨j1, j2, j3, j4⟩ := K2
  change WA G d mX5_equals 0 [.ref q, .ref w] [] _ _
  have n1 : ¬ Int32.ofNat (z / 12) = Int32.ofNat (x / 12) → x ≠ z := fun h e => h (by rw [e])
  have n2 : ¬ Int32.ofNat (z % 12) = Int32.ofNat (x % 12) → x ≠ z := fun h e => h (by rw [e])
  refine wa_aloadV_n (pc := 0) (y := mX5_equals) dX5_equals_0 rfl (by first | exact rf_s _ | exact rf_n | exact rf_q _) ?_
  refine wa_instS (pc := 1) (y := mX5_equals) (k := 4) dX5_equals_1 (sF_at (by assumption)) rfl q856 ?_
  refine wa_if_eq (pc := 4) 39 dX5_equals_4 rfl (fun hb4 => absurd hb4 (by decide)) (fun hb4 => ?_)
  refine wa_aloadV_n (pc := 7) (y := mX5_equals) dX5_equals_7 rfl (by first | exact rf_s _ | exact rf_n | exact rf_q _) ?_
  refine wa_castS (pc := 8) (y := mX5_equals) (k := 4) dX5_equals_8 (sF_at (by assumption)) rfl q856 ?_
  refine wf_get (k := 4) (l := 2) 0 dX5_equals_11 (by assumption) rfl q435 (Or.inl rfl) (Nat.le_of_ble_eq_true rfl) (Nat.le_of_ble_eq_true rfl) (by (repeat (first | exact updF_self _ _ _ _ | (apply updF_i; · decide) | (apply updF_a; · first | assumption | (apply Ne.symm; assumption) | omega) | (apply newF_a; · first | assumption | (apply Ne.symm; assumption) | omega) | exact newL_self (by rfl) | exact newF_self (by rfl) | (apply cpyF_a; · first | assumption | (apply Ne.symm; assumption) | omega))) <;> first | assumption | rfl) ?_
  refine wa_aloadV_n (pc := 14) (y := mX5_equals) dX5_equals_14 rfl (by first | exact rf_s _ | exact rf_n | exact rf_q _) ?_
  refine wf_get (k := 4) (l := 2) 0 dX5_equals_15 (by assumption) rfl q435 (Or.inl rfl) (Nat.le_of_ble_eq_true rfl) (Nat.le_of_ble_eq_true rfl) (by (repeat (first | exact updF_self _ _ _ _ | (apply updF_i; · decide) | (apply updF_a; · first | assumption | (apply Ne.symm; assumption) | omega) | (apply newF_a; · first | assumption | (apply Ne.symm; assumption) | omega) | exact newL_self (by rfl) | exact newF_self (by rfl) | (apply cpyF_a; · first | assumption | (apply Ne.symm; assumption) | omega))) <;> first | assumption | rfl) ?_
  refine wa_icmp_ne (pc := 18) 39 dX5_equals_18 rfl (fun hb18 => ?_) (fun hb18 => ?_)
  · refine wa_iconst (pc := 39) (y := mX5_equals) (Int32.ofNat 0) dX5_equals_39 rfl ?_
    refine wa_ireturn (pc := 40) (y := mX5_equals) .boolean dX5_equals_40 rfl (by first | rfl | exact bI_nar _) (by first | exact ⟨by rw [decide_eq_false (n1 hb18)]; rfl, rfl⟩ | exact ⟨by rw [decide_eq_false (n2 hb32)]; rfl, rfl⟩ | exact ⟨by rw [decide_eq_true (show x = z by have e1 := (iN_eq (by omega) (by omega)).mp hb18; have e2 := (iN_eq (by omega) (by omega)).mp hb32; omega)]; rfl, rfl⟩)
  · refine wa_aloadV_n (pc := 21) (y := mX5_equals) dX5_equals_21 rfl (by first | exact rf_s _ | exact rf_n | exact rf_q _) ?_
    refine wa_castS (pc := 22) (y := mX5_equals) (k := 4) dX5_equals_22 (sF_at (by assumption)) rfl q856 ?_
    refine wf_get (k := 4) (l := 2) 1 dX5_equals_25 (by assumption) rfl q438 (Or.inl rfl) (Nat.le_of_ble_eq_true rfl) (Nat.le_of_ble_eq_true rfl) (by (repeat (first | exact updF_self _ _ _ _ | (apply updF_i; · decide) | (apply updF_a; · first | assumption | (apply Ne.symm; assumption) | omega) | (apply newF_a; · first | assumption | (apply Ne.symm; assumption) | omega) | exact newL_self (by rfl) | exact newF_self (by rfl) | (apply cpyF_a; · first | assumption | (apply Ne.symm; assumption) | omega))) <;> first | assumption | rfl) ?_
    refine wa_aloadV_n (pc := 28) (y := mX5_equals) dX5_equals_28 rfl (by first | exact rf_s _ | exact rf_n | exact rf_q _) ?_
    refine wf_get (k := 4) (l := 2) 1 dX5_equals_29 (by assumption) rfl q438 (Or.inl rfl) (Nat.le_of_ble_eq_true rfl) (Nat.le_of_ble_eq_true rfl) (by (repeat (first | exact updF_self _ _ _ _ | (apply updF_i; · decide) | (apply updF_a; · first | assumption | (apply Ne.symm; assumption) | omega) | (apply newF_a; · first | assumption | (apply Ne.symm; assumption) | omega) | exact newL_self (by rfl) | exact newF_self (by rfl) | (apply cpyF_a; · first | assumption | (apply Ne.symm; assumption) | omega))) <;> first | assumption | rfl) ?_
    refine wa_icmp_ne (pc := 32) 39 dX5_equals_32 rfl (fun hb32 => ?_) (fun hb32 => ?_)
    · refine wa_iconst (pc := 39) (y := mX5_equals) (Int32.ofNat 0) dX5_equals_39 rfl ?_
      refine wa_ireturn (pc := 40) (y := mX5_equals) .boolean dX5_equals_40 rfl (by first | rfl | exact bI_nar _) (by first | exact ⟨by rw [decide_eq_false (n1 hb18)]; rfl, rfl⟩ | exact ⟨by rw [decide_eq_false (n2 hb32)]; rfl, rfl⟩ | exact ⟨by rw [decide_eq_true (show x = z by have e1 := (iN_eq (by omega) (by omega)).mp hb18; have e2 := (iN_eq (by omega) (by omega)).mp hb32; omega)]; rfl, rfl⟩)
    · refine wa_iconst (pc := 35) (y := mX5_equals) (Int32.ofNat 1) dX5_equals_35 rfl ?_
      refine wa_goto (pc := 36) (y := mX5_equals) 40 dX5_equals_36 rfl ?_
      refine wa_ireturn (pc := 40) (y := mX5_equals) .boolean dX5_equals_40 rfl (by first | rfl | exact bI_nar _) (by first | exact ⟨by rw [decide_eq_false (n1 hb18)]; rfl, rfl⟩ | exact ⟨by rw [decide_eq_false (n2 hb32)]; rfl, rfl⟩ | exact ⟨by rw [decide_eq_true (show x = z by have e1 := (iN_eq (by omega) (by omega)).mp hb18; have e2 := (iN_eq (by omega) (by omega)).mp hb32; omega)]; rfl, rfl⟩)
theorem s_J4_hash (hd : 1 ≤ d) (K : KeyAt h F q x) : MA G d mJ4_hash [.ref q] (sF h F) (fun r h' => r = .inl (some (.int (Int32.ofNat x))) ∧ h' = sF h F) := by
  have K9 := K
  obtain ⟨k1, k2, k3, k4⟩ := K
  change WA G d mJ4_hash 0 [.ref q, .retAddr 0] [] _ _
  refine wa_aloadV_n (pc := 0) (y := mJ4_hash) dJ4_hash_0 rfl (by first | exact rf_s _ | exact rf_n | exact rf_q _) ?_
  refine wa_ifnonnull (pc := 1) (y := mJ4_hash) 8 dJ4_hash_1 rfl ?_
  refine wa_aloadV_n (pc := 8) (y := mJ4_hash) dJ4_hash_8 rfl (by first | exact rf_s _ | exact rf_n | exact rf_q _) ?_
  refine wa_callW (k := 4) (pc := 9) (owner := "java/lang/Object") (s_X5_hashCode (d := d - 1) K9) dJ4_hash_9 okX5_hashCode rfl q459 q461 (hDc_decl q458) (by decide) q468 q469 (sF_at (by assumption)) rfl rfl rfl rfl (Nat.le_of_ble_eq_true rfl) (Nat.le_of_ble_eq_true rfl) (by omega) ?_
  rintro _ _ - - ⟨rfl, rfl⟩
  refine aft_v (pc2 := 12) ?_ rfl
  refine wa_dup (pc := 12) (y := mJ4_hash) dJ4_hash_12 (by first | rfl | exact rf_cat _) ?_
  refine wa_istore_n (pc := 13) (y := mJ4_hash) dJ4_hash_13 (Nat.le_of_ble_eq_true rfl) (by first | rfl | (simp [okst, rf_cat] <;> assumption)) ?_
  change WA _ _ _ _ (List.set _ 1 _) _ _ _
  simp only [List.set_cons_zero, List.set_cons_succ]
  refine wa_iload_n (pc := 14) (y := mJ4_hash) dJ4_hash_14 rfl ?_
  refine wa_bipush (pc := 15) (y := mJ4_hash) (Int32.ofNat 16) dJ4_hash_15 rfl ?_
  refine wa_iushr (pc := 17) (y := mJ4_hash) dJ4_hash_17 ?_
  rw [iN_ushr (by omega) (by omega)]
  refine wa_ixor (pc := 18) (y := mJ4_hash) dJ4_hash_18 ?_
  rw [iN_xor, show x / 2 ^ 16 = 0 from by omega, Nat.xor_zero]
  refine wa_ireturn (pc := 19) (y := mJ4_hash) .int dJ4_hash_19 rfl rfl ⟨rfl, rfl⟩
theorem s_J26_root (t : T0 S key root L R P lo hi rk top M) (tl : TL h F S L R P C) (hp : S p) : MA G d mJ26_root [.ref p] (sF h F) (fun r h' => r = .inl (some (.ref root)) ∧ h' = sF h F) := by
  have loop : ∀ (n p : Nat), S p → rk p ≤ n → WA G d mJ26_root 2 [.ref p, .ref p, .retAddr 0] [] (sF h F) (fun r h' => r = .inl (some (.ref root)) ∧ h' = sF h F) → True := fun _ _ _ _ _ => trivial
  clear loop
  have loop : ∀ (n p v : Nat) (w : Value), S p → rk p ≤ n → WA G d mJ26_root 2 [.ref v, .ref p, w] [] (sF h F) (fun r h' => r = .inl (some (.ref root)) ∧ h' = sF h F) := by
    intro n
    induction n with
    | zero =>
      intro p v w hp hn
      obtain ⟨p1, p2, p3, p4, p5⟩ := tl p hp
      have hn0 : P p = none := by
        cases e : P p with
        | none => rfl
        | some z => have := t.up hp e; omega
      have hr := ((t.2 p hp).2.1 hn0).1
      subst hr
      rw [hn0] at p2
      refine wa_aloadV_n (pc := 2) (y := mJ26_root) dJ26_root_2 rfl (by first | exact rf_s _ | exact rf_n | exact rf_q _) ?_
      refine wf_get (k := 14) (l := 11) 6 dJ26_root_3 (by assumption) rfl q1614 (Or.inl rfl) (Nat.le_of_ble_eq_true rfl) (Nat.le_of_ble_eq_true rfl) (by (repeat (first | exact updF_self _ _ _ _ | (apply updF_i; · decide) | (apply updF_a; · first | assumption | (apply Ne.symm; assumption) | omega) | (apply newF_a; · first | assumption | (apply Ne.symm; assumption) | omega) | exact newL_self (by rfl) | exact newF_self (by rfl) | (apply cpyF_a; · first | assumption | (apply Ne.symm; assumption) | omega))) <;> first | assumption | rfl) ?_
      refine wa_dup (pc := 6) (y := mJ26_root) dJ26_root_6 (by first | rfl | exact rf_cat _) ?_
      refine wa_astoreV_n (pc := 7) (y := mJ26_root) dJ26_root_7 (Nat.le_of_ble_eq_true rfl) (by first | rfl | (simp [okst, rf_cat] <;> assumption)) (by first | exact rf_s _ | exact rf_n | exact rf_q _) ?_
      change WA _ _ _ _ (List.set _ 2 _) _ _ _
      simp only [List.set_cons_zero, List.set_cons_succ]
      refine wa_ifnonnullN (pc := 8) (y := mJ26_root) dJ26_root_8 ?_
      refine wa_aloadV_n (pc := 11) (y := mJ26_root) dJ26_root_11 rfl (by first | exact rf_s _ | exact rf_n | exact rf_q _) ?_
      refine wa_areturnV (pc := 12) (y := mJ26_root) (.object "java/util/HashMap$TreeNode") dJ26_root_12 rfl (Or.inl ⟨_, rfl⟩) (by first | exact rf_s _ | exact rf_n | exact rf_q _) ⟨rfl, rfl⟩
    | succ n ih =>
      intro p v w hp hn
      obtain ⟨p1, p2, p3, p4, p5⟩ := tl p hp
      refine wa_aloadV_n (pc := 2) (y := mJ26_root) dJ26_root_2 rfl (by first | exact rf_s _ | exact rf_n | exact rf_q _) ?_
      refine wf_get (k := 14) (l := 11) 6 dJ26_root_3 (by assumption) rfl q1614 (Or.inl rfl) (Nat.le_of_ble_eq_true rfl) (Nat.le_of_ble_eq_true rfl) (by (repeat (first | exact updF_self _ _ _ _ | (apply updF_i; · decide) | (apply updF_a; · first | assumption | (apply Ne.symm; assumption) | omega) | (apply newF_a; · first | assumption | (apply Ne.symm; assumption) | omega) | exact newL_self (by rfl) | exact newF_self (by rfl) | (apply cpyF_a; · first | assumption | (apply Ne.symm; assumption) | omega))) <;> first | assumption | rfl) ?_
      refine wa_dup (pc := 6) (y := mJ26_root) dJ26_root_6 (by first | rfl | exact rf_cat _) ?_
      refine wa_astoreV_n (pc := 7) (y := mJ26_root) dJ26_root_7 (Nat.le_of_ble_eq_true rfl) (by first | rfl | (simp [okst, rf_cat] <;> assumption)) (by first | exact rf_s _ | exact rf_n | exact rf_q _) ?_
      change WA _ _ _ _ (List.set _ 2 _) _ _ _
      simp only [List.set_cons_zero, List.set_cons_succ]
      refine wa_ifnonnullV (pc := 8) 13 dJ26_root_8 rfl (by first | exact rf_s _ | exact rf_n | exact rf_q _) (fun a8 hb8 => ?_) (fun hb8 => ?_)
      · obtain ⟨hz, hrk, -, -⟩ := t.up hp hb8
        rw [hb8]
        refine wa_aloadV_n (pc := 13) (y := mJ26_root) dJ26_root_13 rfl (by first | exact rf_s _ | exact rf_n | exact rf_q _) ?_
        refine wa_astoreV_n (pc := 14) (y := mJ26_root) dJ26_root_14 (Nat.le_of_ble_eq_true rfl) (by first | rfl | (simp [okst, rf_cat] <;> assumption)) (by first | exact rf_s _ | exact rf_n | exact rf_q _) ?_
        change WA _ _ _ _ (List.set _ 1 _) _ _ _
        simp only [List.set_cons_zero, List.set_cons_succ]
        refine wa_goto (pc := 15) (y := mJ26_root) 2 dJ26_root_15 rfl ?_
        exact ih _ _ _ hz (by omega)
      · have hr := ((t.2 p hp).2.1 hb8).1
        subst hr
        rw [hb8]
        refine wa_aloadV_n (pc := 11) (y := mJ26_root) dJ26_root_11 rfl (by first | exact rf_s _ | exact rf_n | exact rf_q _) ?_
        refine wa_areturnV (pc := 12) (y := mJ26_root) (.object "java/util/HashMap$TreeNode") dJ26_root_12 rfl (Or.inl ⟨_, rfl⟩) (by first | exact rf_s _ | exact rf_n | exact rf_q _) ⟨rfl, rfl⟩
  change WA G d mJ26_root 0 [.ref p, .retAddr 0, .retAddr 0] [] _ _
  refine wa_aloadV_n (pc := 0) (y := mJ26_root) dJ26_root_0 rfl (by first | exact rf_s _ | exact rf_n | exact rf_q _) ?_
  refine wa_astoreV_n (pc := 1) (y := mJ26_root) dJ26_root_1 (Nat.le_of_ble_eq_true rfl) (by first | rfl | (simp [okst, rf_cat] <;> assumption)) (by first | exact rf_s _ | exact rf_n | exact rf_q _) ?_
  change WA _ _ _ _ (List.set _ 1 _) _ _ _
  simp only [List.set_cons_zero, List.set_cons_succ]
  exact loop _ _ _ _ hp (Nat.le_refl _)
/-- who is found: the one of the key x -/
def FndQ (S : Nat → Prop) (key : Nat → Nat) (x : Nat) (h0 : AH) (r : RR) (h' : AH) : Prop := ∃ o : Option Nat, r = .inl (some (va_rf o)) ∧ h' = h0 ∧ (∀ q, o = some q → S q ∧ key q = x) ∧ (o = none → ∀ q, S q → key q ≠ x)
theorem s_J26_find {k : Nat} (hd : 1 ≤ d) (t : T0 S key root L R P lo hi rk top M) (tl : TL h F S L R P C) (hinj : ∀ a b, S a → S b → key a = key b → a = b) (nk : ∀ p, S p → NK h F p (key p)) (K : KeyAt h F k x) (hp : S p) (h1 : lo p ≤ x) (h2 : x < hi p) :
    MA G d mJ26_find [.ref p, .int (Int32.ofNat x), .ref k, .null] (sF h F) (FndQ S key x (sF h F)) := by
  have hx := K.2.2.2
  have K1 := K.1
  have loop : ∀ (n p2 : Nat) (v5 v6 v7 v8 v9 v10 : Value), v6.category = 1 → v7.category = 1 → S p2 → M - rk p2 < n → lo p2 ≤ x → x < hi p2 →
      WA G d mJ26_find 3 [.ref p, .int (Int32.ofNat x), .ref k, .null, .ref p2, v5, v6, v7, v8, v9, v10] [] (sF h F) (FndQ S key x (sF h F)) := by
    intro n
    induction n with
    | zero => exact fun p2 v5 v6 v7 v8 v9 v10 c6 c7 hp2 hn => absurd hn (Nat.not_lt_zero _)
    | succ n ih =>
      intro p2 v5 v6 v7 v8 v9 v10 c6 c7 hp2 hn g1 g2
      obtain ⟨p1, p2', p3, p4, p5⟩ := tl p2 hp2
      have tp := t.2 p2 hp2
      obtain ⟨f0, kq, f1, fK⟩ := nk p2 hp2
      have fk := fK.2.2.2
      have down : ∀ q, S q → key q = x → p2 = q ∨ (x < key p2 ∧ ∃ c, L p2 = some c ∧ lo c ≤ x ∧ x < hi c) ∨ (key p2 < x ∧ ∃ c, R p2 = some c ∧ lo c ≤ x ∧ x < hi c) := fun q hq e => by
        have := t.down hp2 hq (by omega) (by omega) hinj
        rw [e] at this
        exact this
      refine wa_aloadV (pc := 3) (y := mJ26_find) dJ26_find_3 rfl (by first | exact rf_s _ | exact rf_n | exact rf_q _) ?_
      refine wf_get (k := 14) (l := 11) 7 dJ26_find_5 (by assumption) rfl q1615 (Or.inl rfl) (Nat.le_of_ble_eq_true rfl) (Nat.le_of_ble_eq_true rfl) (by (repeat (first | exact updF_self _ _ _ _ | (apply updF_i; · decide) | (apply updF_a; · first | assumption | (apply Ne.symm; assumption) | omega) | (apply newF_a; · first | assumption | (apply Ne.symm; assumption) | omega) | exact newL_self (by rfl) | exact newF_self (by rfl) | (apply cpyF_a; · first | assumption | (apply Ne.symm; assumption) | omega))) <;> first | assumption | rfl) ?_
      refine wa_astoreV (pc := 8) (y := mJ26_find) dJ26_find_8 (Nat.le_of_ble_eq_true rfl) (by first | rfl | (simp [okst, rf_cat] <;> assumption)) (by first | exact rf_s _ | exact rf_n | exact rf_q _) ?_
      simp only [List.set_cons_zero, List.set_cons_succ]
      refine wa_aloadV (pc := 10) (y := mJ26_find) dJ26_find_10 rfl (by first | exact rf_s _ | exact rf_n | exact rf_q _) ?_
      refine wf_get (k := 14) (l := 11) 8 dJ26_find_12 (by assumption) rfl q1616 (Or.inl rfl) (Nat.le_of_ble_eq_true rfl) (Nat.le_of_ble_eq_true rfl) (by (repeat (first | exact updF_self _ _ _ _ | (apply updF_i; · decide) | (apply updF_a; · first | assumption | (apply Ne.symm; assumption) | omega) | (apply newF_a; · first | assumption | (apply Ne.symm; assumption) | omega) | exact newL_self (by rfl) | exact newF_self (by rfl) | (apply cpyF_a; · first | assumption | (apply Ne.symm; assumption) | omega))) <;> first | assumption | rfl) ?_
      refine wa_astoreV (pc := 15) (y := mJ26_find) dJ26_find_15 (Nat.le_of_ble_eq_true rfl) (by first | rfl | (simp [okst, rf_cat] <;> assumption)) (by first | exact rf_s _ | exact rf_n | exact rf_q _) ?_
      simp only [List.set_cons_zero, List.set_cons_succ]
      refine wa_aloadV (pc := 17) (y := mJ26_find) dJ26_find_17 rfl (by first | exact rf_s _ | exact rf_n | exact rf_q _) ?_
      refine wf_get (k := 14) (l := 11) 0 dJ26_find_19 (by assumption) rfl q1314 (Or.inr q1315) (Nat.le_of_ble_eq_true rfl) (Nat.le_of_ble_eq_true rfl) (by (repeat (first | exact updF_self _ _ _ _ | (apply updF_i; · decide) | (apply updF_a; · first | assumption | (apply Ne.symm; assumption) | omega) | (apply newF_a; · first | assumption | (apply Ne.symm; assumption) | omega) | exact newL_self (by rfl) | exact newF_self (by rfl) | (apply cpyF_a; · first | assumption | (apply Ne.symm; assumption) | omega))) <;> first | assumption | rfl) ?_
      refine wa_dup (pc := 22) (y := mJ26_find) dJ26_find_22 (by first | rfl | exact rf_cat _) ?_
      refine wa_istore (pc := 23) (y := mJ26_find) dJ26_find_23 (Nat.le_of_ble_eq_true rfl) (by first | rfl | (simp [okst, rf_cat] <;> assumption)) ?_
      simp only [List.set_cons_zero, List.set_cons_succ]
      refine wa_iload_n (pc := 25) (y := mJ26_find) dJ26_find_25 rfl ?_
      refine wa_icmp_le (pc := 26) 36 dJ26_find_26 rfl (fun hb26 => ?_) (fun hb26 => ?_)
      · have hb2 := (iN_le (by omega) (by omega)).mp hb26
        refine wa_iload (pc := 36) (y := mJ26_find) dJ26_find_36 rfl ?_
        refine wa_iload_n (pc := 38) (y := mJ26_find) dJ26_find_38 rfl ?_
        refine wa_icmp_ge (pc := 39) 49 dJ26_find_39 rfl (fun hb39 => ?_) (fun hb39 => ?_)
        · have hb3 := (iN_le (by omega) (by omega)).mp hb39
          refine wa_aloadV (pc := 49) (y := mJ26_find) dJ26_find_49 rfl (by first | exact rf_s _ | exact rf_n | exact rf_q _) ?_
          refine wf_get (k := 14) (l := 11) 1 dJ26_find_51 (by assumption) rfl q1321 (Or.inr q1322) (Nat.le_of_ble_eq_true rfl) (Nat.le_of_ble_eq_true rfl) (by (repeat (first | exact updF_self _ _ _ _ | (apply updF_i; · decide) | (apply updF_a; · first | assumption | (apply Ne.symm; assumption) | omega) | (apply newF_a; · first | assumption | (apply Ne.symm; assumption) | omega) | exact newL_self (by rfl) | exact newF_self (by rfl) | (apply cpyF_a; · first | assumption | (apply Ne.symm; assumption) | omega))) <;> first | assumption | rfl) ?_
          refine wa_dup (pc := 54) (y := mJ26_find) dJ26_find_54 (by first | rfl | exact rf_cat _) ?_
          refine wa_astoreV (pc := 55) (y := mJ26_find) dJ26_find_55 (Nat.le_of_ble_eq_true rfl) (by first | rfl | (simp [okst, rf_cat] <;> assumption)) (by first | exact rf_s _ | exact rf_n | exact rf_q _) ?_
          simp only [List.set_cons_zero, List.set_cons_succ]
          refine wa_aloadV_n (pc := 57) (y := mJ26_find) dJ26_find_57 rfl (by first | exact rf_s _ | exact rf_n | exact rf_q _) ?_
          refine wa_aceqV (pc := 58) 74 dJ26_find_58 rfl (by first | exact rf_s _ | exact rf_n | exact rf_q _) (by first | exact rf_s _ | exact rf_n | exact rf_q _) (fun hb58 => ?_) (fun hb58 => ?_)
          · refine wa_aloadV (pc := 74) (y := mJ26_find) dJ26_find_74 rfl (by first | exact rf_s _ | exact rf_n | exact rf_q _) ?_
            refine wa_areturnV (pc := 76) (y := mJ26_find) (.object "java/util/HashMap$TreeNode") dJ26_find_76 rfl (Or.inl ⟨_, rfl⟩) (by first | exact rf_s _ | exact rf_n | exact rf_q _) ⟨some p2, rfl, rfl, fun q e => (by cases e; exact ⟨hp2, by omega⟩), fun e => by cases e⟩
          · refine wa_aloadV_n (pc := 61) (y := mJ26_find) dJ26_find_61 rfl (by first | exact rf_s _ | exact rf_n | exact rf_q _) ?_
            refine wa_ifnull (pc := 62) (y := mJ26_find) dJ26_find_62 ?_
            refine wa_aloadV_n (pc := 65) (y := mJ26_find) dJ26_find_65 rfl (by first | exact rf_s _ | exact rf_n | exact rf_q _) ?_
            refine wa_aloadV (pc := 66) (y := mJ26_find) dJ26_find_66 rfl (by first | exact rf_s _ | exact rf_n | exact rf_q _) ?_
            refine wa_callW (k := 4) (pc := 68) (owner := "java/lang/Object") (s_X5_equals (d := d - 1) K fK) dJ26_find_68 okX5_equals rfl q892 q846 (hDc_code q845 q878) (by decide) q853 q854 (sF_at (by assumption)) rfl rfl rfl rfl (Nat.le_of_ble_eq_true rfl) (Nat.le_of_ble_eq_true rfl) (by omega) ?_
            rintro _ _ - - ⟨rfl, rfl⟩
            refine aft_v (pc2 := 71) ?_ rfl
            refine wa_if_eq (pc := 71) 77 dJ26_find_71 rfl (fun hb71 => absurd (bI_0.mp hb71) (by simp; omega)) (fun hb71 => ?_)
            refine wa_aloadV (pc := 74) (y := mJ26_find) dJ26_find_74 rfl (by first | exact rf_s _ | exact rf_n | exact rf_q _) ?_
            refine wa_areturnV (pc := 76) (y := mJ26_find) (.object "java/util/HashMap$TreeNode") dJ26_find_76 rfl (Or.inl ⟨_, rfl⟩) (by first | exact rf_s _ | exact rf_n | exact rf_q _) ⟨some p2, rfl, rfl, fun q e => (by cases e; exact ⟨hp2, by omega⟩), fun e => by cases e⟩
        · have hb1 : key p2 < x := Nat.lt_of_not_le fun q => hb39 ((iN_le (by omega) (by omega)).mpr q)
          refine wa_aloadV (pc := 42) (y := mJ26_find) dJ26_find_42 rfl (by first | exact rf_s _ | exact rf_n | exact rf_q _) ?_
          refine wa_astoreV (pc := 44) (y := mJ26_find) dJ26_find_44 (Nat.le_of_ble_eq_true rfl) (by first | rfl | (simp [okst, rf_cat] <;> assumption)) (by first | exact rf_s _ | exact rf_n | exact rf_q _) ?_
          simp only [List.set_cons_zero, List.set_cons_succ]
          refine wa_goto (pc := 46) (y := mJ26_find) 165 dJ26_find_46 rfl ?_
          refine wa_aloadV (pc := 165) (y := mJ26_find) dJ26_find_165 rfl (by first | exact rf_s _ | exact rf_n | exact rf_q _) ?_
          refine wa_ifnonnullV (pc := 167) 3 dJ26_find_167 rfl (by first | exact rf_s _ | exact rf_n | exact rf_q _) (fun a167 hb167 => ?_) (fun hb167 => ?_)
          · rw [hb167]
            first | (have hc := tp.2.2.1 _ hb167; have hc2 := t.2 _ hc.1; exact ih _ _ _ _ _ _ _ c6 c7 hc.1 (by omega) (by omega) (by omega)) | (have hc := tp.2.2.2.1 _ hb167; have hc2 := t.2 _ hc.1; exact ih _ _ _ _ _ _ _ c6 c7 hc.1 (by omega) (by omega) (by omega))
          · rw [hb167]
            refine wa_null (pc := 170) (y := mJ26_find) dJ26_find_170 ?_
            refine wa_areturnV (pc := 171) (y := mJ26_find) (.object "java/util/HashMap$TreeNode") dJ26_find_171 rfl (Or.inl ⟨_, rfl⟩) (by first | exact rf_s _ | exact rf_n | exact rf_q _) ⟨none, rfl, rfl, fun q e => (by cases e), fun _ q hq e => by rcases down q hq e with rfl | ⟨e1, c, e2, -⟩ | ⟨e1, c, e2, -⟩ <;> first | omega | (rw [hb167] at e2; cases e2)⟩
      · have hb1 : x < key p2 := Nat.lt_of_not_le fun q => hb26 ((iN_le (by omega) (by omega)).mpr q)
        refine wa_aloadV (pc := 29) (y := mJ26_find) dJ26_find_29 rfl (by first | exact rf_s _ | exact rf_n | exact rf_q _) ?_
        refine wa_astoreV (pc := 31) (y := mJ26_find) dJ26_find_31 (Nat.le_of_ble_eq_true rfl) (by first | rfl | (simp [okst, rf_cat] <;> assumption)) (by first | exact rf_s _ | exact rf_n | exact rf_q _) ?_
        simp only [List.set_cons_zero, List.set_cons_succ]
        refine wa_goto (pc := 33) (y := mJ26_find) 165 dJ26_find_33 rfl ?_
        refine wa_aloadV (pc := 165) (y := mJ26_find) dJ26_find_165 rfl (by first | exact rf_s _ | exact rf_n | exact rf_q _) ?_
        refine wa_ifnonnullV (pc := 167) 3 dJ26_find_167 rfl (by first | exact rf_s _ | exact rf_n | exact rf_q _) (fun a167 hb167 => ?_) (fun hb167 => ?_)
        · rw [hb167]
          first | (have hc := tp.2.2.1 _ hb167; have hc2 := t.2 _ hc.1; exact ih _ _ _ _ _ _ _ c6 c7 hc.1 (by omega) (by omega) (by omega)) | (have hc := tp.2.2.2.1 _ hb167; have hc2 := t.2 _ hc.1; exact ih _ _ _ _ _ _ _ c6 c7 hc.1 (by omega) (by omega) (by omega))
        · rw [hb167]
          refine wa_null (pc := 170) (y := mJ26_find) dJ26_find_170 ?_
          refine wa_areturnV (pc := 171) (y := mJ26_find) (.object "java/util/HashMap$TreeNode") dJ26_find_171 rfl (Or.inl ⟨_, rfl⟩) (by first | exact rf_s _ | exact rf_n | exact rf_q _) ⟨none, rfl, rfl, fun q e => (by cases e), fun _ q hq e => by rcases down q hq e with rfl | ⟨e1, c, e2, -⟩ | ⟨e1, c, e2, -⟩ <;> first | omega | (rw [hb167] at e2; cases e2)⟩
  change WA G d mJ26_find 0 [.ref p, .int (Int32.ofNat x), .ref k, .null, .retAddr 0, .retAddr 0, .retAddr 0, .retAddr 0, .retAddr 0, .retAddr 0, .retAddr 0] [] _ _
  refine wa_aloadV_n (pc := 0) (y := mJ26_find) dJ26_find_0 rfl (by first | exact rf_s _ | exact rf_n | exact rf_q _) ?_
  refine wa_astoreV (pc := 1) (y := mJ26_find) dJ26_find_1 (Nat.le_of_ble_eq_true rfl) (by first | rfl | (simp [okst, rf_cat] <;> assumption)) (by first | exact rf_s _ | exact rf_n | exact rf_q _) ?_
  simp only [List.set_cons_zero, List.set_cons_succ]
  exact loop _ _ _ _ _ _ _ _ rfl rfl hp (Nat.lt_succ_self _) h1 h2
theorem s_J26_getTreeNode {k : Nat} (hd : 2 ≤ d) (t : T0 S key root L R P lo hi rk top M) (tl : TL h F S L R P C) (hinj : ∀ a b, S a → S b → key a = key b → a = b) (nk : ∀ p, S p → NK h F p (key p)) (K : KeyAt h F k x) (hp : S p) (h2 : x < top) :
    MA G d mJ26_getTreeNode [.ref p, .int (Int32.ofNat x), .ref k] (sF h F) (FndQ S key x (sF h F)) := by
  obtain ⟨p1, p2', p3, p4, p5⟩ := tl p hp
  have tr := t.2 root t.1.1
  have hr := tr.2.1 t.1.2
  obtain ⟨r1, r2, r3, r4, r5⟩ := tl root t.1.1
  change WA G d mJ26_getTreeNode 0 [.ref p, .int (Int32.ofNat x), .ref k] [] _ _
  refine wa_aloadV_n (pc := 0) (y := mJ26_getTreeNode) dJ26_getTreeNode_0 rfl (by first | exact rf_s _ | exact rf_n | exact rf_q _) ?_
  refine wf_get (k := 14) (l := 11) 6 dJ26_getTreeNode_1 (by assumption) rfl q1614 (Or.inl rfl) (Nat.le_of_ble_eq_true rfl) (Nat.le_of_ble_eq_true rfl) (by (repeat (first | exact updF_self _ _ _ _ | (apply updF_i; · decide) | (apply updF_a; · first | assumption | (apply Ne.symm; assumption) | omega) | (apply newF_a; · first | assumption | (apply Ne.symm; assumption) | omega) | exact newL_self (by rfl) | exact newF_self (by rfl) | (apply cpyF_a; · first | assumption | (apply Ne.symm; assumption) | omega))) <;> first | assumption | rfl) ?_
  refine wa_ifnullV (pc := 4) 14 dJ26_getTreeNode_4 rfl (by first | exact rf_s _ | exact rf_n | exact rf_q _) (fun hb4 => ?_) (fun a4 hb4 => ?_)
  · have hr9 := ((t.2 p hp).2.1 hb4).1
    subst hr9
    refine wa_aloadV_n (pc := 14) (y := mJ26_getTreeNode) dJ26_getTreeNode_14 rfl (by first | exact rf_s _ | exact rf_n | exact rf_q _) ?_
    refine wa_iload_n (pc := 15) (y := mJ26_getTreeNode) dJ26_getTreeNode_15 rfl ?_
    refine wa_aloadV_n (pc := 16) (y := mJ26_getTreeNode) dJ26_getTreeNode_16 rfl (by first | exact rf_s _ | exact rf_n | exact rf_q _) ?_
    refine wa_null (pc := 17) (y := mJ26_getTreeNode) dJ26_getTreeNode_17 ?_
    refine wa_callV (pc := 18) (s_J26_find (d := d - 1) (by omega) t tl hinj nk K t.1.1 (by omega) (by omega)) dJ26_getTreeNode_18 okJ26_find q888 q889 q890 (sF_at (by assumption)) rfl rfl rfl (Nat.le_of_ble_eq_true rfl) (Nat.le_of_ble_eq_true rfl) (by omega) ?_
    rintro _ _ - - ⟨o, rfl, rfl, o1, o2⟩
    refine aft_v (pc2 := 21) ?_ rfl
    refine wa_areturnV (pc := 21) (y := mJ26_getTreeNode) (.object "java/util/HashMap$TreeNode") dJ26_getTreeNode_21 rfl (Or.inl ⟨_, rfl⟩) (by first | exact rf_s _ | exact rf_n | exact rf_q _) ⟨o, rfl, rfl, o1, o2⟩
  · refine wa_aloadV_n (pc := 7) (y := mJ26_getTreeNode) dJ26_getTreeNode_7 rfl (by first | exact rf_s _ | exact rf_n | exact rf_q _) ?_
    refine wa_callV (pc := 8) (s_J26_root (d := d - 1) t tl hp) dJ26_getTreeNode_8 okJ26_root q884 q885 q886 (sF_at (by assumption)) rfl rfl rfl (Nat.le_of_ble_eq_true rfl) (Nat.le_of_ble_eq_true rfl) (by omega) ?_
    rintro _ _ - - ⟨rfl, rfl⟩
    refine aft_v (pc2 := 11) ?_ rfl
    refine wa_goto (pc := 11) (y := mJ26_getTreeNode) 15 dJ26_getTreeNode_11 rfl ?_
    refine wa_iload_n (pc := 15) (y := mJ26_getTreeNode) dJ26_getTreeNode_15 rfl ?_
    refine wa_aloadV_n (pc := 16) (y := mJ26_getTreeNode) dJ26_getTreeNode_16 rfl (by first | exact rf_s _ | exact rf_n | exact rf_q _) ?_
    refine wa_null (pc := 17) (y := mJ26_getTreeNode) dJ26_getTreeNode_17 ?_
    refine wa_callV (pc := 18) (s_J26_find (d := d - 1) (by omega) t tl hinj nk K t.1.1 (by omega) (by omega)) dJ26_getTreeNode_18 okJ26_find q888 q889 q890 (sF_at (by assumption)) rfl rfl rfl (Nat.le_of_ble_eq_true rfl) (Nat.le_of_ble_eq_true rfl) (by omega) ?_
    rintro _ _ - - ⟨o, rfl, rfl, o1, o2⟩
    refine aft_v (pc2 := 21) ?_ rfl
    refine wa_areturnV (pc := 21) (y := mJ26_getTreeNode) (.object "java/util/HashMap$TreeNode") dJ26_getTreeNode_21 rfl (Or.inl ⟨_, rfl⟩) (by first | exact rf_s _ | exact rf_n | exact rf_q _) ⟨o, rfl, rfl, o1, o2⟩
end FIND
