/-! ===== bins of a table ===== -/
/-- a bin of plain nodes -/
def LBin (h : AH) (F : Nat → Nat → Value) (B : List Nat) : Prop := (∀ p, p ∈ B → Is h p 13 6) ∧ ChE F 3 B none
/-- a bin of tree nodes -/
def TBin (h : AH) (F : Nat → Nat → Value) (B : List Nat) (κ : Nat → Nat) : Prop := DL F 3 9 B ∧ ∃ root, TrB h F (· ∈ B) κ root 1200
theorem ad_eval {G : GG} (hG : StG G) : (Term.static "java/util/HashMap$TreeNode" "$assertionsDisabled" "Z").eval G.2.1 G.1 none [] G.1 = some (.int 1) :=
  va_eqt (flat_of_before _ hG (Cond.eq (.static "java/util/HashMap$TreeNode" "$assertionsDisabled" "Z") (.int 1)) (by decide +kernel))
/-- the place in a table of 2^k bins -/
theorem and_mod (x k : Nat) : (2 ^ k - 1) &&& x = x % 2 ^ k := by rw [Nat.and_comm]; exact Nat.and_two_pow_sub_one_eq_mod x k
/-- only links of a bin and its table slot differ -/
def BFr (tb bi : Nat) (S : Nat → Prop) (F F2 : Nat → Nat → Value) : Prop := ∀ b k, ¬ (b = tb ∧ k = bi) → ¬ (S b ∧ (k = 3 ∨ k = 6 ∨ k = 7 ∨ k = 8 ∨ k = 9 ∨ k = 10)) → F2 b k = F b k
section BINS
variable {G : GG} {d n : Nat} {h h2 : AH} {F F2 F3 : Nat → Nat → Value} {S : Nat → Prop} {κ : Nat → Nat} {tb bi k p q x root : Nat} {B a b : List Nat}
theorem BFr.refl : BFr tb bi S F F := fun _ _ _ _ => rfl
theorem BFr.upd {z i : Nat} {v : Value} (f : BFr tb bi S F F2) (hz : z = tb ∧ i = bi ∨ S z ∧ (i = 3 ∨ i = 6 ∨ i = 7 ∨ i = 8 ∨ i = 9 ∨ i = 10)) : BFr tb bi S F (updF F2 z i v) := fun b k h1 h2 => by
  by_cases e : b = z ∧ k = i
  · obtain ⟨rfl, rfl⟩ := e
    exact absurd hz (fun g => g.elim h1 h2)
  · rw [← f b k h1 h2]
    by_cases e1 : b = z
    · exact updF_i (fun e2 => e ⟨e1, e2⟩) rfl
    · exact updF_a e1 rfl
theorem BFr.trans (f : BFr tb bi S F F2) (g : BFr tb bi S F2 F3) : BFr tb bi S F F3 := fun b k h1 h2 => (g b k h1 h2).trans (f b k h1 h2)
theorem BFr.ofT (f : TFr S F F2) : BFr tb bi S F F2 := fun b k _ h2 => f b k fun e => h2 ⟨e.1, by omega⟩
theorem BFr.mono {S2 : Nat → Prop} (f : BFr tb bi S F F2) (hs : ∀ z, S z → S2 z) : BFr tb bi S2 F F2 := fun b k h1 h2 => f b k h1 fun e => h2 ⟨hs _ e.1, e.2⟩
theorem TL.congr {L R P : Nat → Option Nat} {C : Nat → Bool} (tl : TL h F S L R P C) (hf : ∀ z j, S z → (j = 6 ∨ j = 7 ∨ j = 8 ∨ j = 10) → F2 z j = F z j) : TL h F2 S L R P C := fun p hp => by
  obtain ⟨p1, p2, p3, p4, p5⟩ := tl p hp
  exact ⟨p1, (hf p 6 hp (by decide)).trans p2, (hf p 7 hp (by decide)).trans p3, (hf p 8 hp (by decide)).trans p4, (hf p 10 hp (by decide)).trans p5⟩
theorem TrB.congr (t : TrB h F S κ root x) (hf : ∀ z j, S z → (j = 6 ∨ j = 7 ∨ j = 8 ∨ j = 10) → F2 z j = F z j) : TrB h F2 S κ root x := by
  obtain ⟨L, R, P, C, lo, hi, rk, M, t1, t2⟩ := t
  exact ⟨L, R, P, C, lo, hi, rk, M, t1, t2.congr hf⟩
theorem s_J26_moveRootToFront (hG : StG G) (ht : Is h tb 36 (2 ^ k)) (hk : k < 16) (hx : x < 1200) (hh : F root 0 = .int (Int32.ofNat x)) (hB : B = a ++ root :: b) (hn : B.Nodup) (hI : ∀ p, p ∈ B → Is h p 14 11) (hs : F tb (x % 2 ^ k) = va_rf B.head?) (dl : DL F 3 9 B) :
    MA G d mJ26_moveRootToFront [.ref tb, .ref root] (sF h F) (fun r h' => r = .inl none ∧ ∃ F2, h' = sF h F2 ∧ F2 tb (x % 2 ^ k) = .ref root ∧ DL F2 3 9 (root :: (a ++ b)) ∧ FrP (fun z j => z = tb ∧ j = x % 2 ^ k ∨ z ∈ B ∧ (j = 3 ∨ j = 9)) F F2) := by
  have hk2 : 2 ^ k < 2 ^ 16 := Nat.pow_lt_pow_right (by decide) hk
  have hk0 : 0 < 2 ^ k := Nat.two_pow_pos k
  have hmod : x % 2 ^ k < 2 ^ k := Nat.mod_lt _ hk0
  subst hB
  have hr : Is h root 14 11 := hI root (by simp)
  have hrt : root ≠ tb := hr.ne ht (by decide)
  have had := ad_eval hG
  have e3 := dl.fwd
  have e9 := dl.bwd
  have hnt : ∀ z, z ∈ a ++ root :: b → z ≠ tb := fun z hz => (hI z hz).ne ht (by decide)
  have hn2 : (∀ z, z ∈ a → z ≠ root ∧ z ∉ b) ∧ ∀ z, z ∈ b → z ≠ root ∧ z ∉ a := by grind [List.nodup_append]
  change WA G d mJ26_moveRootToFront 0 [.ref tb, .ref root, .retAddr 0, .retAddr 0, .retAddr 0, .retAddr 0, .retAddr 0] [] _ _
  have hgt : ¬ Int32.ofNat (2 ^ k) ≤ 0 := fun e => by have := (iN_le (b := 0) (by omega) (by omega)).mp e; omega
  cases ea : a with
  | nil =>
    subst ea
    rw [show ([] ++ root :: b : List Nat).head? = some root from rfl] at hs
    refine wa_aloadV_n (pc := 0) (y := mJ26_moveRootToFront) dJ26_moveRootToFront_0 rfl (by first | exact rf_s _ | exact rf_n | exact rf_q _) ?_
    refine wa_ifnull (pc := 1) (y := mJ26_moveRootToFront) dJ26_moveRootToFront_1 ?_
    refine wa_aloadV_n (pc := 4) (y := mJ26_moveRootToFront) dJ26_moveRootToFront_4 rfl (by first | exact rf_s _ | exact rf_n | exact rf_q _) ?_
    refine wa_ifnull (pc := 5) (y := mJ26_moveRootToFront) dJ26_moveRootToFront_5 ?_
    refine wa_aloadV_n (pc := 8) (y := mJ26_moveRootToFront) dJ26_moveRootToFront_8 rfl (by first | exact rf_s _ | exact rf_n | exact rf_q _) ?_
    refine wf_alen dJ26_moveRootToFront_9 (by assumption) (by decide) ?_
    refine wa_dup (pc := 10) (y := mJ26_moveRootToFront) dJ26_moveRootToFront_10 (by first | rfl | exact rf_cat _) ?_
    refine wa_istore_n (pc := 11) (y := mJ26_moveRootToFront) dJ26_moveRootToFront_11 (Nat.le_of_ble_eq_true rfl) (by first | rfl | (simp [okst, rf_cat] <;> assumption)) ?_
    change WA _ _ _ _ (List.set _ 2 _) _ _ _
    simp only [List.set_cons_zero, List.set_cons_succ]
    refine wa_if_le (pc := 12) 123 dJ26_moveRootToFront_12 rfl (fun hb12 => absurd hb12 hgt) (fun hb12 => ?_)
    refine wa_iload_n (pc := 15) (y := mJ26_moveRootToFront) dJ26_moveRootToFront_15 rfl ?_
    refine wa_iconst (pc := 16) (y := mJ26_moveRootToFront) (Int32.ofNat 1) dJ26_moveRootToFront_16 rfl ?_
    refine wa_isub (pc := 17) (y := mJ26_moveRootToFront) dJ26_moveRootToFront_17 ?_
    rw [iN_sub (by omega)]
    refine wa_aloadV_n (pc := 18) (y := mJ26_moveRootToFront) dJ26_moveRootToFront_18 rfl (by first | exact rf_s _ | exact rf_n | exact rf_q _) ?_
    refine wf_get (k := 14) (l := 11) 0 dJ26_moveRootToFront_19 (by assumption) rfl q1314 (Or.inr q1315) (Nat.le_of_ble_eq_true rfl) (Nat.le_of_ble_eq_true rfl) (by (repeat (first | exact updF_self _ _ _ _ | (apply updF_i; · decide) | (apply updF_a; · first | assumption | (apply Ne.symm; assumption) | omega) | (apply newF_a; · first | assumption | (apply Ne.symm; assumption) | omega) | exact newL_self (by rfl) | exact newF_self (by rfl) | (apply cpyF_a; · first | assumption | (apply Ne.symm; assumption) | omega))) <;> first | assumption | rfl) ?_
    refine wa_iand (pc := 22) (y := mJ26_moveRootToFront) dJ26_moveRootToFront_22 ?_
    rw [iN_and, and_mod]
    refine wa_istore_n (pc := 23) (y := mJ26_moveRootToFront) dJ26_moveRootToFront_23 (Nat.le_of_ble_eq_true rfl) (by first | rfl | (simp [okst, rf_cat] <;> assumption)) ?_
    change WA _ _ _ _ (List.set _ 3 _) _ _ _
    simp only [List.set_cons_zero, List.set_cons_succ]
    refine wa_aloadV_n (pc := 24) (y := mJ26_moveRootToFront) dJ26_moveRootToFront_24 rfl (by first | exact rf_s _ | exact rf_n | exact rf_q _) ?_
    refine wa_iload_n (pc := 25) (y := mJ26_moveRootToFront) dJ26_moveRootToFront_25 rfl ?_
    refine wf_aaload dJ26_moveRootToFront_26 (by assumption) (by first | exact Or.inl rfl | exact Or.inr rfl) (by omega) (by (repeat (first | exact updF_self _ _ _ _ | (apply updF_i; · decide) | (apply updF_a; · first | assumption | (apply Ne.symm; assumption) | omega) | (apply newF_a; · first | assumption | (apply Ne.symm; assumption) | omega) | exact newL_self (by rfl) | exact newF_self (by rfl) | (apply cpyF_a; · first | assumption | (apply Ne.symm; assumption) | omega))) <;> first | assumption | rfl) ?_
    refine wa_castS (pc := 27) (y := mJ26_moveRootToFront) (k := 14) dJ26_moveRootToFront_27 (sF_at (by assumption)) rfl q1290 ?_
    refine wa_astoreV (pc := 30) (y := mJ26_moveRootToFront) dJ26_moveRootToFront_30 (Nat.le_of_ble_eq_true rfl) (by first | rfl | (simp [okst, rf_cat] <;> assumption)) (by first | exact rf_s _ | exact rf_n | exact rf_q _) ?_
    simp only [List.set_cons_zero, List.set_cons_succ]
    refine wa_aloadV_n (pc := 32) (y := mJ26_moveRootToFront) dJ26_moveRootToFront_32 rfl (by first | exact rf_s _ | exact rf_n | exact rf_q _) ?_
    refine wa_aloadV (pc := 33) (y := mJ26_moveRootToFront) dJ26_moveRootToFront_33 rfl (by first | exact rf_s _ | exact rf_n | exact rf_q _) ?_
    refine wa_aceqV (pc := 35) 102 dJ26_moveRootToFront_35 rfl (by first | exact rf_s _ | exact rf_n | exact rf_q _) (by first | exact rf_s _ | exact rf_n | exact rf_q _) (fun hb35 => ?_) (fun hb35 => absurd rfl hb35)
    refine wa_gets (pc := 102) (y := mJ26_moveRootToFront) dJ26_moveRootToFront_102 q1373 (Or.inl rfl) q1374 (lw_all_tbl q121) (had) ?_
    refine wa_if_ne (pc := 105) 123 dJ26_moveRootToFront_105 rfl (fun hb105 => ?_) (fun hb105 => absurd hb105 (by decide))
    refine wa_return (pc := 123) (y := mJ26_moveRootToFront) dJ26_moveRootToFront_123 rfl ⟨rfl, F, rfl, hs, dl, FrP.refl⟩
  | cons f a' =>
    have hsf : F tb (x % 2 ^ k) = va_rf (some f) := by rw [hs, ea]; rfl
    have hf : f ∈ a := by rw [ea]; simp
    have hIf : Is h f 14 11 := hI f (by simp [hf])
    have hft := hnt f (by simp [hf])
    have hfr := (hn2.1 f hf).1
    refine wa_aloadV_n (pc := 0) (y := mJ26_moveRootToFront) dJ26_moveRootToFront_0 rfl (by first | exact rf_s _ | exact rf_n | exact rf_q _) ?_
    refine wa_ifnull (pc := 1) (y := mJ26_moveRootToFront) dJ26_moveRootToFront_1 ?_
    refine wa_aloadV_n (pc := 4) (y := mJ26_moveRootToFront) dJ26_moveRootToFront_4 rfl (by first | exact rf_s _ | exact rf_n | exact rf_q _) ?_
    refine wa_ifnull (pc := 5) (y := mJ26_moveRootToFront) dJ26_moveRootToFront_5 ?_
    refine wa_aloadV_n (pc := 8) (y := mJ26_moveRootToFront) dJ26_moveRootToFront_8 rfl (by first | exact rf_s _ | exact rf_n | exact rf_q _) ?_
    refine wf_alen dJ26_moveRootToFront_9 (by assumption) (by decide) ?_
    refine wa_dup (pc := 10) (y := mJ26_moveRootToFront) dJ26_moveRootToFront_10 (by first | rfl | exact rf_cat _) ?_
    refine wa_istore_n (pc := 11) (y := mJ26_moveRootToFront) dJ26_moveRootToFront_11 (Nat.le_of_ble_eq_true rfl) (by first | rfl | (simp [okst, rf_cat] <;> assumption)) ?_
    change WA _ _ _ _ (List.set _ 2 _) _ _ _
    simp only [List.set_cons_zero, List.set_cons_succ]
    refine wa_if_le (pc := 12) 123 dJ26_moveRootToFront_12 rfl (fun hb12 => absurd hb12 hgt) (fun hb12 => ?_)
    refine wa_iload_n (pc := 15) (y := mJ26_moveRootToFront) dJ26_moveRootToFront_15 rfl ?_
    refine wa_iconst (pc := 16) (y := mJ26_moveRootToFront) (Int32.ofNat 1) dJ26_moveRootToFront_16 rfl ?_
    refine wa_isub (pc := 17) (y := mJ26_moveRootToFront) dJ26_moveRootToFront_17 ?_
    rw [iN_sub (by omega)]
    refine wa_aloadV_n (pc := 18) (y := mJ26_moveRootToFront) dJ26_moveRootToFront_18 rfl (by first | exact rf_s _ | exact rf_n | exact rf_q _) ?_
    refine wf_get (k := 14) (l := 11) 0 dJ26_moveRootToFront_19 (by assumption) rfl q1314 (Or.inr q1315) (Nat.le_of_ble_eq_true rfl) (Nat.le_of_ble_eq_true rfl) (by (repeat (first | exact updF_self _ _ _ _ | (apply updF_i; · decide) | (apply updF_a; · first | assumption | (apply Ne.symm; assumption) | omega) | (apply newF_a; · first | assumption | (apply Ne.symm; assumption) | omega) | exact newL_self (by rfl) | exact newF_self (by rfl) | (apply cpyF_a; · first | assumption | (apply Ne.symm; assumption) | omega))) <;> first | assumption | rfl) ?_
    refine wa_iand (pc := 22) (y := mJ26_moveRootToFront) dJ26_moveRootToFront_22 ?_
    rw [iN_and, and_mod]
    refine wa_istore_n (pc := 23) (y := mJ26_moveRootToFront) dJ26_moveRootToFront_23 (Nat.le_of_ble_eq_true rfl) (by first | rfl | (simp [okst, rf_cat] <;> assumption)) ?_
    change WA _ _ _ _ (List.set _ 3 _) _ _ _
    simp only [List.set_cons_zero, List.set_cons_succ]
    refine wa_aloadV_n (pc := 24) (y := mJ26_moveRootToFront) dJ26_moveRootToFront_24 rfl (by first | exact rf_s _ | exact rf_n | exact rf_q _) ?_
    refine wa_iload_n (pc := 25) (y := mJ26_moveRootToFront) dJ26_moveRootToFront_25 rfl ?_
    refine wf_aaload dJ26_moveRootToFront_26 (by assumption) (by first | exact Or.inl rfl | exact Or.inr rfl) (by omega) (by (repeat (first | exact updF_self _ _ _ _ | (apply updF_i; · decide) | (apply updF_a; · first | assumption | (apply Ne.symm; assumption) | omega) | (apply newF_a; · first | assumption | (apply Ne.symm; assumption) | omega) | exact newL_self (by rfl) | exact newF_self (by rfl) | (apply cpyF_a; · first | assumption | (apply Ne.symm; assumption) | omega))) <;> first | assumption | rfl) ?_
    refine wa_castS (pc := 27) (y := mJ26_moveRootToFront) (k := 14) dJ26_moveRootToFront_27 (sF_at (by assumption)) rfl q1290 ?_
    refine wa_astoreV (pc := 30) (y := mJ26_moveRootToFront) dJ26_moveRootToFront_30 (Nat.le_of_ble_eq_true rfl) (by first | rfl | (simp [okst, rf_cat] <;> assumption)) (by first | exact rf_s _ | exact rf_n | exact rf_q _) ?_
    simp only [List.set_cons_zero, List.set_cons_succ]
    refine wa_aloadV_n (pc := 32) (y := mJ26_moveRootToFront) dJ26_moveRootToFront_32 rfl (by first | exact rf_s _ | exact rf_n | exact rf_q _) ?_
    refine wa_aloadV (pc := 33) (y := mJ26_moveRootToFront) dJ26_moveRootToFront_33 rfl (by first | exact rf_s _ | exact rf_n | exact rf_q _) ?_
    refine wa_aceqV (pc := 35) 102 dJ26_moveRootToFront_35 rfl (by first | exact rf_s _ | exact rf_n | exact rf_q _) (by first | exact rf_s _ | exact rf_n | exact rf_q _) (fun hb35 => absurd (Option.some.inj hb35) (Ne.symm hfr)) (fun hb35 => ?_)
    refine wa_aloadV_n (pc := 38) (y := mJ26_moveRootToFront) dJ26_moveRootToFront_38 rfl (by first | exact rf_s _ | exact rf_n | exact rf_q _) ?_
    refine wa_iload_n (pc := 39) (y := mJ26_moveRootToFront) dJ26_moveRootToFront_39 rfl ?_
    refine wa_aloadV_n (pc := 40) (y := mJ26_moveRootToFront) dJ26_moveRootToFront_40 rfl (by first | exact rf_s _ | exact rf_n | exact rf_q _) ?_
    refine wf_aastoreV (pc := 41) (y := mJ26_moveRootToFront) "java/util/HashMap$Node" dJ26_moveRootToFront_41 ht (Or.inr ⟨rfl, rfl⟩) (by omega) (rf_s root) (fun b e => by cases e; exact Nd.stor (Or.inr hr)) ?_
    refine wa_aloadV_n (pc := 42) (y := mJ26_moveRootToFront) dJ26_moveRootToFront_42 rfl (by first | exact rf_s _ | exact rf_n | exact rf_q _) ?_
    refine wf_get (k := 14) (l := 11) 9 dJ26_moveRootToFront_43 (by assumption) rfl q1617 (Or.inl rfl) (Nat.le_of_ble_eq_true rfl) (Nat.le_of_ble_eq_true rfl) (by (repeat (first | exact updF_self _ _ _ _ | (apply updF_i; · decide) | (apply updF_a; · first | assumption | (apply Ne.symm; assumption) | omega) | (apply newF_a; · first | assumption | (apply Ne.symm; assumption) | omega) | exact newL_self (by rfl) | exact newF_self (by rfl) | (apply cpyF_a; · first | assumption | (apply Ne.symm; assumption) | omega))) <;> first | assumption | rfl) ?_
    refine wa_astoreV (pc := 46) (y := mJ26_moveRootToFront) dJ26_moveRootToFront_46 (Nat.le_of_ble_eq_true rfl) (by first | rfl | (simp [okst, rf_cat] <;> assumption)) (by first | exact rf_s _ | exact rf_n | exact rf_q _) ?_
    simp only [List.set_cons_zero, List.set_cons_succ]
    refine wa_aloadV_n (pc := 48) (y := mJ26_moveRootToFront) dJ26_moveRootToFront_48 rfl (by first | exact rf_s _ | exact rf_n | exact rf_q _) ?_
    refine wf_get (k := 14) (l := 11) 3 dJ26_moveRootToFront_49 (by assumption) rfl q1334 (Or.inr q1335) (Nat.le_of_ble_eq_true rfl) (Nat.le_of_ble_eq_true rfl) (by (repeat (first | exact updF_self _ _ _ _ | (apply updF_i; · decide) | (apply updF_a; · first | assumption | (apply Ne.symm; assumption) | omega) | (apply newF_a; · first | assumption | (apply Ne.symm; assumption) | omega) | exact newL_self (by rfl) | exact newF_self (by rfl) | (apply cpyF_a; · first | assumption | (apply Ne.symm; assumption) | omega))) <;> first | assumption | rfl) ?_
    refine wa_dup (pc := 52) (y := mJ26_moveRootToFront) dJ26_moveRootToFront_52 (by first | rfl | exact rf_cat _) ?_
    refine wa_astoreV (pc := 53) (y := mJ26_moveRootToFront) dJ26_moveRootToFront_53 (Nat.le_of_ble_eq_true rfl) (by first | rfl | (simp [okst, rf_cat] <;> assumption)) (by first | exact rf_s _ | exact rf_n | exact rf_q _) ?_
    simp only [List.set_cons_zero, List.set_cons_succ]
    refine wa_ifnullV (pc := 55) 68 dJ26_moveRootToFront_55 rfl (by first | exact rf_s _ | exact rf_n | exact rf_q _) (fun hb55 => ?_) (fun a55 hb55 => ?_)
    · have hg := head_none hb55
      rw [hb55]
      refine wa_aloadV (pc := 68) (y := mJ26_moveRootToFront) dJ26_moveRootToFront_68 rfl (by first | exact rf_s _ | exact rf_n | exact rf_q _) ?_
      refine wa_ifnullV (pc := 70) 80 dJ26_moveRootToFront_70 rfl (by first | exact rf_s _ | exact rf_n | exact rf_q _) (fun hb70 => absurd (getLast_none hb70) (by rw [ea]; simp)) (fun a70 hb70 => ?_)
      have hl := getLast_mem hb70
      have hIl := hI _ (List.mem_append_left (root :: b) hl)
      have hlt2 := hnt _ (List.mem_append_left (root :: b) hl)
      have hlr := (hn2.1 _ hl).1
      rw [hb70]
      refine wa_aloadV (pc := 73) (y := mJ26_moveRootToFront) dJ26_moveRootToFront_73 rfl (by first | exact rf_s _ | exact rf_n | exact rf_q _) ?_
      refine wa_aloadV (pc := 75) (y := mJ26_moveRootToFront) dJ26_moveRootToFront_75 rfl (by first | exact rf_s _ | exact rf_n | exact rf_q _) ?_
      refine wf_put (k := 14) (l := 11) 3 (.object "java/util/HashMap$Node") dJ26_moveRootToFront_77 (by assumption) rfl q1334 (Or.inr q1335) (Nat.le_of_ble_eq_true rfl) rfl (by decide +kernel) (by first | rfl | exact rf_nar _ | exact rf_nar2 _) (by first | rfl | exact rf_fit _ | exact rf_fit2 _) ?_
      refine wa_aloadV (pc := 80) (y := mJ26_moveRootToFront) dJ26_moveRootToFront_80 rfl (by first | exact rf_s _ | exact rf_n | exact rf_q _) ?_
      refine wa_ifnull (pc := 82) (y := mJ26_moveRootToFront) dJ26_moveRootToFront_82 ?_
      refine wa_aloadV (pc := 85) (y := mJ26_moveRootToFront) dJ26_moveRootToFront_85 rfl (by first | exact rf_s _ | exact rf_n | exact rf_q _) ?_
      refine wa_aloadV_n (pc := 87) (y := mJ26_moveRootToFront) dJ26_moveRootToFront_87 rfl (by first | exact rf_s _ | exact rf_n | exact rf_q _) ?_
      refine wf_put (k := 14) (l := 11) 9 (.object "java/util/HashMap$TreeNode") dJ26_moveRootToFront_88 (by assumption) rfl q1617 (Or.inl rfl) (Nat.le_of_ble_eq_true rfl) rfl (by decide +kernel) (by first | rfl | exact rf_nar _ | exact rf_nar2 _) (by first | rfl | exact rf_fit _ | exact rf_fit2 _) ?_
      refine wa_aloadV_n (pc := 91) (y := mJ26_moveRootToFront) dJ26_moveRootToFront_91 rfl (by first | exact rf_s _ | exact rf_n | exact rf_q _) ?_
      refine wa_aloadV (pc := 92) (y := mJ26_moveRootToFront) dJ26_moveRootToFront_92 rfl (by first | exact rf_s _ | exact rf_n | exact rf_q _) ?_
      refine wf_put (k := 14) (l := 11) 3 (.object "java/util/HashMap$Node") dJ26_moveRootToFront_94 (by assumption) rfl q1334 (Or.inr q1335) (Nat.le_of_ble_eq_true rfl) rfl (by decide +kernel) (by first | rfl | exact rf_nar _ | exact rf_nar2 _) (by first | rfl | exact rf_fit _ | exact rf_fit2 _) ?_
      refine wa_aloadV_n (pc := 97) (y := mJ26_moveRootToFront) dJ26_moveRootToFront_97 rfl (by first | exact rf_s _ | exact rf_n | exact rf_q _) ?_
      refine wa_null (pc := 98) (y := mJ26_moveRootToFront) dJ26_moveRootToFront_98 ?_
      refine wf_put (k := 14) (l := 11) 9 (.object "java/util/HashMap$TreeNode") dJ26_moveRootToFront_99 (by assumption) rfl q1617 (Or.inl rfl) (Nat.le_of_ble_eq_true rfl) rfl (by decide +kernel) (by first | rfl | exact rf_nar _ | exact rf_nar2 _) (by first | rfl | exact rf_fit _ | exact rf_fit2 _) ?_
      refine wa_gets (pc := 102) (y := mJ26_moveRootToFront) dJ26_moveRootToFront_102 q1373 (Or.inl rfl) q1374 (lw_all_tbl q121) (had) ?_
      refine wa_if_ne (pc := 105) 123 dJ26_moveRootToFront_105 rfl (fun hb105 => ?_) (fun hb105 => absurd hb105 (by decide))
      refine wa_return (pc := 123) (y := mJ26_moveRootToFront) dJ26_moveRootToFront_123 rfl ⟨rfl, _, rfl, (by grind [updF_eq]), (by subst ea; exact dl.toFront hn rfl (by grind [updF_eq, va_rf]) (by grind [updF_eq, va_rf]) (fun z hz => by grind [updF_eq, va_rf]) (fun z hz => by grind [updF_eq, va_rf]) (fun z hz => by grind [updF_eq, va_rf]) (fun z hz => by grind [updF_eq, va_rf])), (by repeat (first | exact FrP.refl | refine FrP.upd ?_ (by first | exact Or.inl ⟨rfl, rfl⟩ | exact Or.inr ⟨by subst ea; first | exact List.mem_append_left _ hl | exact List.mem_append_left _ hf | (simp; done) | exact List.mem_append_right _ (List.mem_cons_of_mem _ hg), by decide⟩)))⟩
    · have hg := head_mem hb55
      have hIg := hI _ (List.mem_append_right a (List.mem_cons_of_mem root hg))
      have hgt2 := hnt _ (List.mem_append_right a (List.mem_cons_of_mem root hg))
      have hgr := (hn2.2 _ hg).1
      rw [hb55]
      refine wa_aloadV (pc := 58) (y := mJ26_moveRootToFront) dJ26_moveRootToFront_58 rfl (by first | exact rf_s _ | exact rf_n | exact rf_q _) ?_
      refine wa_castS (pc := 60) (y := mJ26_moveRootToFront) (k := 14) dJ26_moveRootToFront_60 (sF_at (by assumption)) rfl q1290 ?_
      refine wa_aloadV (pc := 63) (y := mJ26_moveRootToFront) dJ26_moveRootToFront_63 rfl (by first | exact rf_s _ | exact rf_n | exact rf_q _) ?_
      refine wf_put (k := 14) (l := 11) 9 (.object "java/util/HashMap$TreeNode") dJ26_moveRootToFront_65 (by assumption) rfl q1617 (Or.inl rfl) (Nat.le_of_ble_eq_true rfl) rfl (by decide +kernel) (by first | rfl | exact rf_nar _ | exact rf_nar2 _) (by first | rfl | exact rf_fit _ | exact rf_fit2 _) ?_
      refine wa_aloadV (pc := 68) (y := mJ26_moveRootToFront) dJ26_moveRootToFront_68 rfl (by first | exact rf_s _ | exact rf_n | exact rf_q _) ?_
      refine wa_ifnullV (pc := 70) 80 dJ26_moveRootToFront_70 rfl (by first | exact rf_s _ | exact rf_n | exact rf_q _) (fun hb70 => absurd (getLast_none hb70) (by rw [ea]; simp)) (fun a70 hb70 => ?_)
      have hl := getLast_mem hb70
      have hIl := hI _ (List.mem_append_left (root :: b) hl)
      have hlt2 := hnt _ (List.mem_append_left (root :: b) hl)
      have hlr := (hn2.1 _ hl).1
      rw [hb70]
      refine wa_aloadV (pc := 73) (y := mJ26_moveRootToFront) dJ26_moveRootToFront_73 rfl (by first | exact rf_s _ | exact rf_n | exact rf_q _) ?_
      refine wa_aloadV (pc := 75) (y := mJ26_moveRootToFront) dJ26_moveRootToFront_75 rfl (by first | exact rf_s _ | exact rf_n | exact rf_q _) ?_
      refine wf_put (k := 14) (l := 11) 3 (.object "java/util/HashMap$Node") dJ26_moveRootToFront_77 (by assumption) rfl q1334 (Or.inr q1335) (Nat.le_of_ble_eq_true rfl) rfl (by decide +kernel) (by first | rfl | exact rf_nar _ | exact rf_nar2 _) (by first | rfl | exact rf_fit _ | exact rf_fit2 _) ?_
      refine wa_aloadV (pc := 80) (y := mJ26_moveRootToFront) dJ26_moveRootToFront_80 rfl (by first | exact rf_s _ | exact rf_n | exact rf_q _) ?_
      refine wa_ifnull (pc := 82) (y := mJ26_moveRootToFront) dJ26_moveRootToFront_82 ?_
      refine wa_aloadV (pc := 85) (y := mJ26_moveRootToFront) dJ26_moveRootToFront_85 rfl (by first | exact rf_s _ | exact rf_n | exact rf_q _) ?_
      refine wa_aloadV_n (pc := 87) (y := mJ26_moveRootToFront) dJ26_moveRootToFront_87 rfl (by first | exact rf_s _ | exact rf_n | exact rf_q _) ?_
      refine wf_put (k := 14) (l := 11) 9 (.object "java/util/HashMap$TreeNode") dJ26_moveRootToFront_88 (by assumption) rfl q1617 (Or.inl rfl) (Nat.le_of_ble_eq_true rfl) rfl (by decide +kernel) (by first | rfl | exact rf_nar _ | exact rf_nar2 _) (by first | rfl | exact rf_fit _ | exact rf_fit2 _) ?_
      refine wa_aloadV_n (pc := 91) (y := mJ26_moveRootToFront) dJ26_moveRootToFront_91 rfl (by first | exact rf_s _ | exact rf_n | exact rf_q _) ?_
      refine wa_aloadV (pc := 92) (y := mJ26_moveRootToFront) dJ26_moveRootToFront_92 rfl (by first | exact rf_s _ | exact rf_n | exact rf_q _) ?_
      refine wf_put (k := 14) (l := 11) 3 (.object "java/util/HashMap$Node") dJ26_moveRootToFront_94 (by assumption) rfl q1334 (Or.inr q1335) (Nat.le_of_ble_eq_true rfl) rfl (by decide +kernel) (by first | rfl | exact rf_nar _ | exact rf_nar2 _) (by first | rfl | exact rf_fit _ | exact rf_fit2 _) ?_
      refine wa_aloadV_n (pc := 97) (y := mJ26_moveRootToFront) dJ26_moveRootToFront_97 rfl (by first | exact rf_s _ | exact rf_n | exact rf_q _) ?_
      refine wa_null (pc := 98) (y := mJ26_moveRootToFront) dJ26_moveRootToFront_98 ?_
      refine wf_put (k := 14) (l := 11) 9 (.object "java/util/HashMap$TreeNode") dJ26_moveRootToFront_99 (by assumption) rfl q1617 (Or.inl rfl) (Nat.le_of_ble_eq_true rfl) rfl (by decide +kernel) (by first | rfl | exact rf_nar _ | exact rf_nar2 _) (by first | rfl | exact rf_fit _ | exact rf_fit2 _) ?_
      refine wa_gets (pc := 102) (y := mJ26_moveRootToFront) dJ26_moveRootToFront_102 q1373 (Or.inl rfl) q1374 (lw_all_tbl q121) (had) ?_
      refine wa_if_ne (pc := 105) 123 dJ26_moveRootToFront_105 rfl (fun hb105 => ?_) (fun hb105 => absurd hb105 (by decide))
      refine wa_return (pc := 123) (y := mJ26_moveRootToFront) dJ26_moveRootToFront_123 rfl ⟨rfl, _, rfl, (by grind [updF_eq]), (by subst ea; exact dl.toFront hn rfl (by grind [updF_eq, va_rf]) (by grind [updF_eq, va_rf]) (fun z hz => by grind [updF_eq, va_rf]) (fun z hz => by grind [updF_eq, va_rf]) (fun z hz => by grind [updF_eq, va_rf]) (fun z hz => by grind [updF_eq, va_rf])), (by repeat (first | exact FrP.refl | refine FrP.upd ?_ (by first | exact Or.inl ⟨rfl, rfl⟩ | exact Or.inr ⟨by subst ea; first | exact List.mem_append_left _ hl | exact List.mem_append_left _ hf | (simp; done) | exact List.mem_append_right _ (List.mem_cons_of_mem _ hg), by decide⟩)))⟩
end BINS
