/-! ===== TreeNode: split ===== -/
section SPLIT
variable {G : GG} {d n : Nat} {h h1 h2 : AH} {F F1 F2 F3 : Nat → Nat → Value} {ρ ρ1 : Nat → Nat} {κ : Nat → Nat} {l m p q x k tb bi i j : Nat} {ns a b B A : List Nat}
theorem DL.nil : DL F i j [] := ⟨trivial, trivial⟩
/-- x comes behind the last one -/
theorem DL.snoc (dl : DL F i j A) (hn : (A ++ [x]).Nodup) (h1 : ∀ z, z ∈ A → F2 z i = if A.getLast? = some z then .ref x else F z i) (h2 : ∀ z, z ∈ A → F2 z j = F z j) (h3 : F2 x i = .null) (h4 : F2 x j = va_rf A.getLast?) : DL F2 i j (A ++ [x]) := by
  have d9 : DL F i j (A ++ ([] ++ [])) := by simpa using dl
  have := d9.splice (F2 := F2) (c2 := [x]) (by simpa using (List.nodup_append.mp hn).1) (fun z hz => by rw [h1 z hz]; simp [va_rf]) h2 (fun z hz => by cases hz) (fun z hz => by cases hz) ⟨by rw [h3]; rfl, trivial⟩ ⟨h4, trivial⟩
  simpa using this
theorem bit_and (x k : Nat) : x &&& 2 ^ k = 0 ↔ x.testBit k = false := by
  constructor
  · intro h
    have : (x &&& 2 ^ k).testBit k = false := by rw [h]; simp
    simpa using this
  · intro h
    apply Nat.eq_of_testBit_eq
    intro i
    simp only [Nat.testBit_and, Nat.testBit_two_pow, Nat.zero_testBit]
    by_cases e : k = i
    · subst e; simp [h]
    · simp [e]
theorem bit_0 {x k : Nat} (hx : x < 1200) : Int32.ofNat x &&& Int32.ofNat (2 ^ k) = 0 ↔ x.testBit k = false := by
  rw [iN_and, iN_eq0 (by have : x &&& 2 ^ k ≤ x := Nat.and_le_left; omega), bit_and]
theorem bit_lo {x k : Nat} (h : x.testBit k = false) : x % 2 ^ (k + 1) = x % 2 ^ k := by
  rw [Nat.testBit_eq_decide_div_mod_eq] at h
  rw [Nat.mod_pow_succ]
  have : x / 2 ^ k % 2 = 0 := by simp at h; omega
  rw [this]; simp
theorem bit_hi {x k : Nat} (h : x.testBit k = true) : x % 2 ^ (k + 1) = x % 2 ^ k + 2 ^ k := by
  rw [Nat.testBit_eq_decide_div_mod_eq] at h
  rw [Nat.mod_pow_succ]
  have : x / 2 ^ k % 2 = 1 := by simpa using h
  rw [this]; simp
/-- the two halves of a bin: what stands in them, after a replacement rho -/
def HalfR (h : AH) (F : Nat → Nat → Value) (tb j : Nat) (B : List Nat) (ρ : Nat → Nat) : Prop := ∃ B2 : List Nat, F tb j = va_rf B2.head? ∧ BinR h F B2 ∧ B2.Nodup ∧ ∀ p, p ∈ B2 ↔ ∃ z, z ∈ B ∧ ρ z = p
/-- where a split may write -/
def SpP (tb bi k : Nat) (B : List Nat) : Nat → Nat → Prop := fun z j => z = tb ∧ (j = bi ∨ j = bi + 2 ^ k) ∨ z ∈ B ∧ (j = 3 ∨ j = 6 ∨ j = 7 ∨ j = 8 ∨ j = 9 ∨ j = 10)
def SpQ (h : AH) (F : Nat → Nat → Value) (m tb bi k : Nat) (ns B : List Nat) (r : RR) (h' : AH) : Prop :=
  r = .inl none ∧ ∃ (h2 : AH) (F2 : Nat → Nat → Value) (ρ : Nat → Nat) (D : List Nat), h' = sF h2 F2 ∧ RepQ (SpP tb bi k B) 6 h F h2 F2 m ns ρ D ∧ D.Nodup ∧ (∀ z, z ∈ D → z ∈ B) ∧
    (∀ z, z ∈ D → Is h2 (ρ z) 13 6) ∧ HalfR h2 F2 tb bi (B.filter fun z => !(kF F z).testBit k) ρ ∧ HalfR h2 F2 tb (bi + 2 ^ k) (B.filter fun z => (kF F z).testBit k) ρ
/-- the loop: the nodes go to two chains -/
theorem sp_25 {p0 : Nat} {Q : RR → AH → Prop} {F0 : Nat → Nat → Value} (hx : ∀ z, z ∈ B → Is h z 14 11 ∧ F0 z 0 = .int (Int32.ofNat (kF F0 z)) ∧ kF F0 z < 1200) (hn : B.Nodup) (hc : ChE F0 3 B none)
    (KQ : ∀ (F : Nat → Nat → Value) (v12 v13 : Value), FrP (fun z j => z ∈ B ∧ (j = 3 ∨ j = 9)) F0 F → DL F 3 9 (B.filter fun z => !(kF F0 z).testBit k) → DL F 3 9 (B.filter fun z => (kF F0 z).testBit k) →
      WA G d mJ26_split 131 [.ref p0, .ref m, .ref tb, .int (Int32.ofNat bi), .int (Int32.ofNat (2 ^ k)), .ref p0, va_rf (B.filter fun z => !(kF F0 z).testBit k).head?, va_rf (B.filter fun z => !(kF F0 z).testBit k).getLast?, va_rf (B.filter fun z => (kF F0 z).testBit k).head?, va_rf (B.filter fun z => (kF F0 z).testBit k).getLast?, .int (Int32.ofNat (B.filter fun z => !(kF F0 z).testBit k).length), .int (Int32.ofNat (B.filter fun z => (kF F0 z).testBit k).length), v12, v13] [] (sF h F) Q) :
    ∀ (rest a : List Nat) (F : Nat → Nat → Value) (v13 : Value), a ++ rest = B → FrP (fun z j => z ∈ a ∧ (j = 3 ∨ j = 9)) F0 F → DL F 3 9 (a.filter fun z => !(kF F0 z).testBit k) → DL F 3 9 (a.filter fun z => (kF F0 z).testBit k) →
      WA G d mJ26_split 25 [.ref p0, .ref m, .ref tb, .int (Int32.ofNat bi), .int (Int32.ofNat (2 ^ k)), .ref p0, va_rf (a.filter fun z => !(kF F0 z).testBit k).head?, va_rf (a.filter fun z => !(kF F0 z).testBit k).getLast?, va_rf (a.filter fun z => (kF F0 z).testBit k).head?, va_rf (a.filter fun z => (kF F0 z).testBit k).getLast?, .int (Int32.ofNat (a.filter fun z => !(kF F0 z).testBit k).length), .int (Int32.ofNat (a.filter fun z => (kF F0 z).testBit k).length), va_rf rest.head?, v13] [] (sF h F) Q := by
  intro rest
  induction rest with
  | nil =>
    intro a F v13 ha fr d1 d2
    rw [List.append_nil] at ha
    subst ha
    refine wa_aloadV (pc := 25) (y := mJ26_split) dJ26_split_25 rfl (by first | exact rf_s _ | exact rf_n | exact rf_q _) ?_
    refine wa_ifnullN (pc := 27) (y := mJ26_split) 131 dJ26_split_27 rfl ?_
    exact KQ F _ _ fr d1 d2
  | cons x rest ih =>
    intro a F v13 ha fr d1 d2
    have hxB : x ∈ B := by rw [← ha]; simp
    obtain ⟨xI, x0, xκ⟩ := hx x hxB
    have hxa : x ∉ a := by rw [← ha] at hn; grind [List.nodup_append]
    have e0 : F x 0 = .int (Int32.ofNat (kF F0 x)) := (fr x 0 fun e => hxa e.1).trans x0
    have e3 : F x 3 = va_rf rest.head? := (fr x 3 fun e => hxa e.1).trans (by rw [← ha] at hc; rw [ChE.mem hc, or_none_])
    have hrN : ∀ z, rest.head? = some z → Is h z 14 11 := fun z hz => (hx z (by rw [← ha]; simp [head_mem hz])).1
    have ha2 : (a ++ [x]) ++ rest = B := by rw [← ha]; simp
    have hna : a.Nodup := by rw [← ha] at hn; exact (List.nodup_append.mp hn).1
    have hIa : ∀ z, z ∈ a → Is h z 14 11 := fun z hz => (hx z (by rw [← ha]; simp [hz])).1
    have fra : FrP (fun z j => z ∈ a ++ [x] ∧ (j = 3 ∨ j = 9)) F0 F := fr.mono fun z j hz => ⟨by simp [hz.1], hz.2⟩
    have hmA : ∀ (f : Nat → Bool) z, z ∈ a.filter f → z ≠ x ∧ z ∈ a := fun f z hz => by
      have := (List.mem_filter.mp hz).1
      exact ⟨fun e => hxa (e ▸ this), this⟩
    have hnS : ∀ f : Nat → Bool, (a.filter f ++ [x]).Nodup := fun f => by
      have h1 : (a.filter f).Nodup := hna.filter _
      have h2 := fun z hz => (hmA f z hz).1
      rw [List.nodup_append]
      exact ⟨h1, by simp, fun z hz w hw => by simp at hw; rw [hw]; exact h2 z hz⟩
    have hdisj : ∀ z, z ∈ (a.filter fun z => !(kF F0 z).testBit k) → z ∉ (a.filter fun z => (kF F0 z).testBit k) := fun z h1 h2 => by simp at h1 h2; rw [h2.2] at h1; simp at h1
    cases hb : (kF F0 x).testBit k with
    | false =>
      have f1 : (a ++ [x]).filter (fun z => !(kF F0 z).testBit k) = (a.filter fun z => !(kF F0 z).testBit k) ++ [x] := by simp [hb]
      have f2 : (a ++ [x]).filter (fun z => (kF F0 z).testBit k) = (a.filter fun z => (kF F0 z).testBit k) := by simp [hb]
      have IH := fun F => ih (a ++ [x]) F (va_rf rest.head?) ha2
      rw [f1, f2] at IH
      have hS := hnS fun z => !(kF F0 z).testBit k
      have hA := hmA fun z => !(kF F0 z).testBit k
      have hA2 := hmA fun z => (kF F0 z).testBit k
      generalize (a.filter fun z => !(kF F0 z).testBit k) = A at *
      generalize (a.filter fun z => (kF F0 z).testBit k) = A2 at *
      have hd2 : ∀ F', (∀ z, z ∈ A2 → F' z 3 = F z 3 ∧ F' z 9 = F z 9) → DL F' 3 9 A2 := fun F' h9 => ⟨ChE_congr (fun z hz => (h9 z hz).1) d2.1, PvE_congr (fun z hz => (h9 z hz).2) d2.2⟩
      refine wa_aloadV (pc := 25) (y := mJ26_split) dJ26_split_25 rfl (by first | exact rf_s _ | exact rf_n | exact rf_q _) ?_
      refine wa_ifnull (pc := 27) (y := mJ26_split) dJ26_split_27 ?_
      refine wa_aloadV (pc := 30) (y := mJ26_split) dJ26_split_30 rfl (by first | exact rf_s _ | exact rf_n | exact rf_q _) ?_
      refine wf_get (k := 14) (l := 11) 3 dJ26_split_32 (by assumption) rfl q1334 (Or.inr q1335) (Nat.le_of_ble_eq_true rfl) (Nat.le_of_ble_eq_true rfl) (by (repeat (first | exact updF_self _ _ _ _ | (apply updF_i; · decide) | (apply updF_a; · first | assumption | (apply Ne.symm; assumption) | omega) | (apply newF_a; · first | assumption | (apply Ne.symm; assumption) | omega) | exact newL_self (by rfl) | exact newF_self (by rfl) | (apply cpyF_a; · first | assumption | (apply Ne.symm; assumption) | omega))) <;> first | assumption | rfl) ?_
      refine wn_castq dJ26_split_35 (by first | exact rf_s _ | exact rf_n | exact rf_q _) hrN q1290 ?_
      refine wa_astoreV (pc := 38) (y := mJ26_split) dJ26_split_38 (Nat.le_of_ble_eq_true rfl) (by first | rfl | (simp [okst, rf_cat] <;> assumption)) (by first | exact rf_s _ | exact rf_n | exact rf_q _) ?_
      simp only [List.set_cons_zero, List.set_cons_succ]
      refine wa_aloadV (pc := 40) (y := mJ26_split) dJ26_split_40 rfl (by first | exact rf_s _ | exact rf_n | exact rf_q _) ?_
      refine wa_null (pc := 42) (y := mJ26_split) dJ26_split_42 ?_
      refine wf_put (k := 14) (l := 11) 3 (.object "java/util/HashMap$Node") dJ26_split_43 (by assumption) rfl q1334 (Or.inr q1335) (Nat.le_of_ble_eq_true rfl) rfl (by decide +kernel) (by first | rfl | exact rf_nar _ | exact rf_nar2 _) (by first | rfl | exact rf_fit _ | exact rf_fit2 _) ?_
      refine wa_aloadV (pc := 46) (y := mJ26_split) dJ26_split_46 rfl (by first | exact rf_s _ | exact rf_n | exact rf_q _) ?_
      refine wf_get (k := 14) (l := 11) 0 dJ26_split_48 (by assumption) rfl q1314 (Or.inr q1315) (Nat.le_of_ble_eq_true rfl) (Nat.le_of_ble_eq_true rfl) (by (repeat (first | exact updF_self _ _ _ _ | (apply updF_i; · decide) | (apply updF_a; · first | assumption | (apply Ne.symm; assumption) | omega) | (apply newF_a; · first | assumption | (apply Ne.symm; assumption) | omega) | exact newL_self (by rfl) | exact newF_self (by rfl) | (apply cpyF_a; · first | assumption | (apply Ne.symm; assumption) | omega))) <;> first | assumption | rfl) ?_
      refine wa_iload (pc := 51) (y := mJ26_split) dJ26_split_51 rfl ?_
      refine wa_iand (pc := 53) (y := mJ26_split) dJ26_split_53 ?_
      refine wa_if_ne (pc := 54) 92 dJ26_split_54 rfl (fun hb54 => absurd ((bit_0 xκ).mpr hb) hb54) (fun hb54 => ?_)
      refine wa_aloadV (pc := 57) (y := mJ26_split) dJ26_split_57 rfl (by first | exact rf_s _ | exact rf_n | exact rf_q _) ?_
      refine wa_aloadV (pc := 59) (y := mJ26_split) dJ26_split_59 rfl (by first | exact rf_s _ | exact rf_n | exact rf_q _) ?_
      refine wa_dup_x1 (pc := 61) (y := mJ26_split) dJ26_split_61 (by first | rfl | exact rf_cat _) (by first | rfl | exact rf_cat _) ?_
      refine wf_put (k := 14) (l := 11) 9 (.object "java/util/HashMap$TreeNode") dJ26_split_62 (by assumption) rfl q1617 (Or.inl rfl) (Nat.le_of_ble_eq_true rfl) rfl (by decide +kernel) (by first | rfl | exact rf_nar _ | exact rf_nar2 _) (by first | rfl | exact rf_fit _ | exact rf_fit2 _) ?_
      refine wa_ifnonnullV (pc := 65) 75 dJ26_split_65 rfl (by first | exact rf_s _ | exact rf_n | exact rf_q _) (fun a65 hb65 => ?_) (fun hb65 => ?_)
      · have hw := hA _ (getLast_mem hb65)
        have hwm := getLast_mem hb65
        have hwI := hIa _ hw.2
        rw [hb65]
        refine wa_aloadV (pc := 75) (y := mJ26_split) dJ26_split_75 rfl (by first | exact rf_s _ | exact rf_n | exact rf_q _) ?_
        refine wa_aloadV (pc := 77) (y := mJ26_split) dJ26_split_77 rfl (by first | exact rf_s _ | exact rf_n | exact rf_q _) ?_
        refine wf_put (k := 14) (l := 11) 3 (.object "java/util/HashMap$Node") dJ26_split_79 (by assumption) rfl q1334 (Or.inr q1335) (Nat.le_of_ble_eq_true rfl) rfl (by decide +kernel) (by first | rfl | exact rf_nar _ | exact rf_nar2 _) (by first | rfl | exact rf_fit _ | exact rf_fit2 _) ?_
        refine wa_aloadV (pc := 82) (y := mJ26_split) dJ26_split_82 rfl (by first | exact rf_s _ | exact rf_n | exact rf_q _) ?_
        refine wa_astoreV (pc := 84) (y := mJ26_split) dJ26_split_84 (Nat.le_of_ble_eq_true rfl) (by first | rfl | (simp [okst, rf_cat] <;> assumption)) (by first | exact rf_s _ | exact rf_n | exact rf_q _) ?_
        simp only [List.set_cons_zero, List.set_cons_succ]
        refine wa_iincN (pc := 86) (y := mJ26_split) dJ26_split_86 rfl (Nat.le_of_ble_eq_true rfl) (by first | rfl | (simp [okst, rf_cat] <;> assumption)) ?_
        simp only [List.set_cons_zero, List.set_cons_succ]
        refine wa_goto (pc := 89) (y := mJ26_split) 124 dJ26_split_89 rfl ?_
        refine wa_aloadV (pc := 124) (y := mJ26_split) dJ26_split_124 rfl (by first | exact rf_s _ | exact rf_n | exact rf_q _) ?_
        refine wa_astoreV (pc := 126) (y := mJ26_split) dJ26_split_126 (Nat.le_of_ble_eq_true rfl) (by first | rfl | (simp [okst, rf_cat] <;> assumption)) (by first | exact rf_s _ | exact rf_n | exact rf_q _) ?_
        simp only [List.set_cons_zero, List.set_cons_succ]
        refine wa_goto (pc := 128) (y := mJ26_split) 25 dJ26_split_128 rfl ?_
        first | (subst hA0; have K := IH (updF (updF F x 3 .null) x 9 (va_rf none)) ((fra.upd ⟨by simp, by decide⟩).upd ⟨by simp, by decide⟩) (d1.snoc hS (fun z hz => by cases hz) (fun z hz => by cases hz) (by (clear ih IH hd2 hmA hnS hn ha ha2 f1 f2 fra fr hx hrN hc hdisj KQ hIa d1 d2 hna; grind [updF_eq])) (by (clear ih IH hd2 hmA hnS hn ha ha2 f1 f2 fra fr hx hrN hc hdisj KQ hIa d1 d2 hna; grind [updF_eq, va_rf]))) (hd2 _ fun z hz => by have := hA2 z hz; (clear ih IH hd2 hmA hnS hn ha ha2 f1 f2 fra fr hx hrN hc hdisj KQ hIa d1 d2 hna; grind [updF_eq])); exact K) | (have K := IH (updF (updF (updF F x 3 .null) x 9 (va_rf (some a65))) a65 3 (.ref x)) (((fra.upd ⟨by simp, by decide⟩).upd ⟨by simp, by decide⟩).upd ⟨by simp [hw.2], by decide⟩) (d1.snoc hS (fun z hz => by have := hA z hz; (clear ih IH hd2 hmA hnS hn ha ha2 f1 f2 fra fr hx hrN hc hdisj KQ hIa d1 d2 hna; grind [updF_eq, va_rf])) (fun z hz => by have := hA z hz; (clear ih IH hd2 hmA hnS hn ha ha2 f1 f2 fra fr hx hrN hc hdisj KQ hIa d1 d2 hna; grind [updF_eq])) (by have := hw.1; (clear ih IH hd2 hmA hnS hn ha ha2 f1 f2 fra fr hx hrN hc hdisj KQ hIa d1 d2 hna; grind [updF_eq])) (by have := hw.1; (clear ih IH hd2 hmA hnS hn ha ha2 f1 f2 fra fr hx hrN hc hdisj KQ hIa d1 d2 hna; grind [updF_eq, va_rf]))) (hd2 _ fun z hz => by have h1 := hA2 z hz; have h2 := hdisj a65 hwm; have h3 : z ≠ a65 := fun e => h2 (e ▸ hz); (clear ih IH hd2 hmA hnS hn ha ha2 f1 f2 fra fr hx hrN hc hdisj KQ hIa d1 d2 hna; grind [updF_eq])); rw [List.getLast?_append, show ([x] : List Nat).getLast? = some x from rfl, List.head?_append, List.length_append, show (A.head?).or ([x] : List Nat).head? = A.head? from by cases A <;> simp at hwm ⊢] at K; exact K)
      · have hA0 := getLast_none hb65
        rw [hb65]
        refine wa_aloadV (pc := 68) (y := mJ26_split) dJ26_split_68 rfl (by first | exact rf_s _ | exact rf_n | exact rf_q _) ?_
        refine wa_astoreV (pc := 70) (y := mJ26_split) dJ26_split_70 (Nat.le_of_ble_eq_true rfl) (by first | rfl | (simp [okst, rf_cat] <;> assumption)) (by first | exact rf_s _ | exact rf_n | exact rf_q _) ?_
        simp only [List.set_cons_zero, List.set_cons_succ]
        refine wa_goto (pc := 72) (y := mJ26_split) 82 dJ26_split_72 rfl ?_
        refine wa_aloadV (pc := 82) (y := mJ26_split) dJ26_split_82 rfl (by first | exact rf_s _ | exact rf_n | exact rf_q _) ?_
        refine wa_astoreV (pc := 84) (y := mJ26_split) dJ26_split_84 (Nat.le_of_ble_eq_true rfl) (by first | rfl | (simp [okst, rf_cat] <;> assumption)) (by first | exact rf_s _ | exact rf_n | exact rf_q _) ?_
        simp only [List.set_cons_zero, List.set_cons_succ]
        refine wa_iincN (pc := 86) (y := mJ26_split) dJ26_split_86 rfl (Nat.le_of_ble_eq_true rfl) (by first | rfl | (simp [okst, rf_cat] <;> assumption)) ?_
        simp only [List.set_cons_zero, List.set_cons_succ]
        refine wa_goto (pc := 89) (y := mJ26_split) 124 dJ26_split_89 rfl ?_
        refine wa_aloadV (pc := 124) (y := mJ26_split) dJ26_split_124 rfl (by first | exact rf_s _ | exact rf_n | exact rf_q _) ?_
        refine wa_astoreV (pc := 126) (y := mJ26_split) dJ26_split_126 (Nat.le_of_ble_eq_true rfl) (by first | rfl | (simp [okst, rf_cat] <;> assumption)) (by first | exact rf_s _ | exact rf_n | exact rf_q _) ?_
        simp only [List.set_cons_zero, List.set_cons_succ]
        refine wa_goto (pc := 128) (y := mJ26_split) 25 dJ26_split_128 rfl ?_
        first | (subst hA0; have K := IH (updF (updF F x 3 .null) x 9 (va_rf none)) ((fra.upd ⟨by simp, by decide⟩).upd ⟨by simp, by decide⟩) (d1.snoc hS (fun z hz => by cases hz) (fun z hz => by cases hz) (by (clear ih IH hd2 hmA hnS hn ha ha2 f1 f2 fra fr hx hrN hc hdisj KQ hIa d1 d2 hna; grind [updF_eq])) (by (clear ih IH hd2 hmA hnS hn ha ha2 f1 f2 fra fr hx hrN hc hdisj KQ hIa d1 d2 hna; grind [updF_eq, va_rf]))) (hd2 _ fun z hz => by have := hA2 z hz; (clear ih IH hd2 hmA hnS hn ha ha2 f1 f2 fra fr hx hrN hc hdisj KQ hIa d1 d2 hna; grind [updF_eq])); exact K) | (have K := IH (updF (updF (updF F x 3 .null) x 9 (va_rf (some a65))) a65 3 (.ref x)) (((fra.upd ⟨by simp, by decide⟩).upd ⟨by simp, by decide⟩).upd ⟨by simp [hw.2], by decide⟩) (d1.snoc hS (fun z hz => by have := hA z hz; (clear ih IH hd2 hmA hnS hn ha ha2 f1 f2 fra fr hx hrN hc hdisj KQ hIa d1 d2 hna; grind [updF_eq, va_rf])) (fun z hz => by have := hA z hz; (clear ih IH hd2 hmA hnS hn ha ha2 f1 f2 fra fr hx hrN hc hdisj KQ hIa d1 d2 hna; grind [updF_eq])) (by have := hw.1; (clear ih IH hd2 hmA hnS hn ha ha2 f1 f2 fra fr hx hrN hc hdisj KQ hIa d1 d2 hna; grind [updF_eq])) (by have := hw.1; (clear ih IH hd2 hmA hnS hn ha ha2 f1 f2 fra fr hx hrN hc hdisj KQ hIa d1 d2 hna; grind [updF_eq, va_rf]))) (hd2 _ fun z hz => by have h1 := hA2 z hz; have h2 := hdisj a65 hwm; have h3 : z ≠ a65 := fun e => h2 (e ▸ hz); (clear ih IH hd2 hmA hnS hn ha ha2 f1 f2 fra fr hx hrN hc hdisj KQ hIa d1 d2 hna; grind [updF_eq])); rw [List.getLast?_append, show ([x] : List Nat).getLast? = some x from rfl, List.head?_append, List.length_append, show (A.head?).or ([x] : List Nat).head? = A.head? from by cases A <;> simp at hwm ⊢] at K; exact K)
    | true =>
      have f1 : (a ++ [x]).filter (fun z => !(kF F0 z).testBit k) = (a.filter fun z => !(kF F0 z).testBit k) := by simp [hb]
      have f2 : (a ++ [x]).filter (fun z => (kF F0 z).testBit k) = (a.filter fun z => (kF F0 z).testBit k) ++ [x] := by simp [hb]
      have IH := fun F => ih (a ++ [x]) F (va_rf rest.head?) ha2
      rw [f1, f2] at IH
      have hS := hnS fun z => (kF F0 z).testBit k
      have hA := hmA fun z => !(kF F0 z).testBit k
      have hA2 := hmA fun z => (kF F0 z).testBit k
      generalize (a.filter fun z => !(kF F0 z).testBit k) = A at *
      generalize (a.filter fun z => (kF F0 z).testBit k) = A2 at *
      have hd2 : ∀ F', (∀ z, z ∈ A → F' z 3 = F z 3 ∧ F' z 9 = F z 9) → DL F' 3 9 A := fun F' h9 => ⟨ChE_congr (fun z hz => (h9 z hz).1) d1.1, PvE_congr (fun z hz => (h9 z hz).2) d1.2⟩
      refine wa_aloadV (pc := 25) (y := mJ26_split) dJ26_split_25 rfl (by first | exact rf_s _ | exact rf_n | exact rf_q _) ?_
      refine wa_ifnull (pc := 27) (y := mJ26_split) dJ26_split_27 ?_
      refine wa_aloadV (pc := 30) (y := mJ26_split) dJ26_split_30 rfl (by first | exact rf_s _ | exact rf_n | exact rf_q _) ?_
      refine wf_get (k := 14) (l := 11) 3 dJ26_split_32 (by assumption) rfl q1334 (Or.inr q1335) (Nat.le_of_ble_eq_true rfl) (Nat.le_of_ble_eq_true rfl) (by (repeat (first | exact updF_self _ _ _ _ | (apply updF_i; · decide) | (apply updF_a; · first | assumption | (apply Ne.symm; assumption) | omega) | (apply newF_a; · first | assumption | (apply Ne.symm; assumption) | omega) | exact newL_self (by rfl) | exact newF_self (by rfl) | (apply cpyF_a; · first | assumption | (apply Ne.symm; assumption) | omega))) <;> first | assumption | rfl) ?_
      refine wn_castq dJ26_split_35 (by first | exact rf_s _ | exact rf_n | exact rf_q _) hrN q1290 ?_
      refine wa_astoreV (pc := 38) (y := mJ26_split) dJ26_split_38 (Nat.le_of_ble_eq_true rfl) (by first | rfl | (simp [okst, rf_cat] <;> assumption)) (by first | exact rf_s _ | exact rf_n | exact rf_q _) ?_
      simp only [List.set_cons_zero, List.set_cons_succ]
      refine wa_aloadV (pc := 40) (y := mJ26_split) dJ26_split_40 rfl (by first | exact rf_s _ | exact rf_n | exact rf_q _) ?_
      refine wa_null (pc := 42) (y := mJ26_split) dJ26_split_42 ?_
      refine wf_put (k := 14) (l := 11) 3 (.object "java/util/HashMap$Node") dJ26_split_43 (by assumption) rfl q1334 (Or.inr q1335) (Nat.le_of_ble_eq_true rfl) rfl (by decide +kernel) (by first | rfl | exact rf_nar _ | exact rf_nar2 _) (by first | rfl | exact rf_fit _ | exact rf_fit2 _) ?_
      refine wa_aloadV (pc := 46) (y := mJ26_split) dJ26_split_46 rfl (by first | exact rf_s _ | exact rf_n | exact rf_q _) ?_
      refine wf_get (k := 14) (l := 11) 0 dJ26_split_48 (by assumption) rfl q1314 (Or.inr q1315) (Nat.le_of_ble_eq_true rfl) (Nat.le_of_ble_eq_true rfl) (by (repeat (first | exact updF_self _ _ _ _ | (apply updF_i; · decide) | (apply updF_a; · first | assumption | (apply Ne.symm; assumption) | omega) | (apply newF_a; · first | assumption | (apply Ne.symm; assumption) | omega) | exact newL_self (by rfl) | exact newF_self (by rfl) | (apply cpyF_a; · first | assumption | (apply Ne.symm; assumption) | omega))) <;> first | assumption | rfl) ?_
      refine wa_iload (pc := 51) (y := mJ26_split) dJ26_split_51 rfl ?_
      refine wa_iand (pc := 53) (y := mJ26_split) dJ26_split_53 ?_
      refine wa_if_ne (pc := 54) 92 dJ26_split_54 rfl (fun hb54 => ?_) (fun hb54 => absurd (((bit_0 xκ).mp hb54).symm.trans hb) (by simp))
      refine wa_aloadV (pc := 92) (y := mJ26_split) dJ26_split_92 rfl (by first | exact rf_s _ | exact rf_n | exact rf_q _) ?_
      refine wa_aloadV (pc := 94) (y := mJ26_split) dJ26_split_94 rfl (by first | exact rf_s _ | exact rf_n | exact rf_q _) ?_
      refine wa_dup_x1 (pc := 96) (y := mJ26_split) dJ26_split_96 (by first | rfl | exact rf_cat _) (by first | rfl | exact rf_cat _) ?_
      refine wf_put (k := 14) (l := 11) 9 (.object "java/util/HashMap$TreeNode") dJ26_split_97 (by assumption) rfl q1617 (Or.inl rfl) (Nat.le_of_ble_eq_true rfl) rfl (by decide +kernel) (by first | rfl | exact rf_nar _ | exact rf_nar2 _) (by first | rfl | exact rf_fit _ | exact rf_fit2 _) ?_
      refine wa_ifnonnullV (pc := 100) 110 dJ26_split_100 rfl (by first | exact rf_s _ | exact rf_n | exact rf_q _) (fun a100 hb100 => ?_) (fun hb100 => ?_)
      · have hw := hA2 _ (getLast_mem hb100)
        have hwm := getLast_mem hb100
        have hwI := hIa _ hw.2
        rw [hb100]
        refine wa_aloadV (pc := 110) (y := mJ26_split) dJ26_split_110 rfl (by first | exact rf_s _ | exact rf_n | exact rf_q _) ?_
        refine wa_aloadV (pc := 112) (y := mJ26_split) dJ26_split_112 rfl (by first | exact rf_s _ | exact rf_n | exact rf_q _) ?_
        refine wf_put (k := 14) (l := 11) 3 (.object "java/util/HashMap$Node") dJ26_split_114 (by assumption) rfl q1334 (Or.inr q1335) (Nat.le_of_ble_eq_true rfl) rfl (by decide +kernel) (by first | rfl | exact rf_nar _ | exact rf_nar2 _) (by first | rfl | exact rf_fit _ | exact rf_fit2 _) ?_
        refine wa_aloadV (pc := 117) (y := mJ26_split) dJ26_split_117 rfl (by first | exact rf_s _ | exact rf_n | exact rf_q _) ?_
        refine wa_astoreV (pc := 119) (y := mJ26_split) dJ26_split_119 (Nat.le_of_ble_eq_true rfl) (by first | rfl | (simp [okst, rf_cat] <;> assumption)) (by first | exact rf_s _ | exact rf_n | exact rf_q _) ?_
        simp only [List.set_cons_zero, List.set_cons_succ]
        refine wa_iincN (pc := 121) (y := mJ26_split) dJ26_split_121 rfl (Nat.le_of_ble_eq_true rfl) (by first | rfl | (simp [okst, rf_cat] <;> assumption)) ?_
        simp only [List.set_cons_zero, List.set_cons_succ]
        refine wa_aloadV (pc := 124) (y := mJ26_split) dJ26_split_124 rfl (by first | exact rf_s _ | exact rf_n | exact rf_q _) ?_
        refine wa_astoreV (pc := 126) (y := mJ26_split) dJ26_split_126 (Nat.le_of_ble_eq_true rfl) (by first | rfl | (simp [okst, rf_cat] <;> assumption)) (by first | exact rf_s _ | exact rf_n | exact rf_q _) ?_
        simp only [List.set_cons_zero, List.set_cons_succ]
        refine wa_goto (pc := 128) (y := mJ26_split) 25 dJ26_split_128 rfl ?_
        first | (subst hA0; have K := IH (updF (updF F x 3 .null) x 9 (va_rf none)) ((fra.upd ⟨by simp, by decide⟩).upd ⟨by simp, by decide⟩) (hd2 _ fun z hz => by have := hA z hz; (clear ih IH hd2 hmA hnS hn ha ha2 f1 f2 fra fr hx hrN hc hdisj KQ hIa d1 d2 hna; grind [updF_eq])) (d2.snoc hS (fun z hz => by cases hz) (fun z hz => by cases hz) (by (clear ih IH hd2 hmA hnS hn ha ha2 f1 f2 fra fr hx hrN hc hdisj KQ hIa d1 d2 hna; grind [updF_eq])) (by (clear ih IH hd2 hmA hnS hn ha ha2 f1 f2 fra fr hx hrN hc hdisj KQ hIa d1 d2 hna; grind [updF_eq, va_rf]))); exact K) | (have K := IH (updF (updF (updF F x 3 .null) x 9 (va_rf (some a100))) a100 3 (.ref x)) (((fra.upd ⟨by simp, by decide⟩).upd ⟨by simp, by decide⟩).upd ⟨by simp [hw.2], by decide⟩) (hd2 _ fun z hz => by have h1 := hA z hz; have h2 := hdisj z hz; have h3 : z ≠ a100 := fun e => h2 (e ▸ hwm); (clear ih IH hd2 hmA hnS hn ha ha2 f1 f2 fra fr hx hrN hc hdisj KQ hIa d1 d2 hna; grind [updF_eq])) (d2.snoc hS (fun z hz => by have := hA2 z hz; (clear ih IH hd2 hmA hnS hn ha ha2 f1 f2 fra fr hx hrN hc hdisj KQ hIa d1 d2 hna; grind [updF_eq, va_rf])) (fun z hz => by have := hA2 z hz; (clear ih IH hd2 hmA hnS hn ha ha2 f1 f2 fra fr hx hrN hc hdisj KQ hIa d1 d2 hna; grind [updF_eq])) (by have := hw.1; (clear ih IH hd2 hmA hnS hn ha ha2 f1 f2 fra fr hx hrN hc hdisj KQ hIa d1 d2 hna; grind [updF_eq])) (by have := hw.1; (clear ih IH hd2 hmA hnS hn ha ha2 f1 f2 fra fr hx hrN hc hdisj KQ hIa d1 d2 hna; grind [updF_eq, va_rf]))); rw [List.getLast?_append, show ([x] : List Nat).getLast? = some x from rfl, List.head?_append, List.length_append, show (A2.head?).or ([x] : List Nat).head? = A2.head? from by cases A2 <;> simp at hwm ⊢] at K; exact K)
      · have hA0 := getLast_none hb100
        rw [hb100]
        refine wa_aloadV (pc := 103) (y := mJ26_split) dJ26_split_103 rfl (by first | exact rf_s _ | exact rf_n | exact rf_q _) ?_
        refine wa_astoreV (pc := 105) (y := mJ26_split) dJ26_split_105 (Nat.le_of_ble_eq_true rfl) (by first | rfl | (simp [okst, rf_cat] <;> assumption)) (by first | exact rf_s _ | exact rf_n | exact rf_q _) ?_
        simp only [List.set_cons_zero, List.set_cons_succ]
        refine wa_goto (pc := 107) (y := mJ26_split) 117 dJ26_split_107 rfl ?_
        refine wa_aloadV (pc := 117) (y := mJ26_split) dJ26_split_117 rfl (by first | exact rf_s _ | exact rf_n | exact rf_q _) ?_
        refine wa_astoreV (pc := 119) (y := mJ26_split) dJ26_split_119 (Nat.le_of_ble_eq_true rfl) (by first | rfl | (simp [okst, rf_cat] <;> assumption)) (by first | exact rf_s _ | exact rf_n | exact rf_q _) ?_
        simp only [List.set_cons_zero, List.set_cons_succ]
        refine wa_iincN (pc := 121) (y := mJ26_split) dJ26_split_121 rfl (Nat.le_of_ble_eq_true rfl) (by first | rfl | (simp [okst, rf_cat] <;> assumption)) ?_
        simp only [List.set_cons_zero, List.set_cons_succ]
        refine wa_aloadV (pc := 124) (y := mJ26_split) dJ26_split_124 rfl (by first | exact rf_s _ | exact rf_n | exact rf_q _) ?_
        refine wa_astoreV (pc := 126) (y := mJ26_split) dJ26_split_126 (Nat.le_of_ble_eq_true rfl) (by first | rfl | (simp [okst, rf_cat] <;> assumption)) (by first | exact rf_s _ | exact rf_n | exact rf_q _) ?_
        simp only [List.set_cons_zero, List.set_cons_succ]
        refine wa_goto (pc := 128) (y := mJ26_split) 25 dJ26_split_128 rfl ?_
        first | (subst hA0; have K := IH (updF (updF F x 3 .null) x 9 (va_rf none)) ((fra.upd ⟨by simp, by decide⟩).upd ⟨by simp, by decide⟩) (hd2 _ fun z hz => by have := hA z hz; (clear ih IH hd2 hmA hnS hn ha ha2 f1 f2 fra fr hx hrN hc hdisj KQ hIa d1 d2 hna; grind [updF_eq])) (d2.snoc hS (fun z hz => by cases hz) (fun z hz => by cases hz) (by (clear ih IH hd2 hmA hnS hn ha ha2 f1 f2 fra fr hx hrN hc hdisj KQ hIa d1 d2 hna; grind [updF_eq])) (by (clear ih IH hd2 hmA hnS hn ha ha2 f1 f2 fra fr hx hrN hc hdisj KQ hIa d1 d2 hna; grind [updF_eq, va_rf]))); exact K) | (have K := IH (updF (updF (updF F x 3 .null) x 9 (va_rf (some a100))) a100 3 (.ref x)) (((fra.upd ⟨by simp, by decide⟩).upd ⟨by simp, by decide⟩).upd ⟨by simp [hw.2], by decide⟩) (hd2 _ fun z hz => by have h1 := hA z hz; have h2 := hdisj z hz; have h3 : z ≠ a100 := fun e => h2 (e ▸ hwm); (clear ih IH hd2 hmA hnS hn ha ha2 f1 f2 fra fr hx hrN hc hdisj KQ hIa d1 d2 hna; grind [updF_eq])) (d2.snoc hS (fun z hz => by have := hA2 z hz; (clear ih IH hd2 hmA hnS hn ha ha2 f1 f2 fra fr hx hrN hc hdisj KQ hIa d1 d2 hna; grind [updF_eq, va_rf])) (fun z hz => by have := hA2 z hz; (clear ih IH hd2 hmA hnS hn ha ha2 f1 f2 fra fr hx hrN hc hdisj KQ hIa d1 d2 hna; grind [updF_eq])) (by have := hw.1; (clear ih IH hd2 hmA hnS hn ha ha2 f1 f2 fra fr hx hrN hc hdisj KQ hIa d1 d2 hna; grind [updF_eq])) (by have := hw.1; (clear ih IH hd2 hmA hnS hn ha ha2 f1 f2 fra fr hx hrN hc hdisj KQ hIa d1 d2 hna; grind [updF_eq, va_rf]))); rw [List.getLast?_append, show ([x] : List Nat).getLast? = some x from rfl, List.head?_append, List.length_append, show (A2.head?).or ([x] : List Nat).head? = A2.head? from by cases A2 <;> simp at hwm ⊢] at K; exact K)
/-- where the work on one half A, of slot j, may write -/
def HfP (tb j0 : Nat) (A : List Nat) : Nat → Nat → Prop := fun z j => z = tb ∧ j = j0 ∨ z ∈ A ∧ (j = 3 ∨ j = 6 ∨ j = 7 ∨ j = 8 ∨ j = 9 ∨ j = 10)
theorem HalfR.ofT {A : List Nat} (h0 : ∀ z, z ∈ A → F2 z 0 = F z 0) (hm : ∀ p, p ∈ B ↔ p ∈ A) (hn : B.Nodup) (hs : F2 tb j = va_rf B.head?) (t : TBin h F2 B (kF F)) : HalfR h F2 tb j A (fun z => z) :=
  ⟨B, hs, Or.inr (t.congr Ext.refl (fun z hz => kF_congr (h0 z ((hm z).mp hz))) fun _ _ _ _ => rfl), hn, fun p => (hm p).trans ⟨fun h => ⟨p, h, rfl⟩, fun ⟨z, h1, h2⟩ => h2 ▸ h1⟩⟩
/-- the lower half -/
theorem sp_131 {p0 : Nat} {O : List Nat} {v5 v7 v9 v11 v12 v13 : Value} {Q : RR → AH → Prop} (hd : 5 ≤ d) (hG : StG G) (hm : Is h m 12 12) (lo0 : LO F m ns) (hnn : ns.Nodup) (hN : ∀ z, z ∈ ns → Nd h z) (ht : Is h tb 36 (2 ^ (k + 1))) (hk : k < 15) (hbi : bi < 2 ^ k) (hAn : A.Nodup) (hsub : ∀ z, z ∈ A → z ∈ ns) (hI : ∀ z, z ∈ A → Is h z 14 11) (nk : ∀ z, z ∈ A → NodeR h F z)
    (hinj : ∀ p q, p ∈ A → q ∈ A → kF F p = kF F q → p = q) (hmod : ∀ z, z ∈ A → kF F z % 2 ^ (k + 1) = bi) (hs : F tb bi = .null) (dl : DL F 3 9 A) (hred : ∀ p, p ∈ A → ∃ c, F p 10 = .int (bI c)) (hO : O = [] → A = [] ∨ ∃ root, TrB h F (· ∈ A) (kF F) root 1200) (hlen : A.length < 1000)
    (KQ : ∀ (h2 : AH) (F2 : Nat → Nat → Value) (ρ : Nat → Nat) (D : List Nat), RepQ (HfP tb bi A) 6 h F h2 F2 m ns ρ D → D.Nodup → (∀ z, z ∈ D → z ∈ A) → (∀ z, z ∈ D → Is h2 (ρ z) 13 6) → HalfR h2 F2 tb bi A ρ →
      WA G d mJ26_split 171 [.ref p0, .ref m, .ref tb, .int (Int32.ofNat bi), .int (Int32.ofNat (2 ^ k)), v5, va_rf A.head?, v7, va_rf O.head?, v9, .int (Int32.ofNat A.length), v11, v12, v13] [] (sF h2 F2) Q) :
    WA G d mJ26_split 131 [.ref p0, .ref m, .ref tb, .int (Int32.ofNat bi), .int (Int32.ofNat (2 ^ k)), v5, va_rf A.head?, v7, va_rf O.head?, v9, .int (Int32.ofNat A.length), v11, v12, v13] [] (sF h F) Q := by
  have hk2 : 2 ^ (k + 1) < 2 ^ 16 := Nat.pow_lt_pow_right (by decide) (by omega)
  have hbk : bi < 2 ^ (k + 1) := by rw [Nat.pow_succ]; omega
  cases hA : A with
  | nil =>
    subst hA
    refine wa_aloadV (pc := 131) (y := mJ26_split) dJ26_split_131 rfl (by first | exact rf_s _ | exact rf_n | exact rf_q _) ?_
    refine wa_ifnullN (pc := 133) (y := mJ26_split) 171 dJ26_split_133 rfl ?_
    exact KQ h F _ [] (RepQ.refl lo0) (by simp) (fun z hz => by cases hz) (fun z hz => by cases hz) ⟨[], hs, Or.inl ⟨fun p hp => (by cases hp), trivial⟩, (by simp), fun p => ⟨fun hp => (by cases hp), fun ⟨z, hz, _⟩ => by cases hz⟩⟩
  | cons f A' =>
    rw [← hA]
    have hf : A.head? = some f := by rw [hA]; rfl
    have hfA := head_mem hf
    have hfI := hI f hfA
    have hgt : A.length ≤ 6 ∨ 6 < A.length := by omega
    have htns : tb ∉ ns := fun e => (hN tb e).ne ht (by decide) (by decide) rfl
    have htA : ∀ z, z ∈ A → z ≠ tb := fun z hz => (hI z hz).ne ht (by decide)
    have htm : tb ≠ m := ht.ne hm (by decide)
    have hnm : ∀ z, z ∈ A → z ≠ m := fun z hz => (hI z hz).ne hm (by decide)
    have hQa : ∀ p, p ∈ A → ∀ j, j < 3 → ¬ HfP tb bi A p j := fun p hp j hj e => e.elim (fun e => htA p hp e.1) (fun e => by omega)
    rw [hf] at KQ ⊢
    rcases hgt with hle | hgt
    · have c6 : Int32.ofNat A.length ≤ Int32.ofNat 6 := (iN_le (by omega) (by omega)).mpr hle
      refine wa_aloadV (pc := 131) (y := mJ26_split) dJ26_split_131 rfl (by first | exact rf_s _ | exact rf_n | exact rf_q _) ?_
      refine wa_ifnull (pc := 133) (y := mJ26_split) dJ26_split_133 ?_
      refine wa_iload (pc := 136) (y := mJ26_split) dJ26_split_136 rfl ?_
      refine wa_bipush (pc := 138) (y := mJ26_split) (Int32.ofNat 6) dJ26_split_138 rfl ?_
      refine wa_icmp_gt (pc := 140) 155 dJ26_split_140 rfl (fun hb140 => absurd hb140 (Int32.not_lt.mpr c6)) (fun hb140 => ?_)
      refine wa_aloadV_n (pc := 143) (y := mJ26_split) dJ26_split_143 rfl (by first | exact rf_s _ | exact rf_n | exact rf_q _) ?_
      refine wa_iload_n (pc := 144) (y := mJ26_split) dJ26_split_144 rfl ?_
      refine wa_aloadV (pc := 145) (y := mJ26_split) dJ26_split_145 rfl (by first | exact rf_s _ | exact rf_n | exact rf_q _) ?_
      refine wa_aloadV_n (pc := 147) (y := mJ26_split) dJ26_split_147 rfl (by first | exact rf_s _ | exact rf_n | exact rf_q _) ?_
      refine wa_callV (pc := 148) (s_J26_untreeify (d := d - 1) (B := A) (by omega) hA hm lo0 hnn hN hAn hsub (fun z hz => by obtain ⟨-, ⟨e0, q, e1, -⟩, e2⟩ := nk z hz; exact ⟨_, q, _, e0, e1, e2⟩) dl.1) dJ26_split_148 okJ26_untreeify q1291 q1292 q1293 (sF_at (by assumption)) rfl rfl rfl (Nat.le_of_ble_eq_true rfl) (Nat.le_of_ble_eq_true rfl) (by omega) ?_
      rintro _ _ - - ⟨h2, F2, ρ, rfl, rfl, R2, u1, u2⟩
      refine aft_v (pc2 := 151) ?_ rfl
      have ht2 := ht.ext R2.1
      have R9 := R2
      obtain ⟨r1, r2, r3, r4, r5, r6, r7, r8⟩ := R9
      have hρt : ∀ z, z ∈ A → ρ z ≠ tb := fun z hz => by have := r3 z hz; have := ht.lt; omega
      refine wf_aastoreV (pc := 151) (y := mJ26_split) "java/util/HashMap$Node" dJ26_split_151 ht2 (Or.inr ⟨rfl, rfl⟩) (by omega) (rf_q _) (fun z hz => by obtain ⟨w, hw, rfl⟩ := List.mem_map.mp (head_mem hz); exact Nd.stor (Or.inl (u2 w hw))) ?_
      refine wa_goto (pc := 152) (y := mJ26_split) 171 dJ26_split_152 rfl ?_
      refine KQ h2 _ ρ A ((RepQ.ofR (Q := HfP tb bi A) R2 FrP.refl hQa).fr (Q2 := fun z j => z = tb ∧ j = bi) (FrP.refl.upd ⟨rfl, rfl⟩) (fun z j _ h9 => Or.inl h9) ⟨fun e => htm e.1.symm, fun e => htm e.1.symm⟩ (fun z hz => ?_) (fun z hz j hj e => hρt z hz e.1)) hAn (fun z hz => hz) u2 ⟨A.map ρ, updF_self _ _ _ _, Or.inl ⟨fun p hp => ?_, ChE_congr (fun z hz => ?_) u1⟩, ?_, fun p => List.mem_map⟩
      · have : ρ z ≠ tb := by
          by_cases hza : z ∈ A
          · exact hρt z hza
          · rw [r4 z hza]; exact fun e => htns (e ▸ hz)
        exact ⟨fun e => this e.1, fun e => this e.1⟩
      · obtain ⟨w, hw, rfl⟩ := List.mem_map.mp hp
        exact u2 w hw
      · obtain ⟨w, hw, rfl⟩ := List.mem_map.mp hz
        exact updF_a (hρt w hw) rfl
      · rw [List.nodup_iff_pairwise_ne, List.pairwise_map]
        exact List.Pairwise.imp_of_mem (fun {x y} hx hy hxy e => hxy (r5 x y hx hy e)) (List.nodup_iff_pairwise_ne.mp hAn)
    · have c6 : Int32.ofNat 6 < Int32.ofNat A.length := (iN_lt (by omega) (by omega)).mpr hgt
      have gz : ∀ z j, z ∈ A → updF F tb bi (.ref f) z j = F z j := fun z j hz => updF_a (htA z hz) rfl
      have hkz : ∀ z, z ∈ A → kF (updF F tb bi (.ref f)) z = kF F z := fun z hz => kF_congr (gz z 0 hz)
      have dl2 : DL (updF F tb bi (.ref f)) 3 9 A := ⟨ChE_congr (fun z hz => gz z 3 hz) dl.1, PvE_congr (fun z hz => gz z 9 hz) dl.2⟩
      have hsf : updF F tb bi (.ref f) tb bi = va_rf A.head? := by rw [updF_self, hf]; rfl
      have hz9 : ∀ z, z ∈ ns → ¬ HfP tb bi A z 4 ∧ ¬ HfP tb bi A z 5 := fun z hz => ⟨fun e => e.elim (fun e => htns (e.1 ▸ hz)) (fun e => by omega), fun e => e.elim (fun e => htns (e.1 ▸ hz)) (fun e => by omega)⟩
      have hm9 : ¬ HfP tb bi A m 8 ∧ ¬ HfP tb bi A m 9 := ⟨fun e => e.elim (fun e => htm e.1.symm) (fun e => hnm m e.1 rfl), fun e => e.elim (fun e => htm e.1.symm) (fun e => hnm m e.1 rfl)⟩
      refine wa_aloadV (pc := 131) (y := mJ26_split) dJ26_split_131 rfl (by first | exact rf_s _ | exact rf_n | exact rf_q _) ?_
      refine wa_ifnull (pc := 133) (y := mJ26_split) dJ26_split_133 ?_
      refine wa_iload (pc := 136) (y := mJ26_split) dJ26_split_136 rfl ?_
      refine wa_bipush (pc := 138) (y := mJ26_split) (Int32.ofNat 6) dJ26_split_138 rfl ?_
      refine wa_icmp_gt (pc := 140) 155 dJ26_split_140 rfl (fun hb140 => ?_) (fun hb140 => absurd c6 hb140)
      refine wa_aloadV_n (pc := 155) (y := mJ26_split) dJ26_split_155 rfl (by first | exact rf_s _ | exact rf_n | exact rf_q _) ?_
      refine wa_iload_n (pc := 156) (y := mJ26_split) dJ26_split_156 rfl ?_
      refine wa_aloadV (pc := 157) (y := mJ26_split) dJ26_split_157 rfl (by first | exact rf_s _ | exact rf_n | exact rf_q _) ?_
      refine wf_aastoreV (pc := 159) (y := mJ26_split) "java/util/HashMap$Node" dJ26_split_159 ht (Or.inr ⟨rfl, rfl⟩) (by omega) (rf_s f) (fun z hz => by cases hz; exact Nd.stor (Or.inr hfI)) ?_
      refine wa_aloadV (pc := 160) (y := mJ26_split) dJ26_split_160 rfl (by first | exact rf_s _ | exact rf_n | exact rf_q _) ?_
      refine wa_ifnullV (pc := 162) 171 dJ26_split_162 rfl (by first | exact rf_s _ | exact rf_n | exact rf_q _) (fun hb162 => ?_) (fun a162 hb162 => ?_)
      · rw [hb162] at KQ ⊢
        first | exact KQ h F2 _ [] ((RepQ.refl lo0).fr (Q2 := HfP tb bi A) ((FrP.refl.upd (Or.inl ⟨rfl, rfl⟩)).trans b5) (fun _ _ _ h9 => h9) hm9 hz9 (fun p hp => by cases hp)) (by simp) (fun z hz => by cases hz) (fun z hz => by cases hz) (HalfR.ofT (F := F) (fun z hz => (b5 z 0 fun e => e.elim (fun e => htA z hz e.1) (fun e => by omega)).trans (gz z 0 hz)) b1 b2 b3 b4) | (have hO0 := head_none hb162; rcases hO hO0 with h9 | ⟨root, t9⟩; (rw [h9] at hfA; cases hfA); exact KQ h _ _ [] ((RepQ.refl lo0).fr (Q2 := HfP tb bi A) (FrP.refl.upd (Or.inl ⟨rfl, rfl⟩)) (fun _ _ _ h9 => h9) hm9 hz9 (fun p hp => by cases hp)) (by simp) (fun z hz => by cases hz) (fun z hz => by cases hz) (HalfR.ofT (F := F) (fun z hz => gz z 0 hz) (fun _ => Iff.rfl) hAn hsf ⟨dl2, root, t9.congr fun z j hz _ => gz z j hz⟩))
      · rw [hb162] at KQ ⊢
        refine wa_aloadV (pc := 165) (y := mJ26_split) dJ26_split_165 rfl (by first | exact rf_s _ | exact rf_n | exact rf_q _) ?_
        refine wa_aloadV_n (pc := 167) (y := mJ26_split) dJ26_split_167 rfl (by first | exact rf_s _ | exact rf_n | exact rf_q _) ?_
        refine wa_callV (pc := 168) (s_J26_treeify (d := d - 1) (B := A) (κ := kF F) (bi := bi) (by omega) hG ht (by omega) hA hAn hI (fun p hp => ((nk p hp).2.1).congr (gz p 0 hp) (gz p 1 hp) (fun q j hq => updF_a (hq.ne ht (by decide)) rfl)) hmod hinj hsf dl2 (fun p hp => by obtain ⟨c, hc⟩ := hred p hp; exact ⟨c, (gz p 10 hp).trans hc⟩)) dJ26_split_168 okJ26_treeify q1357 q1358 q1359 (sF_at (by assumption)) rfl rfl rfl (Nat.le_of_ble_eq_true rfl) (Nat.le_of_ble_eq_true rfl) (by omega) ?_
        rintro _ _ - - ⟨rfl, F2, B2, rfl, b1, b2, b3, b4, b5⟩
        refine aft_0 (pc2 := 171) ?_ rfl
        first | exact KQ h F2 _ [] ((RepQ.refl lo0).fr (Q2 := HfP tb bi A) ((FrP.refl.upd (Or.inl ⟨rfl, rfl⟩)).trans b5) (fun _ _ _ h9 => h9) hm9 hz9 (fun p hp => by cases hp)) (by simp) (fun z hz => by cases hz) (fun z hz => by cases hz) (HalfR.ofT (F := F) (fun z hz => (b5 z 0 fun e => e.elim (fun e => htA z hz e.1) (fun e => by omega)).trans (gz z 0 hz)) b1 b2 b3 b4) | (have hO0 := head_none hb162; rcases hO hO0 with h9 | ⟨root, t9⟩; (rw [h9] at hfA; cases hfA); exact KQ h _ _ [] ((RepQ.refl lo0).fr (Q2 := HfP tb bi A) (FrP.refl.upd (Or.inl ⟨rfl, rfl⟩)) (fun _ _ _ h9 => h9) hm9 hz9 (fun p hp => by cases hp)) (by simp) (fun z hz => by cases hz) (fun z hz => by cases hz) (HalfR.ofT (F := F) (fun z hz => gz z 0 hz) (fun _ => Iff.rfl) hAn hsf ⟨dl2, root, t9.congr fun z j hz _ => gz z j hz⟩))
/-- the upper half -/
theorem sp_171 {p0 : Nat} {O : List Nat} {v5 v7 v9 v10 v12 v13 : Value} {Q : RR → AH → Prop} (hd : 5 ≤ d) (hG : StG G) (hm : Is h m 12 12) (lo0 : LO F m ns) (hnn : ns.Nodup) (hN : ∀ z, z ∈ ns → Nd h z) (ht : Is h tb 36 (2 ^ (k + 1))) (hk : k < 15) (hbi : bi < 2 ^ k) (hAn : A.Nodup) (hsub : ∀ z, z ∈ A → z ∈ ns) (hI : ∀ z, z ∈ A → Is h z 14 11) (nk : ∀ z, z ∈ A → NodeR h F z)
    (hinj : ∀ p q, p ∈ A → q ∈ A → kF F p = kF F q → p = q) (hmod : ∀ z, z ∈ A → kF F z % 2 ^ (k + 1) = bi + 2 ^ k) (hs : F tb (bi + 2 ^ k) = .null) (dl : DL F 3 9 A) (hred : ∀ p, p ∈ A → ∃ c, F p 10 = .int (bI c)) (hO : O = [] → A = [] ∨ ∃ root, TrB h F (· ∈ A) (kF F) root 1200) (hlen : A.length < 1000)
    (KQ : ∀ (h2 : AH) (F2 : Nat → Nat → Value) (ρ : Nat → Nat) (D : List Nat), RepQ (HfP tb (bi + 2 ^ k) A) 6 h F h2 F2 m ns ρ D → D.Nodup → (∀ z, z ∈ D → z ∈ A) → (∀ z, z ∈ D → Is h2 (ρ z) 13 6) → HalfR h2 F2 tb (bi + 2 ^ k) A ρ → Q (.inl none) (sF h2 F2)) :
    WA G d mJ26_split 171 [.ref p0, .ref m, .ref tb, .int (Int32.ofNat bi), .int (Int32.ofNat (2 ^ k)), v5, va_rf O.head?, v7, va_rf A.head?, v9, v10, .int (Int32.ofNat A.length), v12, v13] [] (sF h F) Q := by
  have hk2 : 2 ^ (k + 1) < 2 ^ 16 := Nat.pow_lt_pow_right (by decide) (by omega)
  have hbk : bi + 2 ^ k < 2 ^ (k + 1) := by rw [Nat.pow_succ]; omega
  cases hA : A with
  | nil =>
    subst hA
    refine wa_aloadV (pc := 171) (y := mJ26_split) dJ26_split_171 rfl (by first | exact rf_s _ | exact rf_n | exact rf_q _) ?_
    refine wa_ifnullN (pc := 173) (y := mJ26_split) 217 dJ26_split_173 rfl ?_
    exact wa_return (pc := 217) (y := mJ26_split) dJ26_split_217 rfl (KQ h F _ [] (RepQ.refl lo0) (by simp) (fun z hz => by cases hz) (fun z hz => by cases hz) ⟨[], hs, Or.inl ⟨fun p hp => (by cases hp), trivial⟩, (by simp), fun p => ⟨fun hp => (by cases hp), fun ⟨z, hz, _⟩ => by cases hz⟩⟩)
  | cons f A' =>
    rw [← hA]
    have hf : A.head? = some f := by rw [hA]; rfl
    have hfA := head_mem hf
    have hfI := hI f hfA
    have hgt : A.length ≤ 6 ∨ 6 < A.length := by omega
    have htns : tb ∉ ns := fun e => (hN tb e).ne ht (by decide) (by decide) rfl
    have htA : ∀ z, z ∈ A → z ≠ tb := fun z hz => (hI z hz).ne ht (by decide)
    have htm : tb ≠ m := ht.ne hm (by decide)
    have hnm : ∀ z, z ∈ A → z ≠ m := fun z hz => (hI z hz).ne hm (by decide)
    have hQa : ∀ p, p ∈ A → ∀ j, j < 3 → ¬ HfP tb (bi + 2 ^ k) A p j := fun p hp j hj e => e.elim (fun e => htA p hp e.1) (fun e => by omega)
    rw [hf]
    rcases hgt with hle | hgt
    · have c6 : Int32.ofNat A.length ≤ Int32.ofNat 6 := (iN_le (by omega) (by omega)).mpr hle
      refine wa_aloadV (pc := 171) (y := mJ26_split) dJ26_split_171 rfl (by first | exact rf_s _ | exact rf_n | exact rf_q _) ?_
      refine wa_ifnull (pc := 173) (y := mJ26_split) dJ26_split_173 ?_
      refine wa_iload (pc := 176) (y := mJ26_split) dJ26_split_176 rfl ?_
      refine wa_bipush (pc := 178) (y := mJ26_split) (Int32.ofNat 6) dJ26_split_178 rfl ?_
      refine wa_icmp_gt (pc := 180) 198 dJ26_split_180 rfl (fun hb180 => absurd hb180 (Int32.not_lt.mpr c6)) (fun hb180 => ?_)
      refine wa_aloadV_n (pc := 183) (y := mJ26_split) dJ26_split_183 rfl (by first | exact rf_s _ | exact rf_n | exact rf_q _) ?_
      refine wa_iload_n (pc := 184) (y := mJ26_split) dJ26_split_184 rfl ?_
      refine wa_iload (pc := 185) (y := mJ26_split) dJ26_split_185 rfl ?_
      first | with_reducible refine wa_iaddN (pc := 187) (y := mJ26_split) dJ26_split_187 ?_ | refine wa_iadd (pc := 187) (y := mJ26_split) dJ26_split_187 ?_
      refine wa_aloadV (pc := 188) (y := mJ26_split) dJ26_split_188 rfl (by first | exact rf_s _ | exact rf_n | exact rf_q _) ?_
      refine wa_aloadV_n (pc := 190) (y := mJ26_split) dJ26_split_190 rfl (by first | exact rf_s _ | exact rf_n | exact rf_q _) ?_
      refine wa_callV (pc := 191) (s_J26_untreeify (d := d - 1) (B := A) (by omega) hA hm lo0 hnn hN hAn hsub (fun z hz => by obtain ⟨-, ⟨e0, q, e1, -⟩, e2⟩ := nk z hz; exact ⟨_, q, _, e0, e1, e2⟩) dl.1) dJ26_split_191 okJ26_untreeify q1291 q1292 q1293 (sF_at (by assumption)) rfl rfl rfl (Nat.le_of_ble_eq_true rfl) (Nat.le_of_ble_eq_true rfl) (by omega) ?_
      rintro _ _ - - ⟨h2, F2, ρ, rfl, rfl, R2, u1, u2⟩
      refine aft_v (pc2 := 194) ?_ rfl
      have ht2 := ht.ext R2.1
      have R9 := R2
      obtain ⟨r1, r2, r3, r4, r5, r6, r7, r8⟩ := R9
      have hρt : ∀ z, z ∈ A → ρ z ≠ tb := fun z hz => by have := r3 z hz; have := ht.lt; omega
      refine wf_aastoreV (pc := 194) (y := mJ26_split) "java/util/HashMap$Node" dJ26_split_194 ht2 (Or.inr ⟨rfl, rfl⟩) (by omega) (rf_q _) (fun z hz => by obtain ⟨w, hw, rfl⟩ := List.mem_map.mp (head_mem hz); exact Nd.stor (Or.inl (u2 w hw))) ?_
      refine wa_goto (pc := 195) (y := mJ26_split) 217 dJ26_split_195 rfl ?_
      refine wa_return (pc := 217) (y := mJ26_split) dJ26_split_217 rfl (KQ h2 _ ρ A ((RepQ.ofR (Q := HfP tb (bi + 2 ^ k) A) R2 FrP.refl hQa).fr (Q2 := fun z j => z = tb ∧ j = bi + 2 ^ k) (FrP.refl.upd ⟨rfl, rfl⟩) (fun z j _ h9 => Or.inl h9) ⟨fun e => htm e.1.symm, fun e => htm e.1.symm⟩ (fun z hz => ?_) (fun z hz j hj e => hρt z hz e.1)) hAn (fun z hz => hz) u2 ⟨A.map ρ, updF_self _ _ _ _, Or.inl ⟨fun p hp => ?_, ChE_congr (fun z hz => ?_) u1⟩, ?_, fun p => List.mem_map⟩)
      · have : ρ z ≠ tb := by
          by_cases hza : z ∈ A
          · exact hρt z hza
          · rw [r4 z hza]; exact fun e => htns (e ▸ hz)
        exact ⟨fun e => this e.1, fun e => this e.1⟩
      · obtain ⟨w, hw, rfl⟩ := List.mem_map.mp hp
        exact u2 w hw
      · obtain ⟨w, hw, rfl⟩ := List.mem_map.mp hz
        exact updF_a (hρt w hw) rfl
      · rw [List.nodup_iff_pairwise_ne, List.pairwise_map]
        exact List.Pairwise.imp_of_mem (fun {x y} hx hy hxy e => hxy (r5 x y hx hy e)) (List.nodup_iff_pairwise_ne.mp hAn)
    · have c6 : Int32.ofNat 6 < Int32.ofNat A.length := (iN_lt (by omega) (by omega)).mpr hgt
      have gz : ∀ z j, z ∈ A → updF F tb (bi + 2 ^ k) (.ref f) z j = F z j := fun z j hz => updF_a (htA z hz) rfl
      have hkz : ∀ z, z ∈ A → kF (updF F tb (bi + 2 ^ k) (.ref f)) z = kF F z := fun z hz => kF_congr (gz z 0 hz)
      have dl2 : DL (updF F tb (bi + 2 ^ k) (.ref f)) 3 9 A := ⟨ChE_congr (fun z hz => gz z 3 hz) dl.1, PvE_congr (fun z hz => gz z 9 hz) dl.2⟩
      have hsf : updF F tb (bi + 2 ^ k) (.ref f) tb (bi + 2 ^ k) = va_rf A.head? := by rw [updF_self, hf]; rfl
      have hz9 : ∀ z, z ∈ ns → ¬ HfP tb (bi + 2 ^ k) A z 4 ∧ ¬ HfP tb (bi + 2 ^ k) A z 5 := fun z hz => ⟨fun e => e.elim (fun e => htns (e.1 ▸ hz)) (fun e => by omega), fun e => e.elim (fun e => htns (e.1 ▸ hz)) (fun e => by omega)⟩
      have hm9 : ¬ HfP tb (bi + 2 ^ k) A m 8 ∧ ¬ HfP tb (bi + 2 ^ k) A m 9 := ⟨fun e => e.elim (fun e => htm e.1.symm) (fun e => hnm m e.1 rfl), fun e => e.elim (fun e => htm e.1.symm) (fun e => hnm m e.1 rfl)⟩
      refine wa_aloadV (pc := 171) (y := mJ26_split) dJ26_split_171 rfl (by first | exact rf_s _ | exact rf_n | exact rf_q _) ?_
      refine wa_ifnull (pc := 173) (y := mJ26_split) dJ26_split_173 ?_
      refine wa_iload (pc := 176) (y := mJ26_split) dJ26_split_176 rfl ?_
      refine wa_bipush (pc := 178) (y := mJ26_split) (Int32.ofNat 6) dJ26_split_178 rfl ?_
      refine wa_icmp_gt (pc := 180) 198 dJ26_split_180 rfl (fun hb180 => ?_) (fun hb180 => absurd c6 hb180)
      refine wa_aloadV_n (pc := 198) (y := mJ26_split) dJ26_split_198 rfl (by first | exact rf_s _ | exact rf_n | exact rf_q _) ?_
      refine wa_iload_n (pc := 199) (y := mJ26_split) dJ26_split_199 rfl ?_
      refine wa_iload (pc := 200) (y := mJ26_split) dJ26_split_200 rfl ?_
      first | with_reducible refine wa_iaddN (pc := 202) (y := mJ26_split) dJ26_split_202 ?_ | refine wa_iadd (pc := 202) (y := mJ26_split) dJ26_split_202 ?_
      refine wa_aloadV (pc := 203) (y := mJ26_split) dJ26_split_203 rfl (by first | exact rf_s _ | exact rf_n | exact rf_q _) ?_
      refine wf_aastoreV (pc := 205) (y := mJ26_split) "java/util/HashMap$Node" dJ26_split_205 ht (Or.inr ⟨rfl, rfl⟩) (by omega) (rf_s f) (fun z hz => by cases hz; exact Nd.stor (Or.inr hfI)) ?_
      refine wa_aloadV (pc := 206) (y := mJ26_split) dJ26_split_206 rfl (by first | exact rf_s _ | exact rf_n | exact rf_q _) ?_
      refine wa_ifnullV (pc := 208) 217 dJ26_split_208 rfl (by first | exact rf_s _ | exact rf_n | exact rf_q _) (fun hb208 => ?_) (fun a208 hb208 => ?_)
      · rw [hb208]
        first | exact wa_return (pc := 217) (y := mJ26_split) dJ26_split_217 rfl (KQ h F2 _ [] ((RepQ.refl lo0).fr (Q2 := HfP tb (bi + 2 ^ k) A) ((FrP.refl.upd (Or.inl ⟨rfl, rfl⟩)).trans b5) (fun _ _ _ h9 => h9) hm9 hz9 (fun p hp => by cases hp)) (by simp) (fun z hz => by cases hz) (fun z hz => by cases hz) (HalfR.ofT (F := F) (fun z hz => (b5 z 0 fun e => e.elim (fun e => htA z hz e.1) (fun e => by omega)).trans (gz z 0 hz)) b1 b2 b3 b4)) | (have hO0 := head_none hb208; rcases hO hO0 with h9 | ⟨root, t9⟩; (rw [h9] at hfA; cases hfA); exact wa_return (pc := 217) (y := mJ26_split) dJ26_split_217 rfl (KQ h _ _ [] ((RepQ.refl lo0).fr (Q2 := HfP tb (bi + 2 ^ k) A) (FrP.refl.upd (Or.inl ⟨rfl, rfl⟩)) (fun _ _ _ h9 => h9) hm9 hz9 (fun p hp => by cases hp)) (by simp) (fun z hz => by cases hz) (fun z hz => by cases hz) (HalfR.ofT (F := F) (fun z hz => gz z 0 hz) (fun _ => Iff.rfl) hAn hsf ⟨dl2, root, t9.congr fun z j hz _ => gz z j hz⟩)))
      · rw [hb208]
        refine wa_aloadV (pc := 211) (y := mJ26_split) dJ26_split_211 rfl (by first | exact rf_s _ | exact rf_n | exact rf_q _) ?_
        refine wa_aloadV_n (pc := 213) (y := mJ26_split) dJ26_split_213 rfl (by first | exact rf_s _ | exact rf_n | exact rf_q _) ?_
        refine wa_callV (pc := 214) (s_J26_treeify (d := d - 1) (B := A) (κ := kF F) (bi := bi + 2 ^ k) (by omega) hG ht (by omega) hA hAn hI (fun p hp => ((nk p hp).2.1).congr (gz p 0 hp) (gz p 1 hp) (fun q j hq => updF_a (hq.ne ht (by decide)) rfl)) hmod hinj hsf dl2 (fun p hp => by obtain ⟨c, hc⟩ := hred p hp; exact ⟨c, (gz p 10 hp).trans hc⟩)) dJ26_split_214 okJ26_treeify q1357 q1358 q1359 (sF_at (by assumption)) rfl rfl rfl (Nat.le_of_ble_eq_true rfl) (Nat.le_of_ble_eq_true rfl) (by omega) ?_
        rintro _ _ - - ⟨rfl, F2, B2, rfl, b1, b2, b3, b4, b5⟩
        refine aft_0 (pc2 := 217) ?_ rfl
        first | exact wa_return (pc := 217) (y := mJ26_split) dJ26_split_217 rfl (KQ h F2 _ [] ((RepQ.refl lo0).fr (Q2 := HfP tb (bi + 2 ^ k) A) ((FrP.refl.upd (Or.inl ⟨rfl, rfl⟩)).trans b5) (fun _ _ _ h9 => h9) hm9 hz9 (fun p hp => by cases hp)) (by simp) (fun z hz => by cases hz) (fun z hz => by cases hz) (HalfR.ofT (F := F) (fun z hz => (b5 z 0 fun e => e.elim (fun e => htA z hz e.1) (fun e => by omega)).trans (gz z 0 hz)) b1 b2 b3 b4)) | (have hO0 := head_none hb208; rcases hO hO0 with h9 | ⟨root, t9⟩; (rw [h9] at hfA; cases hfA); exact wa_return (pc := 217) (y := mJ26_split) dJ26_split_217 rfl (KQ h _ _ [] ((RepQ.refl lo0).fr (Q2 := HfP tb (bi + 2 ^ k) A) (FrP.refl.upd (Or.inl ⟨rfl, rfl⟩)) (fun _ _ _ h9 => h9) hm9 hz9 (fun p hp => by cases hp)) (by simp) (fun z hz => by cases hz) (fun z hz => by cases hz) (HalfR.ofT (F := F) (fun z hz => gz z 0 hz) (fun _ => Iff.rfl) hAn hsf ⟨dl2, root, t9.congr fun z j hz _ => gz z j hz⟩)))
theorem HalfR.kept {A D : List Nat} {Q : Nat → Nat → Prop} {j0 : Nat} (H : HalfR h F tb j0 A ρ) (R : RepQ Q 6 h F h2 F2 m ns ρ1 D) (hA : ∀ z, z ∈ A → ρ z < h.1 ∧ ρ z ∉ D) (ht : tb < h.1 ∧ tb ∉ ns ∧ tb ≠ m ∧ ¬ Q tb j0) (hQ : ∀ z, z ∈ A → ∀ j, ¬ Q (ρ z) j) (hm : ∀ z, z ∈ A → ρ z ≠ m) : HalfR h2 F2 tb j0 A (fun z => ρ1 (ρ z)) := by
  obtain ⟨B2, b1, b2, b3, b4⟩ := H
  obtain ⟨r1, r2, r3, r4, r5, r6, r7, r8⟩ := R
  refine ⟨B2, (r8 tb j0 ht.1 ht.2.2.2 (fun e => ht.2.2.1 e.1) (fun e => ht.2.1 e.1)).trans b1, b2.congr r1 (fun z j hz hj => ?_), b3, fun p => (b4 p).trans ⟨fun ⟨z, h1, h2⟩ => ⟨z, h1, by dsimp only; rw [r4 _ (hA z h1).2]; exact h2⟩, fun ⟨z, h1, h2⟩ => ⟨z, h1, by dsimp only at h2; rw [r4 _ (hA z h1).2] at h2; exact h2⟩⟩⟩
  obtain ⟨w, h1, rfl⟩ := (b4 z).mp hz
  exact r8 _ j (hA w h1).1 (hQ w h1 j) (fun e => hm w h1 e.1) (fun e => by omega)
theorem RepQ.base {Q : Nat → Nat → Prop} (R : RepQ Q l h F1 h2 F2 m ns ρ a) (fr : FrP Q F F1) (ha : ∀ p, p ∈ a → ∀ j, j < 3 → ¬ Q p j) : RepQ Q l h F h2 F2 m ns ρ a := by
  obtain ⟨r1, r2, r3, r4, r5, r6, r7, r8⟩ := R
  exact ⟨r1, r2, r3, r4, r5, r6, fun p hp j hj => (r7 p hp j hj).trans (fr p j (ha p hp j hj)), fun b j hb hq h8 h4 => (r8 b j hb hq h8 h4).trans (fr b j hq)⟩
theorem HalfR.map {A : List Nat} {j0 : Nat} (H : HalfR h F tb j0 A ρ) (e : ∀ z, z ∈ A → ρ1 z = ρ z) : HalfR h F tb j0 A ρ1 := by
  obtain ⟨B2, b1, b2, b3, b4⟩ := H
  exact ⟨B2, b1, b2, b3, fun p => (b4 p).trans ⟨fun ⟨z, h1, h2⟩ => ⟨z, h1, (e z h1).trans h2⟩, fun ⟨z, h1, h2⟩ => ⟨z, h1, (e z h1).symm.trans h2⟩⟩⟩
theorem s_J26_split {p0 : Nat} {tl0 : List Nat} (hd : 5 ≤ d) (hG : StG G) (hm : Is h m 12 12) (lo0 : LO F m ns) (hnn : ns.Nodup) (hN : ∀ z, z ∈ ns → Nd h z) (ht : Is h tb 36 (2 ^ (k + 1))) (hk : k < 15) (hbi : bi < 2 ^ k) (hB : B = p0 :: tl0) (hBn : B.Nodup) (hsub : ∀ z, z ∈ B → z ∈ ns) (nk : ∀ z, z ∈ B → NodeR h F z)
    (hinj : ∀ p q, p ∈ B → q ∈ B → kF F p = kF F q → p = q) (hmod : ∀ z, z ∈ B → kF F z % 2 ^ k = bi) (hs0 : F tb bi = .null) (hs1 : F tb (bi + 2 ^ k) = .null) (tb0 : TBin h F B (kF F)) (hlen : B.length < 1000) :
    MA G d mJ26_split [.ref p0, .ref m, .ref tb, .int (Int32.ofNat bi), .int (Int32.ofNat (2 ^ k))] (sF h F) (SpQ h F m tb bi k ns B) := by
  obtain ⟨dl, root, L, R, P, C, lo9, hi, rk, M, t, tl⟩ := tb0
  have hI : ∀ z, z ∈ B → Is h z 14 11 := fun z hz => (tl z hz).1
  have htns : tb ∉ ns := fun e => (hN tb e).ne ht (by decide) (by decide) rfl
  have htm : tb ≠ m := ht.ne hm (by decide)
  have hnm : ∀ z, z ∈ ns → z ≠ m := fun z hz => (hN z hz).ne hm (by decide) (by decide)
  have hnt : ∀ z, z ∈ ns → z ≠ tb := fun z hz => (hN z hz).ne ht (by decide) (by decide)
  have hlt : ∀ z, z ∈ ns → z < h.1 := fun z hz => (hN z hz).lt
  have hfl : ∀ (f : Nat → Bool) z, z ∈ B.filter f → z ∈ B ∧ f z = true := fun f z hz => List.mem_filter.mp hz
  have hfn : ∀ f : Nat → Bool, (B.filter f).Nodup := fun f => hBn.filter _
  have hfe : ∀ f : Nat → Bool, (B.filter f).length < 1000 := fun f => Nat.lt_of_le_of_lt (List.length_filter_le _ _) hlen
  have hred : ∀ p, p ∈ B → F p 10 = .int (bI (C p)) := fun p hp => (tl p hp).2.2.2.2
  change WA G d mJ26_split 0 [.ref p0, .ref m, .ref tb, .int (Int32.ofNat bi), .int (Int32.ofNat (2 ^ k)), .retAddr 0, .retAddr 0, .retAddr 0, .retAddr 0, .retAddr 0, .retAddr 0, .retAddr 0, .retAddr 0, .retAddr 0] [] _ _
  have h0 : B.head? = some p0 := by rw [hB]; rfl
  refine wa_aloadV_n (pc := 0) (y := mJ26_split) dJ26_split_0 rfl (by first | exact rf_s _ | exact rf_n | exact rf_q _) ?_
  refine wa_astoreV (pc := 1) (y := mJ26_split) dJ26_split_1 (Nat.le_of_ble_eq_true rfl) (by first | rfl | (simp [okst, rf_cat] <;> assumption)) (by first | exact rf_s _ | exact rf_n | exact rf_q _) ?_
  simp only [List.set_cons_zero, List.set_cons_succ]
  refine wa_null (pc := 3) (y := mJ26_split) dJ26_split_3 ?_
  refine wa_astoreV (pc := 4) (y := mJ26_split) dJ26_split_4 (Nat.le_of_ble_eq_true rfl) (by first | rfl | (simp [okst, rf_cat] <;> assumption)) (by first | exact rf_s _ | exact rf_n | exact rf_q _) ?_
  simp only [List.set_cons_zero, List.set_cons_succ]
  refine wa_null (pc := 6) (y := mJ26_split) dJ26_split_6 ?_
  refine wa_astoreV (pc := 7) (y := mJ26_split) dJ26_split_7 (Nat.le_of_ble_eq_true rfl) (by first | rfl | (simp [okst, rf_cat] <;> assumption)) (by first | exact rf_s _ | exact rf_n | exact rf_q _) ?_
  simp only [List.set_cons_zero, List.set_cons_succ]
  refine wa_null (pc := 9) (y := mJ26_split) dJ26_split_9 ?_
  refine wa_astoreV (pc := 10) (y := mJ26_split) dJ26_split_10 (Nat.le_of_ble_eq_true rfl) (by first | rfl | (simp [okst, rf_cat] <;> assumption)) (by first | exact rf_s _ | exact rf_n | exact rf_q _) ?_
  simp only [List.set_cons_zero, List.set_cons_succ]
  refine wa_null (pc := 12) (y := mJ26_split) dJ26_split_12 ?_
  refine wa_astoreV (pc := 13) (y := mJ26_split) dJ26_split_13 (Nat.le_of_ble_eq_true rfl) (by first | rfl | (simp [okst, rf_cat] <;> assumption)) (by first | exact rf_s _ | exact rf_n | exact rf_q _) ?_
  simp only [List.set_cons_zero, List.set_cons_succ]
  refine wa_iconst (pc := 15) (y := mJ26_split) (Int32.ofNat 0) dJ26_split_15 rfl ?_
  refine wa_istore (pc := 16) (y := mJ26_split) dJ26_split_16 (Nat.le_of_ble_eq_true rfl) (by first | rfl | (simp [okst, rf_cat] <;> assumption)) ?_
  simp only [List.set_cons_zero, List.set_cons_succ]
  refine wa_iconst (pc := 18) (y := mJ26_split) (Int32.ofNat 0) dJ26_split_18 rfl ?_
  refine wa_istore (pc := 19) (y := mJ26_split) dJ26_split_19 (Nat.le_of_ble_eq_true rfl) (by first | rfl | (simp [okst, rf_cat] <;> assumption)) ?_
  simp only [List.set_cons_zero, List.set_cons_succ]
  refine wa_aloadV (pc := 21) (y := mJ26_split) dJ26_split_21 rfl (by first | exact rf_s _ | exact rf_n | exact rf_q _) ?_
  refine wa_astoreV (pc := 23) (y := mJ26_split) dJ26_split_23 (Nat.le_of_ble_eq_true rfl) (by first | rfl | (simp [okst, rf_cat] <;> assumption)) (by first | exact rf_s _ | exact rf_n | exact rf_q _) ?_
  simp only [List.set_cons_zero, List.set_cons_succ]
  have K := sp_25 (p0 := p0) (k := k) (bi := bi) (tb := tb) (m := m) (h := h) (G := G) (d := d) (Q := SpQ h F m tb bi k ns B) (F0 := F) (fun z hz => ⟨hI z hz, ((nk z hz).2.1).1, (nk z hz).lt⟩) hBn dl.1 ?_ B [] F (.retAddr 0) rfl FrP.refl DL.nil DL.nil
  · rw [h0] at K; exact K
  · intro F1 v12 v13 fr d1 d2
    have fz : ∀ z j, z ∈ B → j ≠ 3 ∧ j ≠ 9 → F1 z j = F z j := fun z j hz hj => fr z j fun e => by omega
    have fk : ∀ z, z ∈ B → kF F1 z = kF F z := fun z hz => kF_congr (fz z 0 hz (by decide))
    have hKc : ∀ q j, Is h q 4 2 → F1 q j = F q j := fun q j hq => fr q j fun e => hq.ne (hI q e.1) (by decide) rfl
    have nk1 : ∀ z, z ∈ B → NodeR h F1 z := fun z hz => (nk z hz).ext Ext.refl (fun j hj => fz z j hz (by omega)) hKc
    have lo1 : LO F1 m ns := lo0.congr (fr m 8 fun e => hnm m (hsub m e.1) rfl) (fr m 9 fun e => hnm m (hsub m e.1) rfl) (fun z hz => fr z 4 fun e => by omega) (fun z hz => fr z 5 fun e => by omega)
    have tbF : ∀ j, F1 tb j = F tb j := fun j => fr tb j fun e => hnt tb (hsub tb e.1) rfl
    have tr1 : TrB h F1 (· ∈ B) (kF F1) root 1200 := ⟨L, R, P, C, lo9, hi, rk, M, t.congrK fk, tl.congr fun z j hz hj => fz z j hz (by omega)⟩
    refine sp_131 hd hG hm lo1 hnn hN ht hk hbi (hfn _) (fun z hz => hsub z (hfl _ z hz).1) (fun z hz => hI z (hfl _ z hz).1) (fun z hz => nk1 z (hfl _ z hz).1) (fun p q hp hq e => hinj p q (hfl _ p hp).1 (hfl _ q hq).1 (by rw [← fk p (hfl _ p hp).1, ← fk q (hfl _ q hq).1]; exact e)) (fun z hz => ?_) ((tbF bi).trans hs0) d1 (fun p hp => ⟨C p, (fz p 10 (hfl _ p hp).1 (by decide)).trans (hred p (hfl _ p hp).1)⟩) (fun hO => ?_) (hfe _) (fun h2 F2 ρ D R1 Dn Ds Dk H1 => ?_)
    · have h1 := hfl _ z hz
      rw [fk z h1.1, bit_lo (by simpa using h1.2)]
      exact hmod z h1.1
    · refine Or.inr ⟨root, ?_⟩
      have : (B.filter fun z => !(kF F z).testBit k) = B := by
        rw [List.filter_eq_self]
        intro z hz
        have h9 := List.filter_eq_nil_iff.mp hO z hz
        simpa using h9
      rw [this]
      exact tr1
    · have hk0 : 0 < 2 ^ k := Nat.two_pow_pos k
      have mlo : ∀ z, z ∈ (B.filter fun z => !(kF F z).testBit k) ↔ z ∈ B ∧ (kF F z).testBit k = false := fun z => by simp
      have mhi : ∀ z, z ∈ (B.filter fun z => (kF F z).testBit k) ↔ z ∈ B ∧ (kF F z).testBit k = true := fun z => by simp
      have hall : (B.filter fun z => !(kF F z).testBit k) = [] → (B.filter fun z => (kF F z).testBit k) = B := fun hO => by
        rw [List.filter_eq_self]
        intro z hz
        have h9 := List.filter_eq_nil_iff.mp hO z hz
        simpa using h9
      have nhi := hfn fun z => (kF F z).testBit k
      have ehi := hfe fun z => (kF F z).testBit k
      have EQ : ∀ (h3 : AH) (F3 : Nat → Nat → Value) (ρ3 : Nat → Nat) (D3 : List Nat), RepQ (SpP tb bi k B) 6 h F h3 F3 m ns ρ3 D3 → D3.Nodup → (∀ z, z ∈ D3 → z ∈ B) → (∀ z, z ∈ D3 → Is h3 (ρ3 z) 13 6) → HalfR h3 F3 tb bi (B.filter fun z => !(kF F z).testBit k) ρ3 → HalfR h3 F3 tb (bi + 2 ^ k) (B.filter fun z => (kF F z).testBit k) ρ3 → SpQ h F m tb bi k ns B (.inl none) (sF h3 F3) := fun h3 F3 ρ3 D3 e1 e2 e3 e4 e5 e6 => ⟨rfl, h3, F3, ρ3, D3, rfl, e1, e2, e3, e4, e5, e6⟩
      generalize (B.filter fun z => !(kF F z).testBit k) = lo at *
      generalize (B.filter fun z => (kF F z).testBit k) = hi9 at *
      have R9 := R1
      obtain ⟨r1, r2, r3, r4, r5, r6, r7, r8⟩ := R9
      have hle := r1.1
      have hlB : ∀ z, z ∈ lo → z ∈ B := fun z hz => ((mlo z).mp hz).1
      have hhB : ∀ z, z ∈ hi9 → z ∈ B := fun z hz => ((mhi z).mp hz).1
      have hdj : ∀ z, z ∈ lo → z ∉ hi9 := fun z h1 h2 => by have := ((mlo z).mp h1).2; rw [((mhi z).mp h2).2] at this; cases this
      have hDh : ∀ z, z ∈ hi9 → z ∉ D := fun z hz h9 => hdj z (Ds z h9) hz
      have ρh : ∀ z, z ∈ hi9 → ρ z = z := fun z hz => r4 z (hDh z hz)
      have hDB : ∀ z, z ∈ D → z ∈ B := fun z hz => hlB z (Ds z hz)
      have ρD : ∀ z, z ∈ ns → ρ z ≠ tb ∧ ρ z ≠ m ∧ ρ z < h2.1 := fun z hz => by
        by_cases hzD : z ∈ D
        · have := r3 z hzD; have := ht.lt; have := hm.lt; omega
        · rw [r4 z hzD]; exact ⟨hnt z hz, hnm z hz, by have := hlt z hz; omega⟩
      have ρl : ∀ z, z ∈ lo → ρ z ∉ hi9 := fun z hz h9 => by
        by_cases hzD : z ∈ D
        · have := (r3 z hzD).1; have := hlt _ (hsub _ (hhB _ h9)); omega
        · rw [r4 z hzD] at h9; exact hdj z hz h9
      have g1 : ∀ z j, z ∈ hi9 → j ≠ 4 ∧ j ≠ 5 → F2 z j = F1 z j := fun z j hz hj => r8 z j (hlt z (hsub z (hhB z hz))) (fun e => e.elim (fun e => hnt z (hsub z (hhB z hz)) e.1) (fun e => hdj z e.1 hz)) (fun e => hnm z (hsub z (hhB z hz)) e.1) (fun e => by omega)
      have g2 : ∀ q j, Is h q 4 2 → F2 q j = F1 q j := fun q j hq => r8 q j hq.lt (fun e => e.elim (fun e => hq.ne ht (by decide) e.1) (fun e => hq.ne (hI q (hlB q e.1)) (by decide) rfl)) (fun e => hq.ne hm (by decide) e.1) (fun e => (hN q e.1).ne hq (by decide) (by decide) rfl)
      have gk : ∀ z, z ∈ hi9 → kF F2 z = kF F z := fun z hz => (kF_congr (g1 z 0 hz (by decide))).trans (fk z (hhB z hz))
      have gtb : F2 tb (bi + 2 ^ k) = .null := (r8 tb (bi + 2 ^ k) ht.lt (fun e => e.elim (fun e => by omega) (fun e => htns (hsub tb (hlB tb e.1)))) (fun e => htm e.1) (fun e => htns e.1)).trans ((tbF _).trans hs1)
      have R1' : RepQ (SpP tb bi k B) 6 h F h2 F2 m ns ρ D := (R1.mono (Q2 := SpP tb bi k B) fun b j e => e.imp (fun e => ⟨e.1, Or.inl e.2⟩) (fun e => ⟨hlB b e.1, e.2⟩)).base (fr.mono fun z j e => Or.inr ⟨e.1, by omega⟩) (fun p hp j hj e => e.elim (fun e => htns (e.1 ▸ hsub p (hDB p hp))) (fun e => by omega))
      refine sp_171 (ns := ns.map ρ) (h := h2) (F := F2) hd hG (hm.ext r1) r6 (R1.nodup hnn hlt) (fun z hz => ?_) (ht.ext r1) hk hbi nhi (fun z hz => List.mem_map.mpr ⟨z, hsub z (hhB z hz), ρh z hz⟩) (fun z hz => (hI z (hhB z hz)).ext r1) (fun z hz => (nk1 z (hhB z hz)).ext r1 (fun j hj => g1 z j hz (by omega)) (fun q j hq => g2 q j hq)) (fun p q hp hq e => hinj p q (hhB p hp) (hhB q hq) (by rw [← gk p hp, ← gk q hq]; exact e)) (fun z hz => ?_) gtb ⟨ChE_congr (fun z hz => g1 z 3 hz (by decide)) d2.1, PvE_congr (fun z hz => g1 z 9 hz (by decide)) d2.2⟩ (fun p hp => ⟨C p, (g1 p 10 hp (by decide)).trans ((fz p 10 (hhB p hp) (by decide)).trans (hred p (hhB p hp)))⟩) (fun hO => ?_) ehi (fun h3 F3 ρ2 D2 R2 D2n D2s D2k H2 => ?_)
      · obtain ⟨w, hw, rfl⟩ := List.mem_map.mp hz
        by_cases hwD : w ∈ D
        · exact Or.inl (Dk w hwD)
        · rw [r4 w hwD]; exact (hN w hw).ext r1
      · rw [gk z hz, bit_hi ((mhi z).mp hz).2, hmod z (hhB z hz)]
      · refine Or.inr ⟨root, L, R, P, C, lo9, hi, rk, M, ?_, ?_⟩
        · rw [hall hO]; exact t.congrK fun z hz => gk z (by rw [hall hO]; exact hz)
        · rw [hall hO]; exact ((tl.congr fun z j hz hj => (g1 z j (by rw [hall hO]; exact hz) (by omega)).trans (fz z j hz (by omega)))).ext r1
      · have hD2 : ∀ z, z ∈ D2 → z ∈ B := fun z hz => hhB z (D2s z hz)
        obtain ⟨s1, s2, s3, s4, s5, s6, s7, s8⟩ := R2
        have R2' : RepQ (HfP tb (bi + 2 ^ k) hi9) 6 h2 F2 h3 F3 m (ns.map ρ) ρ2 D2 := ⟨s1, s2, s3, s4, s5, s6, s7, s8⟩
        have hρ2 : ∀ z, z ∈ lo → ρ z ∉ D2 := fun z hz h9 => ρl z hz (D2s _ h9)
        refine EQ h3 F3 (fun z => ρ2 (ρ z)) (D ++ D2) (R1'.trans R2' (fun b j _ e => e.imp (fun e => ⟨e.1, Or.inr e.2⟩) (fun e => ⟨hhB b e.1, e.2⟩)) (fun z hz => ⟨hsub z (hD2 z hz), hDh z (D2s z hz), hlt z (hsub z (hD2 z hz))⟩) (fun p hp => hlt p (hsub p (hDB p hp))) (fun z hz => hsub z (hDB z hz)) hlt hm.lt (fun p hp j hj e => ?_) (fun p hp j hj e => ?_) (fun e => hnm m e rfl)) ?_ (fun z hz => (List.mem_append.mp hz).elim (hDB z) (hD2 z)) (fun z hz => ?_) ?_ (H2.map fun z hz => ?_)
        · exact e.elim (fun e => (ρD p (hsub p (hDB p hp))).1 e.1) (fun e => ρl p (Ds p hp) e.1)
        · exact e.elim (fun e => htns (e.1 ▸ hsub p (hD2 p hp))) (fun e => by omega)
        · rw [List.nodup_append]
          exact ⟨Dn, D2n, fun z hz w hw e => hDh w (D2s w hw) (e ▸ hz)⟩
        · rcases List.mem_append.mp hz with hz | hz
          · rw [s4 _ (hρ2 z (Ds z hz))]; exact (Dk z hz).ext s1
          · rw [ρh z (D2s z hz)]; exact D2k z hz
        · refine H1.kept R2' (fun z hz => ⟨(ρD z (hsub z (hlB z hz))).2.2, hρ2 z hz⟩) ⟨by have := ht.lt; omega, fun e => ?_, htm, fun e => ?_⟩ (fun z hz j e => ?_) (fun z hz => (ρD z (hsub z (hlB z hz))).2.1)
          · obtain ⟨w, hw, e9⟩ := List.mem_map.mp e
            exact (ρD w hw).1 e9
          · exact e.elim (fun e => by omega) (fun e => htns (hsub tb (hhB tb e.1)))
          · exact e.elim (fun e => (ρD z (hsub z (hlB z hz))).1 e.1) (fun e => ρl z hz e.1)
        · rw [ρh z hz]
end SPLIT
