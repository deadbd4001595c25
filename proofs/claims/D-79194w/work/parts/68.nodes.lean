/-! ===== nodes: constructors, and the order of insertion ===== -/
/-- the map m links its nodes in the order ns -/
def LO (F : Nat → Nat → Value) (m : Nat) (ns : List Nat) : Prop := F m 8 = va_rf ns.head? ∧ F m 9 = va_rf ns.getLast? ∧ DL F 5 4 ns
/-- only links of the order differ -/
def LFr (m : Nat) (S : Nat → Prop) (F F2 : Nat → Nat → Value) : Prop := ∀ b k, ¬ (b = m ∧ (k = 8 ∨ k = 9)) → ¬ (S b ∧ (k = 4 ∨ k = 5)) → F2 b k = F b k
section NODES
variable {G : GG} {d n : Nat} {y : MD} {pc : Nat} {ls st : List Value} {Q : RR → AH → Prop} {h h2 : AH} {F F2 F3 : Nat → Nat → Value} {S : Nat → Prop} {m p q x : Nat} {ns a b : List Nat} {nx : Option Nat} {hs : Int32} {kk vv : Nat}
theorem LFr.refl : LFr m S F F := fun _ _ _ _ => rfl
theorem LFr.upd {z i : Nat} {v : Value} (f : LFr m S F F2) (hz : z = m ∧ (i = 8 ∨ i = 9) ∨ S z ∧ (i = 4 ∨ i = 5)) : LFr m S F (updF F2 z i v) := fun b k h1 h2 => by
  by_cases e : b = z ∧ k = i
  · obtain ⟨rfl, rfl⟩ := e
    exact absurd hz (fun g => g.elim h1 h2)
  · rw [← f b k h1 h2]
    by_cases e1 : b = z
    · exact updF_i (fun e2 => e ⟨e1, e2⟩) rfl
    · exact updF_a e1 rfl
theorem wn_putF {idx a : Nat} {ref : String} (i : Nat) {v : Value} (ty : FieldType) (hd : decode y.2.1 pc = .ok (.putfield idx, 3)) (hc : Nd h a) (hl : Cond.fieldLink y.1.cls idx ref (TJ25 i).2.1 (TJ25 i).2.2.1 ∈ lw_all) (hs : samef ref (TJ25 i)) (hi : i < 6) (hfin : (TJ25 i).2.2.2 = true) (hinit : y.1.name = "<init>") (hdecl : (TJ25 i).1 = y.1.cls) (hty : parseFieldDescriptor (TJ25 i).2.2.1 = some ty) (hn : narrow ty v = v) (hfit : fits ty v = true)
    (kk : WA G d y (pc + 3) ls st (sF h (updF F a i v)) Q) : WA G d y pc ls (v :: .ref a :: st) (sF h F) Q := by
  rcases hc with hc | hc
  · exact wf_putF (k := 13) i ty hd hc rfl hl hs hi hfin hinit hdecl hty hn hfit kk
  · exact wf_putF (k := 14) (q := (RJ26, TJ26, 11)) i ty hd hc rfl (by rw [← TJ_same hi] at hl; exact hl) (by rw [← TJ_same hi] at hs; exact hs) (by show i < 11; omega) (by rw [← TJ_same hi] at hfin; exact hfin) hinit (by rw [← TJ_same hi] at hdecl; exact hdecl) (by rw [← TJ_same hi] at hty; exact hty) hn hfit kk
noncomputable def initF (F : Nat → Nat → Value) (p : Nat) (hs : Int32) (kk vv : Nat) (nx : Option Nat) : Nat → Nat → Value := updF (updF (updF (updF F p 0 (.int hs)) p 1 (.ref kk)) p 2 (.ref vv)) p 3 (va_rf nx)
theorem s_J24_init (hd : 1 ≤ d) (hp : Nd h p) : MA G d mJ24_init [.ref p, .int hs, .ref kk, .ref vv, va_rf nx] (sF h F) (fun r h' => r = .inl none ∧ h' = sF h (initF F p hs kk vv nx)) := by
  cases nx <;>
  ( change WA G d mJ24_init 0 [.ref p, .int hs, .ref kk, .ref vv, _] [] _ _
    refine wa_aloadV_n (pc := 0) (y := mJ24_init) dJ24_init_0 rfl (by first | exact rf_s _ | exact rf_n | exact rf_q _) ?_
    refine wa_objInit (pc := 1) (y := mJ24_init) dJ24_init_1 q1308 q151 q152 (Nat.le_of_ble_eq_true rfl) (by omega) ?_
    refine wa_aloadV_n (pc := 4) (y := mJ24_init) dJ24_init_4 rfl (by first | exact rf_s _ | exact rf_n | exact rf_q _) ?_
    refine wa_iload_n (pc := 5) (y := mJ24_init) dJ24_init_5 rfl ?_
    refine wn_putF 0 .int dJ24_init_6 (by assumption) q1313 (Or.inl rfl) (Nat.le_of_ble_eq_true rfl) rfl rfl rfl (by decide +kernel) rfl rfl ?_
    refine wa_aloadV_n (pc := 9) (y := mJ24_init) dJ24_init_9 rfl (by first | exact rf_s _ | exact rf_n | exact rf_q _) ?_
    refine wa_aloadV_n (pc := 10) (y := mJ24_init) dJ24_init_10 rfl (by first | exact rf_s _ | exact rf_n | exact rf_q _) ?_
    refine wn_putF 1 (.object "java/lang/Object") dJ24_init_11 (by assumption) q1320 (Or.inl rfl) (Nat.le_of_ble_eq_true rfl) rfl rfl rfl (by decide +kernel) (by first | rfl | exact rf_nar _ | exact rf_nar2 _) (by first | rfl | exact rf_fit _ | exact rf_fit2 _) ?_
    refine wa_aloadV_n (pc := 14) (y := mJ24_init) dJ24_init_14 rfl (by first | exact rf_s _ | exact rf_n | exact rf_q _) ?_
    refine wa_aloadV_n (pc := 15) (y := mJ24_init) dJ24_init_15 rfl (by first | exact rf_s _ | exact rf_n | exact rf_q _) ?_
    refine wn_put 2 (.object "java/lang/Object") dJ24_init_16 (by assumption) q1327 (Or.inl rfl) (Nat.le_of_ble_eq_true rfl) rfl (by decide +kernel) (by first | rfl | exact rf_nar _ | exact rf_nar2 _) (by first | rfl | exact rf_fit _ | exact rf_fit2 _) ?_
    refine wa_aloadV_n (pc := 19) (y := mJ24_init) dJ24_init_19 rfl (by first | exact rf_s _ | exact rf_n | exact rf_q _) ?_
    refine wa_aloadV (pc := 20) (y := mJ24_init) dJ24_init_20 rfl (by first | exact rf_s _ | exact rf_n | exact rf_q _) ?_
    refine wn_put 3 (.object "java/util/HashMap$Node") dJ24_init_22 (by assumption) q1333 (Or.inl rfl) (Nat.le_of_ble_eq_true rfl) rfl (by decide +kernel) (by first | rfl | exact rf_nar _ | exact rf_nar2 _) (by first | rfl | exact rf_fit _ | exact rf_fit2 _) ?_
    refine wa_return (pc := 25) (y := mJ24_init) dJ24_init_25 rfl ⟨rfl, rfl⟩
  )
theorem s_J25_init (hd : 2 ≤ d) (hp : Nd h p) : MA G d mJ25_init [.ref p, .int hs, .ref kk, .ref vv, va_rf nx] (sF h F) (fun r h' => r = .inl none ∧ h' = sF h (initF F p hs kk vv nx)) := by
  cases nx <;>
  ( change WA G d mJ25_init 0 [.ref p, .int hs, .ref kk, .ref vv, _] [] _ _
    refine wa_aloadV_n (pc := 0) (y := mJ25_init) dJ25_init_0 rfl (by first | exact rf_s _ | exact rf_n | exact rf_q _) ?_
    refine wa_iload_n (pc := 1) (y := mJ25_init) dJ25_init_1 rfl ?_
    refine wa_aloadV_n (pc := 2) (y := mJ25_init) dJ25_init_2 rfl (by first | exact rf_s _ | exact rf_n | exact rf_q _) ?_
    refine wa_aloadV_n (pc := 3) (y := mJ25_init) dJ25_init_3 rfl (by first | exact rf_s _ | exact rf_n | exact rf_q _) ?_
    refine wa_aloadV (pc := 4) (y := mJ25_init) dJ25_init_4 rfl (by first | exact rf_s _ | exact rf_n | exact rf_q _) ?_
    refine wa_callI (pc := 6) (s_J24_init (d := d - 1) (by omega) hp) dJ25_init_6 okJ24_init rfl rfl rfl q1305 q1306 rfl rfl (Nat.le_of_ble_eq_true rfl) (Nat.le_of_ble_eq_true rfl) (by omega) ?_
    rintro _ _ - - ⟨rfl, rfl⟩
    refine aft_0 (pc2 := 9) ?_ rfl
    refine wa_return (pc := 9) (y := mJ25_init) dJ25_init_9 rfl ⟨rfl, rfl⟩
  )
theorem s_J26_init (hd : 3 ≤ d) (hp : Nd h p) : MA G d mJ26_init [.ref p, .int hs, .ref kk, .ref vv, va_rf nx] (sF h F) (fun r h' => r = .inl none ∧ h' = sF h (initF F p hs kk vv nx)) := by
  cases nx <;>
  ( change WA G d mJ26_init 0 [.ref p, .int hs, .ref kk, .ref vv, _] [] _ _
    refine wa_aloadV_n (pc := 0) (y := mJ26_init) dJ26_init_0 rfl (by first | exact rf_s _ | exact rf_n | exact rf_q _) ?_
    refine wa_iload_n (pc := 1) (y := mJ26_init) dJ26_init_1 rfl ?_
    refine wa_aloadV_n (pc := 2) (y := mJ26_init) dJ26_init_2 rfl (by first | exact rf_s _ | exact rf_n | exact rf_q _) ?_
    refine wa_aloadV_n (pc := 3) (y := mJ26_init) dJ26_init_3 rfl (by first | exact rf_s _ | exact rf_n | exact rf_q _) ?_
    refine wa_aloadV (pc := 4) (y := mJ26_init) dJ26_init_4 rfl (by first | exact rf_s _ | exact rf_n | exact rf_q _) ?_
    refine wa_callI (pc := 6) (s_J25_init (d := d - 1) (by omega) hp) dJ26_init_6 okJ25_init rfl rfl rfl q1613 q1303 rfl rfl (Nat.le_of_ble_eq_true rfl) (Nat.le_of_ble_eq_true rfl) (by omega) ?_
    rintro _ _ - - ⟨rfl, rfl⟩
    refine aft_0 (pc2 := 9) ?_ rfl
    refine wa_return (pc := 9) (y := mJ26_init) dJ26_init_9 rfl ⟨rfl, rfl⟩
  )
theorem s_J5_linkNodeAtEnd (hm : Is h m 12 12) (h11 : F m 11 = .int 0) (lo : LO F m ns) (hn : (ns ++ [p]).Nodup) (hN : ∀ z, z ∈ ns ++ [p] → Nd h z) (h4 : F p 4 = .null) (h5 : F p 5 = .null) :
    MA G d mJ5_linkNodeAtEnd [.ref m, .ref p] (sF h F) (fun r h' => r = .inl none ∧ ∃ F2, h' = sF h F2 ∧ LO F2 m (ns ++ [p]) ∧ LFr m (· ∈ ns ++ [p]) F F2) := by
  obtain ⟨l1, l2, l3⟩ := lo
  have hp : Nd h p := hN p (by simp)
  have hpm := hp.ne hm (by decide) (by decide)
  change WA G d mJ5_linkNodeAtEnd 0 [.ref m, .ref p, .retAddr 0] [] _ _
  rcases List.eq_nil_or_concat ns with rfl | ⟨a, q, rfl⟩
  · rw [show ([] : List Nat).getLast? = none from rfl] at l2
    refine wa_aloadV_n (pc := 0) (y := mJ5_linkNodeAtEnd) dJ5_linkNodeAtEnd_0 rfl (by first | exact rf_s _ | exact rf_n | exact rf_q _) ?_
    refine wf_get (k := 12) (l := 12) 11 dJ5_linkNodeAtEnd_1 (by assumption) rfl q206 (Or.inl rfl) (Nat.le_of_ble_eq_true rfl) (Nat.le_of_ble_eq_true rfl) (by (repeat (first | exact updF_self _ _ _ _ | (apply updF_i; · decide) | (apply updF_a; · first | assumption | (apply Ne.symm; assumption) | omega) | (apply newF_a; · first | assumption | (apply Ne.symm; assumption) | omega) | exact newL_self (by rfl) | exact newF_self (by rfl) | (apply cpyF_a; · first | assumption | (apply Ne.symm; assumption) | omega))) <;> first | assumption | rfl) ?_
    refine wa_iconst (pc := 4) (y := mJ5_linkNodeAtEnd) (Int32.ofNat 1) dJ5_linkNodeAtEnd_4 rfl ?_
    refine wa_icmp_ne (pc := 5) 43 dJ5_linkNodeAtEnd_5 rfl (fun hb5 => ?_) (fun hb5 => absurd hb5 (by decide))
    refine wa_aloadV_n (pc := 43) (y := mJ5_linkNodeAtEnd) dJ5_linkNodeAtEnd_43 rfl (by first | exact rf_s _ | exact rf_n | exact rf_q _) ?_
    refine wf_get (k := 12) (l := 12) 9 dJ5_linkNodeAtEnd_44 (by assumption) rfl q204 (Or.inl rfl) (Nat.le_of_ble_eq_true rfl) (Nat.le_of_ble_eq_true rfl) (by (repeat (first | exact updF_self _ _ _ _ | (apply updF_i; · decide) | (apply updF_a; · first | assumption | (apply Ne.symm; assumption) | omega) | (apply newF_a; · first | assumption | (apply Ne.symm; assumption) | omega) | exact newL_self (by rfl) | exact newF_self (by rfl) | (apply cpyF_a; · first | assumption | (apply Ne.symm; assumption) | omega))) <;> first | assumption | rfl) ?_
    refine wa_astoreV_n (pc := 47) (y := mJ5_linkNodeAtEnd) dJ5_linkNodeAtEnd_47 (Nat.le_of_ble_eq_true rfl) (by first | rfl | (simp [okst, rf_cat] <;> assumption)) (by first | exact rf_s _ | exact rf_n | exact rf_q _) ?_
    change WA _ _ _ _ (List.set _ 2 _) _ _ _
    simp only [List.set_cons_zero, List.set_cons_succ]
    refine wa_aloadV_n (pc := 48) (y := mJ5_linkNodeAtEnd) dJ5_linkNodeAtEnd_48 rfl (by first | exact rf_s _ | exact rf_n | exact rf_q _) ?_
    refine wa_aloadV_n (pc := 49) (y := mJ5_linkNodeAtEnd) dJ5_linkNodeAtEnd_49 rfl (by first | exact rf_s _ | exact rf_n | exact rf_q _) ?_
    refine wf_put (k := 12) (l := 12) 9 (.object "java/util/LinkedHashMap$Entry") dJ5_linkNodeAtEnd_50 (by assumption) rfl q204 (Or.inl rfl) (Nat.le_of_ble_eq_true rfl) rfl (by decide +kernel) (by first | rfl | exact rf_nar _ | exact rf_nar2 _) (by first | rfl | exact rf_fit _ | exact rf_fit2 _) ?_
    refine wa_aloadV_n (pc := 53) (y := mJ5_linkNodeAtEnd) dJ5_linkNodeAtEnd_53 rfl (by first | exact rf_s _ | exact rf_n | exact rf_q _) ?_
    refine wa_ifnonnullN (pc := 54) (y := mJ5_linkNodeAtEnd) dJ5_linkNodeAtEnd_54 ?_
    refine wa_aloadV_n (pc := 57) (y := mJ5_linkNodeAtEnd) dJ5_linkNodeAtEnd_57 rfl (by first | exact rf_s _ | exact rf_n | exact rf_q _) ?_
    refine wa_aloadV_n (pc := 58) (y := mJ5_linkNodeAtEnd) dJ5_linkNodeAtEnd_58 rfl (by first | exact rf_s _ | exact rf_n | exact rf_q _) ?_
    refine wf_put (k := 12) (l := 12) 8 (.object "java/util/LinkedHashMap$Entry") dJ5_linkNodeAtEnd_59 (by assumption) rfl q201 (Or.inl rfl) (Nat.le_of_ble_eq_true rfl) rfl (by decide +kernel) (by first | rfl | exact rf_nar _ | exact rf_nar2 _) (by first | rfl | exact rf_fit _ | exact rf_fit2 _) ?_
    refine wa_goto (pc := 62) (y := mJ5_linkNodeAtEnd) 75 dJ5_linkNodeAtEnd_62 rfl ?_
    refine wa_return (pc := 75) (y := mJ5_linkNodeAtEnd) dJ5_linkNodeAtEnd_75 rfl ⟨rfl, _, rfl, ⟨updF_self _ _ _ _, updF_i (by decide) (updF_self _ _ _ _), ⟨?_, trivial⟩, ?_, trivial⟩, (LFr.refl.upd (Or.inl ⟨rfl, by decide⟩)).upd (Or.inl ⟨rfl, by decide⟩)⟩
    · exact updF_a hpm (updF_a hpm h5)
    · exact updF_a hpm (updF_a hpm h4)
  · rw [List.concat_eq_append] at *
    rw [List.getLast?_append, show ([q] : List Nat).getLast? = some q from rfl, Option.some_or] at l2
    have hq : Nd h q := hN q (by simp)
    have hqm := hq.ne hm (by decide) (by decide)
    have hn2 : a.Nodup ∧ q ∉ a ∧ p ∉ a ∧ p ≠ q := by grind [List.nodup_append]
    have hpq := hn2.2.2.2
    have ha : ∀ z, z ∈ a → z ≠ q ∧ z ≠ p ∧ z ≠ m := fun z hz => ⟨fun e => hn2.2.1 (e ▸ hz), fun e => hn2.2.2.1 (e ▸ hz), (hN z (by simp [hz])).ne hm (by decide) (by decide)⟩
    refine wa_aloadV_n (pc := 0) (y := mJ5_linkNodeAtEnd) dJ5_linkNodeAtEnd_0 rfl (by first | exact rf_s _ | exact rf_n | exact rf_q _) ?_
    refine wf_get (k := 12) (l := 12) 11 dJ5_linkNodeAtEnd_1 (by assumption) rfl q206 (Or.inl rfl) (Nat.le_of_ble_eq_true rfl) (Nat.le_of_ble_eq_true rfl) (by (repeat (first | exact updF_self _ _ _ _ | (apply updF_i; · decide) | (apply updF_a; · first | assumption | (apply Ne.symm; assumption) | omega) | (apply newF_a; · first | assumption | (apply Ne.symm; assumption) | omega) | exact newL_self (by rfl) | exact newF_self (by rfl) | (apply cpyF_a; · first | assumption | (apply Ne.symm; assumption) | omega))) <;> first | assumption | rfl) ?_
    refine wa_iconst (pc := 4) (y := mJ5_linkNodeAtEnd) (Int32.ofNat 1) dJ5_linkNodeAtEnd_4 rfl ?_
    refine wa_icmp_ne (pc := 5) 43 dJ5_linkNodeAtEnd_5 rfl (fun hb5 => ?_) (fun hb5 => absurd hb5 (by decide))
    refine wa_aloadV_n (pc := 43) (y := mJ5_linkNodeAtEnd) dJ5_linkNodeAtEnd_43 rfl (by first | exact rf_s _ | exact rf_n | exact rf_q _) ?_
    refine wf_get (k := 12) (l := 12) 9 dJ5_linkNodeAtEnd_44 (by assumption) rfl q204 (Or.inl rfl) (Nat.le_of_ble_eq_true rfl) (Nat.le_of_ble_eq_true rfl) (by (repeat (first | exact updF_self _ _ _ _ | (apply updF_i; · decide) | (apply updF_a; · first | assumption | (apply Ne.symm; assumption) | omega) | (apply newF_a; · first | assumption | (apply Ne.symm; assumption) | omega) | exact newL_self (by rfl) | exact newF_self (by rfl) | (apply cpyF_a; · first | assumption | (apply Ne.symm; assumption) | omega))) <;> first | assumption | rfl) ?_
    refine wa_astoreV_n (pc := 47) (y := mJ5_linkNodeAtEnd) dJ5_linkNodeAtEnd_47 (Nat.le_of_ble_eq_true rfl) (by first | rfl | (simp [okst, rf_cat] <;> assumption)) (by first | exact rf_s _ | exact rf_n | exact rf_q _) ?_
    change WA _ _ _ _ (List.set _ 2 _) _ _ _
    simp only [List.set_cons_zero, List.set_cons_succ]
    refine wa_aloadV_n (pc := 48) (y := mJ5_linkNodeAtEnd) dJ5_linkNodeAtEnd_48 rfl (by first | exact rf_s _ | exact rf_n | exact rf_q _) ?_
    refine wa_aloadV_n (pc := 49) (y := mJ5_linkNodeAtEnd) dJ5_linkNodeAtEnd_49 rfl (by first | exact rf_s _ | exact rf_n | exact rf_q _) ?_
    refine wf_put (k := 12) (l := 12) 9 (.object "java/util/LinkedHashMap$Entry") dJ5_linkNodeAtEnd_50 (by assumption) rfl q204 (Or.inl rfl) (Nat.le_of_ble_eq_true rfl) rfl (by decide +kernel) (by first | rfl | exact rf_nar _ | exact rf_nar2 _) (by first | rfl | exact rf_fit _ | exact rf_fit2 _) ?_
    refine wa_aloadV_n (pc := 53) (y := mJ5_linkNodeAtEnd) dJ5_linkNodeAtEnd_53 rfl (by first | exact rf_s _ | exact rf_n | exact rf_q _) ?_
    refine wa_ifnonnull (pc := 54) (y := mJ5_linkNodeAtEnd) 65 dJ5_linkNodeAtEnd_54 rfl ?_
    refine wa_aloadV_n (pc := 65) (y := mJ5_linkNodeAtEnd) dJ5_linkNodeAtEnd_65 rfl (by first | exact rf_s _ | exact rf_n | exact rf_q _) ?_
    refine wa_aloadV_n (pc := 66) (y := mJ5_linkNodeAtEnd) dJ5_linkNodeAtEnd_66 rfl (by first | exact rf_s _ | exact rf_n | exact rf_q _) ?_
    refine wn_put 4 (.object "java/util/LinkedHashMap$Entry") dJ5_linkNodeAtEnd_67 (by assumption) q1309 (Or.inl rfl) (Nat.le_of_ble_eq_true rfl) rfl (by decide +kernel) (by first | rfl | exact rf_nar _ | exact rf_nar2 _) (by first | rfl | exact rf_fit _ | exact rf_fit2 _) ?_
    refine wa_aloadV_n (pc := 70) (y := mJ5_linkNodeAtEnd) dJ5_linkNodeAtEnd_70 rfl (by first | exact rf_s _ | exact rf_n | exact rf_q _) ?_
    refine wa_aloadV_n (pc := 71) (y := mJ5_linkNodeAtEnd) dJ5_linkNodeAtEnd_71 rfl (by first | exact rf_s _ | exact rf_n | exact rf_q _) ?_
    refine wn_put 5 (.object "java/util/LinkedHashMap$Entry") dJ5_linkNodeAtEnd_72 (by assumption) q1311 (Or.inl rfl) (Nat.le_of_ble_eq_true rfl) rfl (by decide +kernel) (by first | rfl | exact rf_nar _ | exact rf_nar2 _) (by first | rfl | exact rf_fit _ | exact rf_fit2 _) ?_
    refine wa_return (pc := 75) (y := mJ5_linkNodeAtEnd) dJ5_linkNodeAtEnd_75 rfl ⟨rfl, _, rfl, ⟨?_, ?_, ?_⟩, ((LFr.refl.upd (Or.inl ⟨rfl, by decide⟩)).upd (Or.inr ⟨by simp, by decide⟩)).upd (Or.inr ⟨by simp, by decide⟩)⟩
    · rw [updF_a (Ne.symm hqm) (updF_a (Ne.symm hpm) (updF_i (by decide) l1))]
      cases a <;> simp
    · rw [updF_a (Ne.symm hqm) (updF_a (Ne.symm hpm) (updF_self _ _ _ _))]
      simp [va_rf]
    · have d9 : DL F 5 4 ((a ++ [q]) ++ ([] ++ [])) := by simpa using l3
      have := d9.splice (F2 := updF (updF (updF F m 9 (.ref p)) p 4 (va_rf (some q))) q 5 (.ref p)) (c2 := [p]) (by simpa using (List.nodup_append.mp hn).1) (fun z hz => ?_) (fun z hz => ?_) (fun z hz => by simp at hz) (fun z hz => by simp at hz) ⟨?_, trivial⟩ ⟨?_, trivial⟩
      · simpa using this
      · rcases List.mem_append.mp hz with hz | hz
        · obtain ⟨z1, z2, z3⟩ := ha z hz
          rw [if_neg (by simp; exact fun e => z1 e.symm)]
          exact updF_a z1 (updF_a z2 (updF_a z3 rfl))
        · simp at hz
          subst hz
          rw [if_pos (by simp)]
          exact updF_self _ _ _ _
      · rcases List.mem_append.mp hz with hz | hz
        · obtain ⟨z1, z2, z3⟩ := ha z hz
          exact updF_a z1 (updF_a z2 (updF_a z3 rfl))
        · simp at hz
          subst hz
          exact updF_i (by decide) (updF_a (Ne.symm hpq) (updF_i (by decide) rfl))
      · exact updF_a hpq (updF_i (by decide) (updF_a hpm h5))
      · rw [updF_a hpq (updF_self _ _ _ _)]
        simp
theorem wn_castE {idx p : Nat} (hd : decode y.2.1 pc = .ok (.checkcast idx, 3)) (hc : Nd h p) (hl : Cond.classLink y.1.cls idx "java/util/LinkedHashMap$Entry" ∈ lw_all) (kk : WA G d y (pc + 3) ls (.ref p :: st) (sF h F) Q) : WA G d y pc ls (.ref p :: st) (sF h F) Q := by
  rcases hc with hc | hc
  · exact wa_castS (k := 13) hd (sF_at hc) rfl hl kk
  · exact wa_castY (k := 14) hd (sF_at hc) rfl hl q3107 kk
/-- checkcast TreeNode of a tree node or null -/
theorem wn_castq {idx : Nat} {v : Value} {o : Option Nat} (hd : decode y.2.1 pc = .ok (.checkcast idx, 3)) (e : v = va_rf o) (hz : ∀ z, o = some z → Is h z 14 11) (hl : Cond.classLink y.1.cls idx "java/util/HashMap$TreeNode" ∈ lw_all) (kk : WA G d y (pc + 3) ls (v :: st) (sF h F) Q) : WA G d y pc ls (v :: st) (sF h F) Q := by
  subst e
  cases o with
  | none => exact wa_castN hd kk
  | some z => exact wa_castS (k := 14) hd (sF_at (hz z rfl)) rfl hl kk
/-- the order, from the lists of its parts -/
theorem LO.splice {c c2 : List Nat} (lo : LO F m (a ++ (c ++ b))) (hn : (a ++ (c ++ b)).Nodup) (g1 : F2 m 8 = va_rf (a ++ (c2 ++ b)).head?) (g2 : F2 m 9 = va_rf (a ++ (c2 ++ b)).getLast?) (h1 : ∀ z, z ∈ a → F2 z 5 = if a.getLast? = some z then va_rf (c2 ++ b).head? else F z 5) (h2 : ∀ z, z ∈ a → F2 z 4 = F z 4)
    (h3 : ∀ z, z ∈ b → F2 z 5 = F z 5) (h4 : ∀ z, z ∈ b → F2 z 4 = if b.head? = some z then va_rf (a ++ c2).getLast? else F z 4) (h5 : ChE F2 5 c2 b.head?) (h6 : PvE F2 4 a.getLast? c2) : LO F2 m (a ++ (c2 ++ b)) := ⟨g1, g2, lo.2.2.splice hn h1 h2 h3 h4 h5 h6⟩
theorem getLast_mem {q : Nat} {a : List Nat} (h : a.getLast? = some q) : q ∈ a := List.mem_of_getLast? h
theorem head_mem {q : Nat} {a : List Nat} (h : a.head? = some q) : q ∈ a := List.mem_of_head? h
theorem getLast_none {a : List Nat} (h : a.getLast? = none) : a = [] := List.getLast?_eq_none_iff.mp h
theorem head_none {a : List Nat} (h : a.head? = none) : a = [] := List.head?_eq_none_iff.mp h
theorem s_J5_afterNodeRemoval (hm : Is h m 12 12) (lo : LO F m (a ++ p :: b)) (hn : (a ++ p :: b).Nodup) (hN : ∀ z, z ∈ a ++ p :: b → Nd h z) :
    MA G d mJ5_afterNodeRemoval [.ref m, .ref p] (sF h F) (fun r h' => r = .inl none ∧ ∃ F2, h' = sF h F2 ∧ LO F2 m (a ++ b) ∧ LFr m (· ∈ a ++ p :: b) F F2) := by
  have hp : Nd h p := hN p (by simp)
  have hpm := hp.ne hm (by decide) (by decide)
  have e4 := lo.2.2.bwd
  have e5 := lo.2.2.fwd
  have e8 := lo.1
  have e9 := lo.2.1
  simp only [List.head?_append, List.head?_cons] at e8
  simp only [List.getLast?_append, List.getLast?_cons] at e9
  have hnm : ∀ z, z ∈ a ++ p :: b → z ≠ m := fun z hz => (hN z hz).ne hm (by decide) (by decide)
  have hn2 : (∀ z, z ∈ a → z ≠ p ∧ z ∉ b) ∧ ∀ z, z ∈ b → z ≠ p ∧ z ∉ a := by grind [List.nodup_append]
  change WA G d mJ5_afterNodeRemoval 0 [.ref m, .ref p, .retAddr 0, .retAddr 0, .retAddr 0] [] _ _
  refine wa_aloadV_n (pc := 0) (y := mJ5_afterNodeRemoval) dJ5_afterNodeRemoval_0 rfl (by first | exact rf_s _ | exact rf_n | exact rf_q _) ?_
  refine wn_castE dJ5_afterNodeRemoval_1 (by assumption) q1088 ?_
  refine wa_astoreV_n (pc := 4) (y := mJ5_afterNodeRemoval) dJ5_afterNodeRemoval_4 (Nat.le_of_ble_eq_true rfl) (by first | rfl | (simp [okst, rf_cat] <;> assumption)) (by first | exact rf_s _ | exact rf_n | exact rf_q _) ?_
  change WA _ _ _ _ (List.set _ 2 _) _ _ _
  simp only [List.set_cons_zero, List.set_cons_succ]
  refine wa_aloadV_n (pc := 5) (y := mJ5_afterNodeRemoval) dJ5_afterNodeRemoval_5 rfl (by first | exact rf_s _ | exact rf_n | exact rf_q _) ?_
  refine wn_get 4 dJ5_afterNodeRemoval_6 (by assumption) q1309 (Or.inl rfl) (Nat.le_of_ble_eq_true rfl) (by (repeat (first | exact updF_self _ _ _ _ | (apply updF_i; · decide) | (apply updF_a; · first | assumption | (apply Ne.symm; assumption) | omega) | (apply newF_a; · first | assumption | (apply Ne.symm; assumption) | omega) | exact newL_self (by rfl) | exact newF_self (by rfl) | (apply cpyF_a; · first | assumption | (apply Ne.symm; assumption) | omega))) <;> first | assumption | rfl) ?_
  refine wa_astoreV_n (pc := 9) (y := mJ5_afterNodeRemoval) dJ5_afterNodeRemoval_9 (Nat.le_of_ble_eq_true rfl) (by first | rfl | (simp [okst, rf_cat] <;> assumption)) (by first | exact rf_s _ | exact rf_n | exact rf_q _) ?_
  change WA _ _ _ _ (List.set _ 3 _) _ _ _
  simp only [List.set_cons_zero, List.set_cons_succ]
  refine wa_aloadV_n (pc := 10) (y := mJ5_afterNodeRemoval) dJ5_afterNodeRemoval_10 rfl (by first | exact rf_s _ | exact rf_n | exact rf_q _) ?_
  refine wn_get 5 dJ5_afterNodeRemoval_11 (by assumption) q1311 (Or.inl rfl) (Nat.le_of_ble_eq_true rfl) (by (repeat (first | exact updF_self _ _ _ _ | (apply updF_i; · decide) | (apply updF_a; · first | assumption | (apply Ne.symm; assumption) | omega) | (apply newF_a; · first | assumption | (apply Ne.symm; assumption) | omega) | exact newL_self (by rfl) | exact newF_self (by rfl) | (apply cpyF_a; · first | assumption | (apply Ne.symm; assumption) | omega))) <;> first | assumption | rfl) ?_
  refine wa_astoreV (pc := 14) (y := mJ5_afterNodeRemoval) dJ5_afterNodeRemoval_14 (Nat.le_of_ble_eq_true rfl) (by first | rfl | (simp [okst, rf_cat] <;> assumption)) (by first | exact rf_s _ | exact rf_n | exact rf_q _) ?_
  simp only [List.set_cons_zero, List.set_cons_succ]
  refine wa_aloadV_n (pc := 16) (y := mJ5_afterNodeRemoval) dJ5_afterNodeRemoval_16 rfl (by first | exact rf_s _ | exact rf_n | exact rf_q _) ?_
  refine wa_aloadV_n (pc := 17) (y := mJ5_afterNodeRemoval) dJ5_afterNodeRemoval_17 rfl (by first | exact rf_s _ | exact rf_n | exact rf_q _) ?_
  refine wa_null (pc := 18) (y := mJ5_afterNodeRemoval) dJ5_afterNodeRemoval_18 ?_
  refine wa_dup_x1 (pc := 19) (y := mJ5_afterNodeRemoval) dJ5_afterNodeRemoval_19 (by first | rfl | exact rf_cat _) (by first | rfl | exact rf_cat _) ?_
  refine wn_put 5 (.object "java/util/LinkedHashMap$Entry") dJ5_afterNodeRemoval_20 (by assumption) q1311 (Or.inl rfl) (Nat.le_of_ble_eq_true rfl) rfl (by decide +kernel) (by first | rfl | exact rf_nar _ | exact rf_nar2 _) (by first | rfl | exact rf_fit _ | exact rf_fit2 _) ?_
  refine wn_put 4 (.object "java/util/LinkedHashMap$Entry") dJ5_afterNodeRemoval_23 (by assumption) q1309 (Or.inl rfl) (Nat.le_of_ble_eq_true rfl) rfl (by decide +kernel) (by first | rfl | exact rf_nar _ | exact rf_nar2 _) (by first | rfl | exact rf_fit _ | exact rf_fit2 _) ?_
  refine wa_aloadV_n (pc := 26) (y := mJ5_afterNodeRemoval) dJ5_afterNodeRemoval_26 rfl (by first | exact rf_s _ | exact rf_n | exact rf_q _) ?_
  refine wa_ifnonnullV (pc := 27) 39 dJ5_afterNodeRemoval_27 rfl (by first | exact rf_s _ | exact rf_n | exact rf_q _) (fun a27 hb27 => ?_) (fun hb27 => ?_)
  · have ha := getLast_mem hb27
    have hNa := hN _ (List.mem_append_left _ ha)
    have ham := hnm _ (List.mem_append_left _ ha)
    obtain ⟨w27, hw27⟩ : ∃ w, a.head? = some w := by cases a <;> simp_all
    rw [hb27]
    refine wa_aloadV_n (pc := 39) (y := mJ5_afterNodeRemoval) dJ5_afterNodeRemoval_39 rfl (by first | exact rf_s _ | exact rf_n | exact rf_q _) ?_
    refine wa_aloadV (pc := 40) (y := mJ5_afterNodeRemoval) dJ5_afterNodeRemoval_40 rfl (by first | exact rf_s _ | exact rf_n | exact rf_q _) ?_
    refine wn_put 5 (.object "java/util/LinkedHashMap$Entry") dJ5_afterNodeRemoval_42 (by assumption) q1311 (Or.inl rfl) (Nat.le_of_ble_eq_true rfl) rfl (by decide +kernel) (by first | rfl | exact rf_nar _ | exact rf_nar2 _) (by first | rfl | exact rf_fit _ | exact rf_fit2 _) ?_
    refine wa_aloadV (pc := 45) (y := mJ5_afterNodeRemoval) dJ5_afterNodeRemoval_45 rfl (by first | exact rf_s _ | exact rf_n | exact rf_q _) ?_
    refine wa_ifnonnullV (pc := 47) 58 dJ5_afterNodeRemoval_47 rfl (by first | exact rf_s _ | exact rf_n | exact rf_q _) (fun a47 hb47 => ?_) (fun hb47 => ?_)
    · have hb := head_mem hb47
      have hNb := hN _ (List.mem_append_right _ (List.mem_cons_of_mem _ hb))
      have hbm := hnm _ (List.mem_append_right _ (List.mem_cons_of_mem _ hb))
      obtain ⟨w47, hw47⟩ : ∃ w, b.getLast? = some w := by cases b <;> simp_all [List.getLast?_cons]
      rw [hb47]
      refine wa_aloadV (pc := 58) (y := mJ5_afterNodeRemoval) dJ5_afterNodeRemoval_58 rfl (by first | exact rf_s _ | exact rf_n | exact rf_q _) ?_
      refine wa_aloadV_n (pc := 60) (y := mJ5_afterNodeRemoval) dJ5_afterNodeRemoval_60 rfl (by first | exact rf_s _ | exact rf_n | exact rf_q _) ?_
      refine wn_put 4 (.object "java/util/LinkedHashMap$Entry") dJ5_afterNodeRemoval_61 (by assumption) q1309 (Or.inl rfl) (Nat.le_of_ble_eq_true rfl) rfl (by decide +kernel) (by first | rfl | exact rf_nar _ | exact rf_nar2 _) (by first | rfl | exact rf_fit _ | exact rf_fit2 _) ?_
      refine wa_return (pc := 64) (y := mJ5_afterNodeRemoval) dJ5_afterNodeRemoval_64 rfl ⟨rfl, _, rfl, LO.splice (c := [p]) (c2 := []) lo hn (by simp only [List.nil_append, List.head?_append]; grind [updF_eq, va_rf]) (by simp only [List.nil_append, List.getLast?_append]; grind [updF_eq, va_rf]) (fun z hz => by grind [updF_eq, va_rf]) (fun z hz => by grind [updF_eq, va_rf]) (fun z hz => by grind [updF_eq, va_rf]) (fun z hz => by grind [updF_eq, va_rf]) trivial trivial, (by repeat (first | exact LFr.refl | refine LFr.upd ?_ (by first | exact Or.inl ⟨rfl, by decide⟩ | exact Or.inr ⟨by grind, by decide⟩)))⟩
    · have hb := head_none hb47
      rw [hb47]
      refine wa_aloadV_n (pc := 50) (y := mJ5_afterNodeRemoval) dJ5_afterNodeRemoval_50 rfl (by first | exact rf_s _ | exact rf_n | exact rf_q _) ?_
      refine wa_aloadV_n (pc := 51) (y := mJ5_afterNodeRemoval) dJ5_afterNodeRemoval_51 rfl (by first | exact rf_s _ | exact rf_n | exact rf_q _) ?_
      refine wf_put (k := 12) (l := 12) 9 (.object "java/util/LinkedHashMap$Entry") dJ5_afterNodeRemoval_52 (by assumption) rfl q204 (Or.inl rfl) (Nat.le_of_ble_eq_true rfl) rfl (by decide +kernel) (by first | rfl | exact rf_nar _ | exact rf_nar2 _) (by first | rfl | exact rf_fit _ | exact rf_fit2 _) ?_
      refine wa_goto (pc := 55) (y := mJ5_afterNodeRemoval) 64 dJ5_afterNodeRemoval_55 rfl ?_
      refine wa_return (pc := 64) (y := mJ5_afterNodeRemoval) dJ5_afterNodeRemoval_64 rfl ⟨rfl, _, rfl, LO.splice (c := [p]) (c2 := []) lo hn (by simp only [List.nil_append, List.head?_append]; grind [updF_eq, va_rf]) (by simp only [List.nil_append, List.getLast?_append]; grind [updF_eq, va_rf]) (fun z hz => by grind [updF_eq, va_rf]) (fun z hz => by grind [updF_eq, va_rf]) (fun z hz => by grind [updF_eq, va_rf]) (fun z hz => by grind [updF_eq, va_rf]) trivial trivial, (by repeat (first | exact LFr.refl | refine LFr.upd ?_ (by first | exact Or.inl ⟨rfl, by decide⟩ | exact Or.inr ⟨by grind, by decide⟩)))⟩
  · have ha := getLast_none hb27
    rw [hb27]
    refine wa_aloadV_n (pc := 30) (y := mJ5_afterNodeRemoval) dJ5_afterNodeRemoval_30 rfl (by first | exact rf_s _ | exact rf_n | exact rf_q _) ?_
    refine wa_aloadV (pc := 31) (y := mJ5_afterNodeRemoval) dJ5_afterNodeRemoval_31 rfl (by first | exact rf_s _ | exact rf_n | exact rf_q _) ?_
    refine wf_put (k := 12) (l := 12) 8 (.object "java/util/LinkedHashMap$Entry") dJ5_afterNodeRemoval_33 (by assumption) rfl q201 (Or.inl rfl) (Nat.le_of_ble_eq_true rfl) rfl (by decide +kernel) (by first | rfl | exact rf_nar _ | exact rf_nar2 _) (by first | rfl | exact rf_fit _ | exact rf_fit2 _) ?_
    refine wa_goto (pc := 36) (y := mJ5_afterNodeRemoval) 45 dJ5_afterNodeRemoval_36 rfl ?_
    refine wa_aloadV (pc := 45) (y := mJ5_afterNodeRemoval) dJ5_afterNodeRemoval_45 rfl (by first | exact rf_s _ | exact rf_n | exact rf_q _) ?_
    refine wa_ifnonnullV (pc := 47) 58 dJ5_afterNodeRemoval_47 rfl (by first | exact rf_s _ | exact rf_n | exact rf_q _) (fun a47 hb47 => ?_) (fun hb47 => ?_)
    · have hb := head_mem hb47
      have hNb := hN _ (List.mem_append_right _ (List.mem_cons_of_mem _ hb))
      have hbm := hnm _ (List.mem_append_right _ (List.mem_cons_of_mem _ hb))
      obtain ⟨w47, hw47⟩ : ∃ w, b.getLast? = some w := by cases b <;> simp_all [List.getLast?_cons]
      rw [hb47]
      refine wa_aloadV (pc := 58) (y := mJ5_afterNodeRemoval) dJ5_afterNodeRemoval_58 rfl (by first | exact rf_s _ | exact rf_n | exact rf_q _) ?_
      refine wa_aloadV_n (pc := 60) (y := mJ5_afterNodeRemoval) dJ5_afterNodeRemoval_60 rfl (by first | exact rf_s _ | exact rf_n | exact rf_q _) ?_
      refine wn_put 4 (.object "java/util/LinkedHashMap$Entry") dJ5_afterNodeRemoval_61 (by assumption) q1309 (Or.inl rfl) (Nat.le_of_ble_eq_true rfl) rfl (by decide +kernel) (by first | rfl | exact rf_nar _ | exact rf_nar2 _) (by first | rfl | exact rf_fit _ | exact rf_fit2 _) ?_
      refine wa_return (pc := 64) (y := mJ5_afterNodeRemoval) dJ5_afterNodeRemoval_64 rfl ⟨rfl, _, rfl, LO.splice (c := [p]) (c2 := []) lo hn (by simp only [List.nil_append, List.head?_append]; grind [updF_eq, va_rf]) (by simp only [List.nil_append, List.getLast?_append]; grind [updF_eq, va_rf]) (fun z hz => by grind [updF_eq, va_rf]) (fun z hz => by grind [updF_eq, va_rf]) (fun z hz => by grind [updF_eq, va_rf]) (fun z hz => by grind [updF_eq, va_rf]) trivial trivial, (by repeat (first | exact LFr.refl | refine LFr.upd ?_ (by first | exact Or.inl ⟨rfl, by decide⟩ | exact Or.inr ⟨by grind, by decide⟩)))⟩
    · have hb := head_none hb47
      rw [hb47]
      refine wa_aloadV_n (pc := 50) (y := mJ5_afterNodeRemoval) dJ5_afterNodeRemoval_50 rfl (by first | exact rf_s _ | exact rf_n | exact rf_q _) ?_
      refine wa_aloadV_n (pc := 51) (y := mJ5_afterNodeRemoval) dJ5_afterNodeRemoval_51 rfl (by first | exact rf_s _ | exact rf_n | exact rf_q _) ?_
      refine wf_put (k := 12) (l := 12) 9 (.object "java/util/LinkedHashMap$Entry") dJ5_afterNodeRemoval_52 (by assumption) rfl q204 (Or.inl rfl) (Nat.le_of_ble_eq_true rfl) rfl (by decide +kernel) (by first | rfl | exact rf_nar _ | exact rf_nar2 _) (by first | rfl | exact rf_fit _ | exact rf_fit2 _) ?_
      refine wa_goto (pc := 55) (y := mJ5_afterNodeRemoval) 64 dJ5_afterNodeRemoval_55 rfl ?_
      refine wa_return (pc := 64) (y := mJ5_afterNodeRemoval) dJ5_afterNodeRemoval_64 rfl ⟨rfl, _, rfl, LO.splice (c := [p]) (c2 := []) lo hn (by simp only [List.nil_append, List.head?_append]; grind [updF_eq, va_rf]) (by simp only [List.nil_append, List.getLast?_append]; grind [updF_eq, va_rf]) (fun z hz => by grind [updF_eq, va_rf]) (fun z hz => by grind [updF_eq, va_rf]) (fun z hz => by grind [updF_eq, va_rf]) (fun z hz => by grind [updF_eq, va_rf]) trivial trivial, (by repeat (first | exact LFr.refl | refine LFr.upd ?_ (by first | exact Or.inl ⟨rfl, by decide⟩ | exact Or.inr ⟨by grind, by decide⟩)))⟩
theorem s_J5_transferLinks (hm : Is h m 12 12) (lo : LO F m (a ++ p :: b)) (hn : (a ++ p :: b).Nodup) (hN : ∀ z, z ∈ a ++ p :: b → Nd h z) (hq : Nd h q) (hqn : q ∉ a ++ p :: b) :
    MA G d mJ5_transferLinks [.ref m, .ref p, .ref q] (sF h F) (fun r h' => r = .inl none ∧ ∃ F2, h' = sF h F2 ∧ LO F2 m (a ++ q :: b) ∧ LFr m (· ∈ q :: (a ++ p :: b)) F F2) := by
  have hp : Nd h p := hN p (by simp)
  have hpm := hp.ne hm (by decide) (by decide)
  have hqm := hq.ne hm (by decide) (by decide)
  have e4 := lo.2.2.bwd
  have e5 := lo.2.2.fwd
  have e8 := lo.1
  have e9 := lo.2.1
  simp only [List.head?_append, List.head?_cons] at e8
  simp only [List.getLast?_append, List.getLast?_cons] at e9
  have hnm : ∀ z, z ∈ a ++ p :: b → z ≠ m := fun z hz => (hN z hz).ne hm (by decide) (by decide)
  have hn2 : (∀ z, z ∈ a → z ≠ p ∧ z ∉ b) ∧ ∀ z, z ∈ b → z ≠ p ∧ z ∉ a := by grind [List.nodup_append]
  have hqp : q ≠ p := by grind
  have hq2 : (∀ z, z ∈ a → z ≠ q) ∧ ∀ z, z ∈ b → z ≠ q := by grind
  change WA G d mJ5_transferLinks 0 [.ref m, .ref p, .ref q, .retAddr 0, .retAddr 0] [] _ _
  refine wa_aloadV_n (pc := 0) (y := mJ5_transferLinks) dJ5_transferLinks_0 rfl (by first | exact rf_s _ | exact rf_n | exact rf_q _) ?_
  refine wa_aloadV_n (pc := 1) (y := mJ5_transferLinks) dJ5_transferLinks_1 rfl (by first | exact rf_s _ | exact rf_n | exact rf_q _) ?_
  refine wn_get 4 dJ5_transferLinks_2 (by assumption) q1309 (Or.inl rfl) (Nat.le_of_ble_eq_true rfl) (by (repeat (first | exact updF_self _ _ _ _ | (apply updF_i; · decide) | (apply updF_a; · first | assumption | (apply Ne.symm; assumption) | omega) | (apply newF_a; · first | assumption | (apply Ne.symm; assumption) | omega) | exact newL_self (by rfl) | exact newF_self (by rfl) | (apply cpyF_a; · first | assumption | (apply Ne.symm; assumption) | omega))) <;> first | assumption | rfl) ?_
  refine wa_dup_x1 (pc := 5) (y := mJ5_transferLinks) dJ5_transferLinks_5 (by first | rfl | exact rf_cat _) (by first | rfl | exact rf_cat _) ?_
  refine wn_put 4 (.object "java/util/LinkedHashMap$Entry") dJ5_transferLinks_6 (by assumption) q1309 (Or.inl rfl) (Nat.le_of_ble_eq_true rfl) rfl (by decide +kernel) (by first | rfl | exact rf_nar _ | exact rf_nar2 _) (by first | rfl | exact rf_fit _ | exact rf_fit2 _) ?_
  refine wa_astoreV_n (pc := 9) (y := mJ5_transferLinks) dJ5_transferLinks_9 (Nat.le_of_ble_eq_true rfl) (by first | rfl | (simp [okst, rf_cat] <;> assumption)) (by first | exact rf_s _ | exact rf_n | exact rf_q _) ?_
  change WA _ _ _ _ (List.set _ 3 _) _ _ _
  simp only [List.set_cons_zero, List.set_cons_succ]
  refine wa_aloadV_n (pc := 10) (y := mJ5_transferLinks) dJ5_transferLinks_10 rfl (by first | exact rf_s _ | exact rf_n | exact rf_q _) ?_
  refine wa_aloadV_n (pc := 11) (y := mJ5_transferLinks) dJ5_transferLinks_11 rfl (by first | exact rf_s _ | exact rf_n | exact rf_q _) ?_
  refine wn_get 5 dJ5_transferLinks_12 (by assumption) q1311 (Or.inl rfl) (Nat.le_of_ble_eq_true rfl) (by (repeat (first | exact updF_self _ _ _ _ | (apply updF_i; · decide) | (apply updF_a; · first | assumption | (apply Ne.symm; assumption) | omega) | (apply newF_a; · first | assumption | (apply Ne.symm; assumption) | omega) | exact newL_self (by rfl) | exact newF_self (by rfl) | (apply cpyF_a; · first | assumption | (apply Ne.symm; assumption) | omega))) <;> first | assumption | rfl) ?_
  refine wa_dup_x1 (pc := 15) (y := mJ5_transferLinks) dJ5_transferLinks_15 (by first | rfl | exact rf_cat _) (by first | rfl | exact rf_cat _) ?_
  refine wn_put 5 (.object "java/util/LinkedHashMap$Entry") dJ5_transferLinks_16 (by assumption) q1311 (Or.inl rfl) (Nat.le_of_ble_eq_true rfl) rfl (by decide +kernel) (by first | rfl | exact rf_nar _ | exact rf_nar2 _) (by first | rfl | exact rf_fit _ | exact rf_fit2 _) ?_
  refine wa_astoreV (pc := 19) (y := mJ5_transferLinks) dJ5_transferLinks_19 (Nat.le_of_ble_eq_true rfl) (by first | rfl | (simp [okst, rf_cat] <;> assumption)) (by first | exact rf_s _ | exact rf_n | exact rf_q _) ?_
  simp only [List.set_cons_zero, List.set_cons_succ]
  refine wa_aloadV_n (pc := 21) (y := mJ5_transferLinks) dJ5_transferLinks_21 rfl (by first | exact rf_s _ | exact rf_n | exact rf_q _) ?_
  refine wa_ifnonnullV (pc := 22) 33 dJ5_transferLinks_22 rfl (by first | exact rf_s _ | exact rf_n | exact rf_q _) (fun a22 hb22 => ?_) (fun hb22 => ?_)
  · have ha := getLast_mem hb22
    have hNa := hN _ (List.mem_append_left _ ha)
    have ham := hnm _ (List.mem_append_left _ ha)
    obtain ⟨w27, hw27⟩ : ∃ w, a.head? = some w := by cases a <;> simp_all
    have haq := hq2.1 _ ha
    rw [hb22]
    refine wa_aloadV_n (pc := 33) (y := mJ5_transferLinks) dJ5_transferLinks_33 rfl (by first | exact rf_s _ | exact rf_n | exact rf_q _) ?_
    refine wa_aloadV_n (pc := 34) (y := mJ5_transferLinks) dJ5_transferLinks_34 rfl (by first | exact rf_s _ | exact rf_n | exact rf_q _) ?_
    refine wn_put 5 (.object "java/util/LinkedHashMap$Entry") dJ5_transferLinks_35 (by assumption) q1311 (Or.inl rfl) (Nat.le_of_ble_eq_true rfl) rfl (by decide +kernel) (by first | rfl | exact rf_nar _ | exact rf_nar2 _) (by first | rfl | exact rf_fit _ | exact rf_fit2 _) ?_
    refine wa_aloadV (pc := 38) (y := mJ5_transferLinks) dJ5_transferLinks_38 rfl (by first | exact rf_s _ | exact rf_n | exact rf_q _) ?_
    refine wa_ifnonnullV (pc := 40) 51 dJ5_transferLinks_40 rfl (by first | exact rf_s _ | exact rf_n | exact rf_q _) (fun a40 hb40 => ?_) (fun hb40 => ?_)
    · have hb := head_mem hb40
      have hNb := hN _ (List.mem_append_right _ (List.mem_cons_of_mem _ hb))
      have hbm := hnm _ (List.mem_append_right _ (List.mem_cons_of_mem _ hb))
      obtain ⟨w47, hw47⟩ : ∃ w, b.getLast? = some w := by cases b <;> simp_all [List.getLast?_cons]
      have hbq := hq2.2 _ hb
      rw [hb40]
      refine wa_aloadV (pc := 51) (y := mJ5_transferLinks) dJ5_transferLinks_51 rfl (by first | exact rf_s _ | exact rf_n | exact rf_q _) ?_
      refine wa_aloadV_n (pc := 53) (y := mJ5_transferLinks) dJ5_transferLinks_53 rfl (by first | exact rf_s _ | exact rf_n | exact rf_q _) ?_
      refine wn_put 4 (.object "java/util/LinkedHashMap$Entry") dJ5_transferLinks_54 (by assumption) q1309 (Or.inl rfl) (Nat.le_of_ble_eq_true rfl) rfl (by decide +kernel) (by first | rfl | exact rf_nar _ | exact rf_nar2 _) (by first | rfl | exact rf_fit _ | exact rf_fit2 _) ?_
      refine wa_return (pc := 57) (y := mJ5_transferLinks) dJ5_transferLinks_57 rfl ⟨rfl, _, rfl, LO.splice (c := [p]) (c2 := [q]) lo hn (by simp only [List.cons_append, List.nil_append, List.head?_append, List.head?_cons]; grind [updF_eq, va_rf]) (by simp only [List.cons_append, List.nil_append, List.getLast?_append, List.getLast?_cons]; grind [updF_eq, va_rf]) (fun z hz => by simp only [List.cons_append, List.nil_append, List.head?_cons]; grind [updF_eq, va_rf]) (fun z hz => by grind [updF_eq, va_rf]) (fun z hz => by grind [updF_eq, va_rf]) (fun z hz => by simp only [List.getLast?_append, List.getLast?_singleton]; grind [updF_eq, va_rf]) ⟨by grind [updF_eq, va_rf], trivial⟩ ⟨by grind [updF_eq, va_rf], trivial⟩, (by repeat (first | exact LFr.refl | refine LFr.upd ?_ (by first | exact Or.inl ⟨rfl, by decide⟩ | exact Or.inr ⟨by grind, by decide⟩)))⟩
    · have hb := head_none hb40
      rw [hb40]
      refine wa_aloadV_n (pc := 43) (y := mJ5_transferLinks) dJ5_transferLinks_43 rfl (by first | exact rf_s _ | exact rf_n | exact rf_q _) ?_
      refine wa_aloadV_n (pc := 44) (y := mJ5_transferLinks) dJ5_transferLinks_44 rfl (by first | exact rf_s _ | exact rf_n | exact rf_q _) ?_
      refine wf_put (k := 12) (l := 12) 9 (.object "java/util/LinkedHashMap$Entry") dJ5_transferLinks_45 (by assumption) rfl q204 (Or.inl rfl) (Nat.le_of_ble_eq_true rfl) rfl (by decide +kernel) (by first | rfl | exact rf_nar _ | exact rf_nar2 _) (by first | rfl | exact rf_fit _ | exact rf_fit2 _) ?_
      refine wa_goto (pc := 48) (y := mJ5_transferLinks) 57 dJ5_transferLinks_48 rfl ?_
      refine wa_return (pc := 57) (y := mJ5_transferLinks) dJ5_transferLinks_57 rfl ⟨rfl, _, rfl, LO.splice (c := [p]) (c2 := [q]) lo hn (by simp only [List.cons_append, List.nil_append, List.head?_append, List.head?_cons]; grind [updF_eq, va_rf]) (by simp only [List.cons_append, List.nil_append, List.getLast?_append, List.getLast?_cons]; grind [updF_eq, va_rf]) (fun z hz => by simp only [List.cons_append, List.nil_append, List.head?_cons]; grind [updF_eq, va_rf]) (fun z hz => by grind [updF_eq, va_rf]) (fun z hz => by grind [updF_eq, va_rf]) (fun z hz => by simp only [List.getLast?_append, List.getLast?_singleton]; grind [updF_eq, va_rf]) ⟨by grind [updF_eq, va_rf], trivial⟩ ⟨by grind [updF_eq, va_rf], trivial⟩, (by repeat (first | exact LFr.refl | refine LFr.upd ?_ (by first | exact Or.inl ⟨rfl, by decide⟩ | exact Or.inr ⟨by grind, by decide⟩)))⟩
  · have ha := getLast_none hb22
    rw [hb22]
    refine wa_aloadV_n (pc := 25) (y := mJ5_transferLinks) dJ5_transferLinks_25 rfl (by first | exact rf_s _ | exact rf_n | exact rf_q _) ?_
    refine wa_aloadV_n (pc := 26) (y := mJ5_transferLinks) dJ5_transferLinks_26 rfl (by first | exact rf_s _ | exact rf_n | exact rf_q _) ?_
    refine wf_put (k := 12) (l := 12) 8 (.object "java/util/LinkedHashMap$Entry") dJ5_transferLinks_27 (by assumption) rfl q201 (Or.inl rfl) (Nat.le_of_ble_eq_true rfl) rfl (by decide +kernel) (by first | rfl | exact rf_nar _ | exact rf_nar2 _) (by first | rfl | exact rf_fit _ | exact rf_fit2 _) ?_
    refine wa_goto (pc := 30) (y := mJ5_transferLinks) 38 dJ5_transferLinks_30 rfl ?_
    refine wa_aloadV (pc := 38) (y := mJ5_transferLinks) dJ5_transferLinks_38 rfl (by first | exact rf_s _ | exact rf_n | exact rf_q _) ?_
    refine wa_ifnonnullV (pc := 40) 51 dJ5_transferLinks_40 rfl (by first | exact rf_s _ | exact rf_n | exact rf_q _) (fun a40 hb40 => ?_) (fun hb40 => ?_)
    · have hb := head_mem hb40
      have hNb := hN _ (List.mem_append_right _ (List.mem_cons_of_mem _ hb))
      have hbm := hnm _ (List.mem_append_right _ (List.mem_cons_of_mem _ hb))
      obtain ⟨w47, hw47⟩ : ∃ w, b.getLast? = some w := by cases b <;> simp_all [List.getLast?_cons]
      have hbq := hq2.2 _ hb
      rw [hb40]
      refine wa_aloadV (pc := 51) (y := mJ5_transferLinks) dJ5_transferLinks_51 rfl (by first | exact rf_s _ | exact rf_n | exact rf_q _) ?_
      refine wa_aloadV_n (pc := 53) (y := mJ5_transferLinks) dJ5_transferLinks_53 rfl (by first | exact rf_s _ | exact rf_n | exact rf_q _) ?_
      refine wn_put 4 (.object "java/util/LinkedHashMap$Entry") dJ5_transferLinks_54 (by assumption) q1309 (Or.inl rfl) (Nat.le_of_ble_eq_true rfl) rfl (by decide +kernel) (by first | rfl | exact rf_nar _ | exact rf_nar2 _) (by first | rfl | exact rf_fit _ | exact rf_fit2 _) ?_
      refine wa_return (pc := 57) (y := mJ5_transferLinks) dJ5_transferLinks_57 rfl ⟨rfl, _, rfl, LO.splice (c := [p]) (c2 := [q]) lo hn (by simp only [List.cons_append, List.nil_append, List.head?_append, List.head?_cons]; grind [updF_eq, va_rf]) (by simp only [List.cons_append, List.nil_append, List.getLast?_append, List.getLast?_cons]; grind [updF_eq, va_rf]) (fun z hz => by simp only [List.cons_append, List.nil_append, List.head?_cons]; grind [updF_eq, va_rf]) (fun z hz => by grind [updF_eq, va_rf]) (fun z hz => by grind [updF_eq, va_rf]) (fun z hz => by simp only [List.getLast?_append, List.getLast?_singleton]; grind [updF_eq, va_rf]) ⟨by grind [updF_eq, va_rf], trivial⟩ ⟨by grind [updF_eq, va_rf], trivial⟩, (by repeat (first | exact LFr.refl | refine LFr.upd ?_ (by first | exact Or.inl ⟨rfl, by decide⟩ | exact Or.inr ⟨by grind, by decide⟩)))⟩
    · have hb := head_none hb40
      rw [hb40]
      refine wa_aloadV_n (pc := 43) (y := mJ5_transferLinks) dJ5_transferLinks_43 rfl (by first | exact rf_s _ | exact rf_n | exact rf_q _) ?_
      refine wa_aloadV_n (pc := 44) (y := mJ5_transferLinks) dJ5_transferLinks_44 rfl (by first | exact rf_s _ | exact rf_n | exact rf_q _) ?_
      refine wf_put (k := 12) (l := 12) 9 (.object "java/util/LinkedHashMap$Entry") dJ5_transferLinks_45 (by assumption) rfl q204 (Or.inl rfl) (Nat.le_of_ble_eq_true rfl) rfl (by decide +kernel) (by first | rfl | exact rf_nar _ | exact rf_nar2 _) (by first | rfl | exact rf_fit _ | exact rf_fit2 _) ?_
      refine wa_goto (pc := 48) (y := mJ5_transferLinks) 57 dJ5_transferLinks_48 rfl ?_
      refine wa_return (pc := 57) (y := mJ5_transferLinks) dJ5_transferLinks_57 rfl ⟨rfl, _, rfl, LO.splice (c := [p]) (c2 := [q]) lo hn (by simp only [List.cons_append, List.nil_append, List.head?_append, List.head?_cons]; grind [updF_eq, va_rf]) (by simp only [List.cons_append, List.nil_append, List.getLast?_append, List.getLast?_cons]; grind [updF_eq, va_rf]) (fun z hz => by simp only [List.cons_append, List.nil_append, List.head?_cons]; grind [updF_eq, va_rf]) (fun z hz => by grind [updF_eq, va_rf]) (fun z hz => by grind [updF_eq, va_rf]) (fun z hz => by simp only [List.getLast?_append, List.getLast?_singleton]; grind [updF_eq, va_rf]) ⟨by grind [updF_eq, va_rf], trivial⟩ ⟨by grind [updF_eq, va_rf], trivial⟩, (by repeat (first | exact LFr.refl | refine LFr.upd ?_ (by first | exact Or.inl ⟨rfl, by decide⟩ | exact Or.inr ⟨by grind, by decide⟩)))⟩
end NODES
