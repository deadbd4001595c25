/-! ===== ArrayList ===== -/
/-- the start's empty array of ArrayList -/
def emA (G : GG) : Nat := match (Term.static "java/util/ArrayList" "DEFAULTCAPACITY_EMPTY_ELEMENTDATA" "[Ljava/lang/Object;").eval G.2.1 G.1 none [] G.1 with
  | some (.ref e) => e
  | _ => 0
/-- what lists hold -/
def El (h : AH) (x : Nat) : Prop := ∃ k l : Nat, Is h x k l ∧ (k = 1 ∨ k = 2 ∨ k = 6 ∨ k = 10)
theorem El.ext {h h2 : AH} {x : Nat} (e : El h x) (f : Ext h h2) : El h2 x := by
  obtain ⟨k, l, h1, h3⟩ := e
  exact ⟨k, l, h1.ext f, h3⟩
def LstR (G : GG) (h : AH) (F : Nat → Nat → Value) (a arr cap : Nat) (xs : List Nat) : Prop :=
  Is h a 11 3 ∧ F a 1 = .ref arr ∧ F a 2 = .int (Int32.ofNat xs.length) ∧ (∃ z : Int32, F a 0 = .int z) ∧ xs.length ≤ cap ∧ cap ≤ 200 ∧ (0 < cap ∧ Is h arr 35 cap ∨ Is h arr 43 cap ∧ cap = 0 ∧ arr = emA G) ∧ ∀ i x, xs[i]? = some x → F arr i = .ref x ∧ El h x
/-- what a list's mutators may touch -/
def LF (h : AH) (a arr : Nat) (b : Nat) : Prop := b = a ∨ b = arr ∧ ∃ c, Is h arr 35 c
section LISTS
variable {G : GG} {d n : Nat} {h h2 : AH} {F F2 : Nat → Nat → Value} {a arr cap : Nat} {xs : List Nat} {P : Nat → Prop}
theorem LstR.lt (L : LstR G h F a arr cap xs) : a < h.1 ∧ arr < h.1 := ⟨L.1.lt, L.2.2.2.2.2.2.1.elim (·.2.lt) (·.1.lt)⟩
theorem LstR.len (L : LstR G h F a arr cap xs) : xs.length ≤ 200 := by have := L.2.2.2.2.1; have := L.2.2.2.2.2.1; omega
theorem LstR.ne (L : LstR G h F a arr cap xs) : a ≠ arr := L.2.2.2.2.2.2.1.elim (fun i => L.1.ne i.2 (by decide)) (fun i => L.1.ne i.1 (by decide))
theorem LstR.kept (L : LstR G h F a arr cap xs) (f : Fr P h F h2 F2) (hp : ∀ b, LF h a arr b → ¬ P b) : LstR G h2 F2 a arr cap xs := by
  have l := L.lt
  obtain ⟨h1, e1, e2, e3, e4, e5, e6, e7⟩ := L
  have ha := f.2 a l.1 (hp a (Or.inl rfl))
  refine ⟨f.is h1, by rw [ha]; exact e1, by rw [ha]; exact e2, by rw [ha]; exact e3, e4, e5, e6.imp (fun q => ⟨q.1, f.is q.2⟩) (fun q => ⟨f.is q.1, q.2⟩), fun i x hx => ?_⟩
  rcases e6 with ⟨-, e6⟩ | ⟨-, e6, -⟩
  · rw [f.2 arr l.2 (hp arr (Or.inr ⟨rfl, _, e6⟩))]
    exact ⟨(e7 i x hx).1, (e7 i x hx).2.ext f.1⟩
  · have := (List.getElem?_eq_some_iff.mp hx).1
    omega
theorem s_J10_checkIndex {i k : Nat} {v : Option Nat} (hi : i < k) (hk : k < 2147483648) : MA G d mJ10_checkIndex [.int (Int32.ofNat i), .int (Int32.ofNat k), va_rf v] h (fun r h' => r = .inl (some (.int (Int32.ofNat i))) ∧ h' = h) := by
  show WA _ _ _ _ _ _ _ _
  cases v <;>
  ( change WA G d mJ10_checkIndex 0 [.int (Int32.ofNat i), .int (Int32.ofNat k), _] [] h _
    refine wa_iload_n (pc := 0) (y := mJ10_checkIndex) dJ10_checkIndex_0 rfl ?_
    refine wa_if_lt (pc := 1) 9 dJ10_checkIndex_1 rfl (fun hb1 => absurd ((iN_lt (b := 0) (by omega) (by omega)).mp hb1) (by omega)) (fun hb1 => ?_)
    refine wa_iload_n (pc := 4) (y := mJ10_checkIndex) dJ10_checkIndex_4 rfl ?_
    refine wa_iload_n (pc := 5) (y := mJ10_checkIndex) dJ10_checkIndex_5 rfl ?_
    refine wa_icmp_lt (pc := 6) 16 dJ10_checkIndex_6 rfl (fun hb6 => ?_) (fun hb6 => absurd ((iN_lt (by omega) (by omega)).mpr hi) hb6)
    refine wa_iload_n (pc := 16) (y := mJ10_checkIndex) dJ10_checkIndex_16 rfl ?_
    refine wa_ireturn (pc := 17) (y := mJ10_checkIndex) .int dJ10_checkIndex_17 rfl rfl ⟨rfl, rfl⟩
  )
theorem s_J9_checkIndex {i k : Nat} (hd : 1 ≤ d) (hi : i < k) (hk : k < 2147483648) : MA G d mJ9_checkIndex [.int (Int32.ofNat i), .int (Int32.ofNat k)] h (fun r h' => r = .inl (some (.int (Int32.ofNat i))) ∧ h' = h) := by
  change WA G d mJ9_checkIndex 0 [.int (Int32.ofNat i), .int (Int32.ofNat k)] [] h _
  refine wa_iload_n (pc := 0) (y := mJ9_checkIndex) dJ9_checkIndex_0 rfl ?_
  refine wa_iload_n (pc := 1) (y := mJ9_checkIndex) dJ9_checkIndex_1 rfl ?_
  refine wa_null (pc := 2) (y := mJ9_checkIndex) dJ9_checkIndex_2 ?_
  refine wa_callS (pc := 3) (s_J10_checkIndex (d := d - 1) (v := none) hi hk) dJ9_checkIndex_3 okJ10_checkIndex q423 q424 rfl rfl (Nat.le_of_ble_eq_true rfl) (Nat.le_of_ble_eq_true rfl) (by omega) ?_
  rintro _ _ - - ⟨rfl, rfl⟩
  refine aft_v (pc2 := 6) ?_ rfl
  refine wa_ireturn (pc := 6) (y := mJ9_checkIndex) .int dJ9_checkIndex_6 rfl rfl ⟨rfl, rfl⟩
theorem s_J2_size (L : LstR G h F a arr cap xs) : MA G d mJ2_size [.ref a] (sF h F) (fun r h' => r = .inl (some (.int (Int32.ofNat xs.length))) ∧ h' = sF h F) := by
  obtain ⟨L1, L2, L3, -⟩ := L
  change WA G d mJ2_size 0 [.ref a] [] _ _
  refine wa_aloadV_n (pc := 0) (y := mJ2_size) dJ2_size_0 rfl (by first | exact rf_s _ | exact rf_n | exact rf_q _) ?_
  refine wf_get (k := 11) (l := 3) 2 dJ2_size_1 (by assumption) rfl q176 (Or.inl rfl) (Nat.le_of_ble_eq_true rfl) (Nat.le_of_ble_eq_true rfl) (by (repeat (first | exact updF_self _ _ _ _ | (apply updF_i; · decide) | (apply updF_a; · first | assumption | (apply Ne.symm; assumption) | omega) | (apply newF_a; · first | assumption | (apply Ne.symm; assumption) | omega) | exact newL_self (by rfl) | exact newF_self (by rfl) | (apply cpyF_a; · first | assumption | (apply Ne.symm; assumption) | omega))) <;> first | assumption | rfl) ?_
  refine wa_ireturn (pc := 4) (y := mJ2_size) .int dJ2_size_4 rfl rfl ⟨rfl, rfl⟩
theorem s_J2_elementData {i x : Nat} (L : LstR G h F a arr cap xs) (hx : xs[i]? = some x) : MA G d mJ2_elementData [.ref a, .int (Int32.ofNat i)] (sF h F) (fun r h' => r = .inl (some (.ref x)) ∧ h' = sF h F) := by
  have hl := L.len
  have hi := (List.getElem?_eq_some_iff.mp hx).1
  obtain ⟨L1, L2, L3, -, L4, L5, L6, L7⟩ := L
  have hI : Is h arr 35 cap := L6.elim (fun q => q.2) (fun q => by omega)
  have hF := (L7 i x hx).1
  change WA G d mJ2_elementData 0 [.ref a, .int (Int32.ofNat i)] [] _ _
  refine wa_aloadV_n (pc := 0) (y := mJ2_elementData) dJ2_elementData_0 rfl (by first | exact rf_s _ | exact rf_n | exact rf_q _) ?_
  refine wf_get (k := 11) (l := 3) 1 dJ2_elementData_1 (by assumption) rfl q173 (Or.inl rfl) (Nat.le_of_ble_eq_true rfl) (Nat.le_of_ble_eq_true rfl) (by (repeat (first | exact updF_self _ _ _ _ | (apply updF_i; · decide) | (apply updF_a; · first | assumption | (apply Ne.symm; assumption) | omega) | (apply newF_a; · first | assumption | (apply Ne.symm; assumption) | omega) | exact newL_self (by rfl) | exact newF_self (by rfl) | (apply cpyF_a; · first | assumption | (apply Ne.symm; assumption) | omega))) <;> first | assumption | rfl) ?_
  refine wa_iload_n (pc := 4) (y := mJ2_elementData) dJ2_elementData_4 rfl ?_
  refine wf_aaload dJ2_elementData_5 (by assumption) (by first | exact Or.inl rfl | exact Or.inr rfl) (by omega) (by (repeat (first | exact updF_self _ _ _ _ | (apply updF_i; · decide) | (apply updF_a; · first | assumption | (apply Ne.symm; assumption) | omega) | (apply newF_a; · first | assumption | (apply Ne.symm; assumption) | omega) | exact newL_self (by rfl) | exact newF_self (by rfl) | (apply cpyF_a; · first | assumption | (apply Ne.symm; assumption) | omega))) <;> first | assumption | rfl) ?_
  refine wa_areturnV (pc := 6) (y := mJ2_elementData) (.object "java/lang/Object") dJ2_elementData_6 rfl (Or.inl ⟨_, rfl⟩) (by first | exact rf_s _ | exact rf_n | exact rf_q _) ⟨rfl, rfl⟩
theorem s_J2_get {i x : Nat} (hd : 2 ≤ d) (L : LstR G h F a arr cap xs) (hx : xs[i]? = some x) : MA G d mJ2_get [.ref a, .int (Int32.ofNat i)] (sF h F) (fun r h' => r = .inl (some (.ref x)) ∧ h' = sF h F) := by
  have hl := L.len
  have hi := (List.getElem?_eq_some_iff.mp hx).1
  have LL := L
  obtain ⟨L1, L2, L3, -, L4, L5, L6, L7⟩ := L
  change WA G d mJ2_get 0 [.ref a, .int (Int32.ofNat i)] [] _ _
  refine wa_iload_n (pc := 0) (y := mJ2_get) dJ2_get_0 rfl ?_
  refine wa_aloadV_n (pc := 1) (y := mJ2_get) dJ2_get_1 rfl (by first | exact rf_s _ | exact rf_n | exact rf_q _) ?_
  refine wf_get (k := 11) (l := 3) 2 dJ2_get_2 (by assumption) rfl q176 (Or.inl rfl) (Nat.le_of_ble_eq_true rfl) (Nat.le_of_ble_eq_true rfl) (by (repeat (first | exact updF_self _ _ _ _ | (apply updF_i; · decide) | (apply updF_a; · first | assumption | (apply Ne.symm; assumption) | omega) | (apply newF_a; · first | assumption | (apply Ne.symm; assumption) | omega) | exact newL_self (by rfl) | exact newF_self (by rfl) | (apply cpyF_a; · first | assumption | (apply Ne.symm; assumption) | omega))) <;> first | assumption | rfl) ?_
  refine wa_callS (pc := 5) (s_J9_checkIndex (d := d - 1) (by omega) hi (by omega)) dJ2_get_5 okJ9_checkIndex q420 q421 rfl rfl (Nat.le_of_ble_eq_true rfl) (Nat.le_of_ble_eq_true rfl) (by omega) ?_
  rintro _ _ - - ⟨rfl, rfl⟩
  refine aft_v (pc2 := 8) ?_ rfl
  refine wa_pop (pc := 8) (y := mJ2_get) dJ2_get_8 (by first | rfl | exact rf_cat _) ?_
  refine wa_aloadV_n (pc := 9) (y := mJ2_get) dJ2_get_9 rfl (by first | exact rf_s _ | exact rf_n | exact rf_q _) ?_
  refine wa_iload_n (pc := 10) (y := mJ2_get) dJ2_get_10 rfl ?_
  refine wa_callV (pc := 11) (s_J2_elementData (d := d - 1) LL hx) dJ2_get_11 okJ2_elementData q426 q427 q428 (sF_at (by assumption)) rfl rfl rfl (Nat.le_of_ble_eq_true rfl) (Nat.le_of_ble_eq_true rfl) (by omega) ?_
  rintro _ _ - - ⟨rfl, rfl⟩
  refine aft_v (pc2 := 14) ?_ rfl
  refine wa_areturnV (pc := 14) (y := mJ2_get) (.object "java/lang/Object") dJ2_get_14 rfl (Or.inl ⟨_, rfl⟩) (by first | exact rf_s _ | exact rf_n | exact rf_q _) ⟨rfl, rfl⟩
theorem s_J6_newLength {o m p : Nat} (hd : 1 ≤ d) (h1 : o < 1000000) (h2 : m < 1000000) (h3 : p < 1000000) (h4 : 0 < o + max m p) : MA G d mJ6_newLength [.int (Int32.ofNat o), .int (Int32.ofNat m), .int (Int32.ofNat p)] h (fun r h' => r = .inl (some (.int (Int32.ofNat (o + max m p)))) ∧ h' = h) := by
  change WA G d mJ6_newLength 0 [.int (Int32.ofNat o), .int (Int32.ofNat m), .int (Int32.ofNat p), .retAddr 0] [] h _
  refine wa_iload_n (pc := 0) (y := mJ6_newLength) dJ6_newLength_0 rfl ?_
  refine wa_iload_n (pc := 1) (y := mJ6_newLength) dJ6_newLength_1 rfl ?_
  refine wa_iload_n (pc := 2) (y := mJ6_newLength) dJ6_newLength_2 rfl ?_
  refine wa_max (pc := 3) dJ6_newLength_3 q291 q292 q94 q293 (Nat.le_of_ble_eq_true rfl) (by omega) ?_
  rw [iN_max (by omega) (by omega)]
  first | with_reducible refine wa_iaddN (pc := 6) (y := mJ6_newLength) dJ6_newLength_6 ?_ | refine wa_iadd (pc := 6) (y := mJ6_newLength) dJ6_newLength_6 ?_
  refine wa_istore_n (pc := 7) (y := mJ6_newLength) dJ6_newLength_7 (Nat.le_of_ble_eq_true rfl) (by first | rfl | (simp [okst, rf_cat] <;> assumption)) ?_
  change WA _ _ _ _ (List.set _ 3 _) _ _ _
  simp only [List.set_cons_zero, List.set_cons_succ]
  refine wa_iconst (pc := 8) (y := mJ6_newLength) (Int32.ofNat 0) dJ6_newLength_8 rfl ?_
  refine wa_iload_n (pc := 9) (y := mJ6_newLength) dJ6_newLength_9 rfl ?_
  refine wa_icmp_ge (pc := 10) 21 dJ6_newLength_10 rfl (fun hb10 => absurd hb10 (Int32.not_le.mpr ((iN_gt0 (by omega)).mpr h4))) (fun hb10 => ?_)
  refine wa_iload_n (pc := 13) (y := mJ6_newLength) dJ6_newLength_13 rfl ?_
  refine wa_ldc (pc := 14) (y := mJ6_newLength) dJ6_newLength_14 q294 ?_
  refine wa_icmp_gt (pc := 16) 21 dJ6_newLength_16 rfl (fun hb16 => absurd hb16 (Int32.not_lt.mpr ((iN_le (b := 2147483639) (by omega) (by omega)).mpr (by omega)))) (fun hb16 => ?_)
  refine wa_iload_n (pc := 19) (y := mJ6_newLength) dJ6_newLength_19 rfl ?_
  refine wa_ireturn (pc := 20) (y := mJ6_newLength) .int dJ6_newLength_20 rfl rfl ⟨rfl, rfl⟩
theorem s_J8_copyOf_2 {mi nl : Nat} (hd : 1 ≤ d) (hM : va_Mi "[Ljava/lang/Object;" mi G.1) (hI : Is h arr 35 cap) (hc : cap ≤ nl) (hn : nl ≤ 100000) (hok : ∀ i, i < cap → cpK h 35 (F arr i)) :
    MA G d mJ8_copyOf_2 [.ref arr, .int (Int32.ofNat nl), .ref mi] (sF h F) (fun r h' => r = .inl (some (.ref h.1)) ∧ h' = sF (hNew h 35 nl) (cpyF (newF F h.1 (fun _ => .null)) arr h.1 0 0 cap)) := by
  change WA G d mJ8_copyOf_2 0 [.ref arr, .int (Int32.ofNat nl), .ref mi, .retAddr 0] [] _ _
  have hne : arr ≠ h.1 := Nat.ne_of_lt hI.lt
  have hI2 : Is (hNew h 35 nl) arr 35 cap := hI.new
  have hI3 : Is (hNew h 35 nl) h.1 35 nl := Is.self
  refine wa_aloadV_n (pc := 0) (y := mJ8_copyOf_2) dJ8_copyOf_2_0 rfl (by first | exact rf_s _ | exact rf_n | exact rf_q _) ?_
  refine wa_ldcMA (pc := 1) (y := mJ8_copyOf_2) hM dJ8_copyOf_2_1 q344 ?_
  refine wa_acneV (pc := 3) 13 dJ8_copyOf_2_3 rfl (by first | exact rf_s _ | exact rf_n | exact rf_q _) (by first | exact rf_s _ | exact rf_n | exact rf_q _) (fun hb3 => absurd rfl hb3) (fun hb3 => ?_)
  refine wa_iload_n (pc := 6) (y := mJ8_copyOf_2) dJ8_copyOf_2_6 rfl ?_
  refine wf_anewarray 35 dJ8_copyOf_2_7 (by omega) (Or.inl ⟨rfl, rfl⟩) q346 q345 ?_
  refine wa_goto (pc := 10) (y := mJ8_copyOf_2) 24 dJ8_copyOf_2_10 rfl ?_
  refine wa_astoreV_n (pc := 24) (y := mJ8_copyOf_2) dJ8_copyOf_2_24 (Nat.le_of_ble_eq_true rfl) (by first | rfl | (simp [okst, rf_cat] <;> assumption)) (by first | exact rf_s _ | exact rf_n | exact rf_q _) ?_
  change WA _ _ _ _ (List.set _ 3 _) _ _ _
  simp only [List.set_cons_zero, List.set_cons_succ]
  refine wa_aloadV_n (pc := 25) (y := mJ8_copyOf_2) dJ8_copyOf_2_25 rfl (by first | exact rf_s _ | exact rf_n | exact rf_q _) ?_
  refine wa_iconst (pc := 26) (y := mJ8_copyOf_2) (Int32.ofNat 0) dJ8_copyOf_2_26 rfl ?_
  refine wa_aloadV_n (pc := 27) (y := mJ8_copyOf_2) dJ8_copyOf_2_27 rfl (by first | exact rf_s _ | exact rf_n | exact rf_q _) ?_
  refine wa_iconst (pc := 28) (y := mJ8_copyOf_2) (Int32.ofNat 0) dJ8_copyOf_2_28 rfl ?_
  refine wa_aloadV_n (pc := 29) (y := mJ8_copyOf_2) dJ8_copyOf_2_29 rfl (by first | exact rf_s _ | exact rf_n | exact rf_q _) ?_
  refine wf_alen dJ8_copyOf_2_30 (by assumption) (by decide) ?_
  refine wa_iload_n (pc := 31) (y := mJ8_copyOf_2) dJ8_copyOf_2_31 rfl ?_
  refine wa_min (pc := 32) dJ8_copyOf_2_32 q347 q348 q94 q349 (Nat.le_of_ble_eq_true rfl) (by omega) ?_
  rw [iN_min (by omega) (by omega), Nat.min_eq_left hc]
  refine wf_copy (k := 35) (pc := 35) (y := mJ8_copyOf_2) dJ8_copyOf_2_35 q350 q352 q351 q96 (by assumption) (by assumption) (by omega) (fun i hi => by rw [Nat.zero_add, show newF F h.1 (fun _ => Value.null) arr i = F arr i from newF_a hne rfl]; exact (hok i hi).new) (Or.inr rfl) (Nat.le_of_ble_eq_true rfl) (by omega) ?_
  refine wa_aloadV_n (pc := 38) (y := mJ8_copyOf_2) dJ8_copyOf_2_38 rfl (by first | exact rf_s _ | exact rf_n | exact rf_q _) ?_
  refine wa_areturnV (pc := 39) (y := mJ8_copyOf_2) (.array (.object "java/lang/Object")) dJ8_copyOf_2_39 rfl (Or.inr ⟨_, rfl⟩) (by first | exact rf_s _ | exact rf_n | exact rf_q _) ⟨rfl, rfl⟩
theorem s_J8_copyOf {nl : Nat} (hd : 2 ≤ d) (hG : StG G) (hI : Is h arr 35 cap) (hc : cap ≤ nl) (hn : nl ≤ 100000) (hok : ∀ i, i < cap → cpK h 35 (F arr i)) :
    MA G d mJ8_copyOf [.ref arr, .int (Int32.ofNat nl)] (sF h F) (fun r h' => r = .inl (some (.ref h.1)) ∧ h' = sF (hNew h 35 nl) (cpyF (newF F h.1 (fun _ => .null)) arr h.1 0 0 cap)) := by
  obtain ⟨mi, hM⟩ := va_MiG hG
  change WA G d mJ8_copyOf 0 [.ref arr, .int (Int32.ofNat nl)] [] _ _
  refine wa_aloadV_n (pc := 0) (y := mJ8_copyOf) dJ8_copyOf_0 rfl (by first | exact rf_s _ | exact rf_n | exact rf_q _) ?_
  refine wa_iload_n (pc := 1) (y := mJ8_copyOf) dJ8_copyOf_1 rfl ?_
  refine wa_aloadV_n (pc := 2) (y := mJ8_copyOf) dJ8_copyOf_2 rfl (by first | exact rf_s _ | exact rf_n | exact rf_q _) ?_
  refine wa_getCA (l := cap) hM dJ8_copyOf_3 (sF_at hI) q301 (Nat.le_of_ble_eq_true rfl) (by omega) ?_
  refine wa_callS (pc := 6) (s_J8_copyOf_2 (d := d - 1) (by omega) hM hI hc hn hok) dJ8_copyOf_6 okJ8_copyOf_2 q341 q342 rfl rfl (Nat.le_of_ble_eq_true rfl) (Nat.le_of_ble_eq_true rfl) (by omega) ?_
  rintro _ _ - - ⟨rfl, rfl⟩
  refine aft_v (pc2 := 9) ?_ rfl
  refine wa_areturnV (pc := 9) (y := mJ8_copyOf) (.array (.object "java/lang/Object")) dJ8_copyOf_9 rfl (Or.inr ⟨_, rfl⟩) (by first | exact rf_s _ | exact rf_n | exact rf_q _) ⟨rfl, rfl⟩
theorem em_eval (hG : StG G) : (Term.static "java/util/ArrayList" "DEFAULTCAPACITY_EMPTY_ELEMENTDATA" "[Ljava/lang/Object;").eval G.2.1 G.1 none [] G.1 = some (.ref (emA G)) := by
  obtain ⟨a, c, cell, k, hv, -⟩ := Cond.exactly_spec (flat_of_before _ hG (Cond.exactly (.static "java/util/ArrayList" "DEFAULTCAPACITY_EMPTY_ELEMENTDATA" "[Ljava/lang/Object;") "[Ljava/lang/Object;") (by decide +kernel))
  unfold emA
  rw [hv]
theorem cpyF_in {x y sp dp m j : Nat} {w : Value} (hj : dp ≤ j ∧ j < dp + m) (e : F x (sp + (j - dp)) = w) : cpyF F x y sp dp m y j = w := by simp [cpyF_eq, hj, e]
theorem cpyF_out {x y sp dp m j b : Nat} {w : Value} (hj : ¬ (dp ≤ j ∧ j < dp + m)) (e : F b j = w) : cpyF F x y sp dp m b j = w := by
  simp [cpyF_eq, hj, e]
theorem cpyF_a {x y sp dp m j b : Nat} {w : Value} (hb : b ≠ y) (e : F b j = w) : cpyF F x y sp dp m b j = w := by simp [cpyF_eq, hb, e]
theorem El.stor {x : Nat} (e : El h x) : ∃ (kb lb : Nat) (q : vw_C), Is h x kb lb ∧ kl[kb]? = some q ∧ kinOf "java/lang/Object" q.1 := by
  obtain ⟨k, l, h1, h3⟩ := e
  rcases h3 with rfl | rfl | rfl | rfl
  · exact ⟨1, l, _, h1, rfl, kinObj (k := 1) rfl (by decide)⟩
  · exact ⟨2, l, _, h1, rfl, kinObj (k := 2) rfl (by decide)⟩
  · exact ⟨6, l, _, h1, rfl, kinObj (k := 6) rfl (by decide)⟩
  · exact ⟨10, l, _, h1, rfl, kinObj (k := 10) rfl (by decide)⟩
theorem El.cp {x : Nat} (e : El h x) : cpK h 35 (.ref x) := by
  obtain ⟨kb, lb, q, h1, h2, h3⟩ := e.stor
  exact Or.inr ⟨rfl, Or.inr ⟨x, kb, lb, q, rfl, h1, h2, h3⟩⟩
/-- the list as a mutator leaves it -/
def LsG (G : GG) (h : AH) (F : Nat → Nat → Value) (a arr : Nat) (ys : List Nat) (n : Nat) (h' : AH) : Prop :=
  ∃ (h2 : AH) (F2 : Nat → Nat → Value) (arr2 cap2 : Nat), h' = sF h2 F2 ∧ LstR G h2 F2 a arr2 cap2 ys ∧ Fr (LF h a arr) h F h2 F2 ∧ (arr2 = arr ∨ h.1 ≤ arr2) ∧ h2.1 ≤ h.1 + 1 ∧ h2.2.1 ≤ h.2.1 + n
theorem s_J2_grow_2 {m : Nat} (hd : 3 ≤ d) (hG : StG G) (L : LstR G h F a arr cap xs) (hc : xs.length = cap) (hx : xs.length ≤ 100) (hm : m = xs.length + 1) :
    MA G d mJ2_grow_2 [.ref a, .int (Int32.ofNat m)] (sF h F) (fun r h' => ∃ (h2 : AH) (F2 : Nat → Nat → Value) (arr2 cap2 : Nat), r = .inl (some (.ref arr2)) ∧ h' = sF h2 F2 ∧ LstR G h2 F2 a arr2 cap2 xs ∧ Is h2 arr2 35 cap2 ∧ xs.length < cap2 ∧ Fr (LF h a arr) h F h2 F2 ∧ h.1 = arr2 ∧ h2.1 ≤ h.1 + 1 ∧ h2.2.1 ≤ h.2.1 + 200) := by
  have hl := L.lt
  obtain ⟨L1, L2, L3, ⟨z, L4⟩, L5, L6, L7, L8⟩ := L
  have hE := em_eval hG
  have hne : a ≠ h.1 := Nat.ne_of_lt L1.lt
  subst hm
  change WA G d mJ2_grow_2 0 [.ref a, .int (Int32.ofNat (xs.length + 1)), .retAddr 0, .retAddr 0] [] _ _
  rcases L7 with ⟨L9, L7⟩ | ⟨L7, L9, L10⟩
  · have hcp : ∀ i, i < cap → cpK h 35 (F arr i) := fun i hi => by
      have hx : xs[i]? = some (xs[i]'(by omega)) := List.getElem?_eq_getElem (by omega)
      rw [(L8 i _ hx).1]
      exact (L8 i _ hx).2.cp
    have hne2 : arr ≠ h.1 := Nat.ne_of_lt L7.lt
    have hmx : 1 ≤ max 1 (cap / 2 ^ 1) ∧ max 1 (cap / 2 ^ 1) ≤ 100 := by omega
    have hI : Is (hNew h 35 (cap + max 1 (cap / 2 ^ 1))) a 11 3 := L1.new
    refine wa_aloadV_n (pc := 0) (y := mJ2_grow_2) dJ2_grow_2_0 rfl (by first | exact rf_s _ | exact rf_n | exact rf_q _) ?_
    refine wf_get (k := 11) (l := 3) 1 dJ2_grow_2_1 (by assumption) rfl q173 (Or.inl rfl) (Nat.le_of_ble_eq_true rfl) (Nat.le_of_ble_eq_true rfl) (by (repeat (first | exact updF_self _ _ _ _ | (apply updF_i; · decide) | (apply updF_a; · first | assumption | (apply Ne.symm; assumption) | omega) | (apply newF_a; · first | assumption | (apply Ne.symm; assumption) | omega) | exact newL_self (by rfl) | exact newF_self (by rfl) | (apply cpyF_a; · first | assumption | (apply Ne.symm; assumption) | omega))) <;> first | assumption | rfl) ?_
    refine wf_alen dJ2_grow_2_4 (by assumption) (by decide) ?_
    refine wa_istore_n (pc := 5) (y := mJ2_grow_2) dJ2_grow_2_5 (Nat.le_of_ble_eq_true rfl) (by first | rfl | (simp [okst, rf_cat] <;> assumption)) ?_
    change WA _ _ _ _ (List.set _ 2 _) _ _ _
    simp only [List.set_cons_zero, List.set_cons_succ]
    refine wa_iload_n (pc := 6) (y := mJ2_grow_2) dJ2_grow_2_6 rfl ?_
    refine wa_if_gt (pc := 7) 20 dJ2_grow_2_7 rfl (fun hb7 => ?_) (fun hb7 => absurd ((iN_gt0 (by omega)).mpr L9) hb7)
    refine wa_iload_n (pc := 20) (y := mJ2_grow_2) dJ2_grow_2_20 rfl ?_
    refine wa_iload_n (pc := 21) (y := mJ2_grow_2) dJ2_grow_2_21 rfl ?_
    refine wa_iload_n (pc := 22) (y := mJ2_grow_2) dJ2_grow_2_22 rfl ?_
    refine wa_isub (pc := 23) (y := mJ2_grow_2) dJ2_grow_2_23 ?_
    rw [iN_sub (by omega), hc, Nat.add_sub_cancel_left]
    refine wa_iload_n (pc := 24) (y := mJ2_grow_2) dJ2_grow_2_24 rfl ?_
    refine wa_iconst (pc := 25) (y := mJ2_grow_2) (Int32.ofNat 1) dJ2_grow_2_25 rfl ?_
    refine wa_ishr (pc := 26) (y := mJ2_grow_2) dJ2_grow_2_26 ?_
    rw [iN_shr (by omega) (by omega)]
    refine wa_callS (pc := 27) (s_J6_newLength (d := d - 1) (by omega) (by omega) (by omega) (by omega) (by omega)) dJ2_grow_2_27 okJ6_newLength q288 q289 rfl rfl (Nat.le_of_ble_eq_true rfl) (Nat.le_of_ble_eq_true rfl) (by omega) ?_
    rintro _ _ - - ⟨rfl, rfl⟩
    refine aft_v (pc2 := 30) ?_ rfl
    refine wa_istore_n (pc := 30) (y := mJ2_grow_2) dJ2_grow_2_30 (Nat.le_of_ble_eq_true rfl) (by first | rfl | (simp [okst, rf_cat] <;> assumption)) ?_
    change WA _ _ _ _ (List.set _ 3 _) _ _ _
    simp only [List.set_cons_zero, List.set_cons_succ]
    refine wa_aloadV_n (pc := 31) (y := mJ2_grow_2) dJ2_grow_2_31 rfl (by first | exact rf_s _ | exact rf_n | exact rf_q _) ?_
    refine wa_aloadV_n (pc := 32) (y := mJ2_grow_2) dJ2_grow_2_32 rfl (by first | exact rf_s _ | exact rf_n | exact rf_q _) ?_
    refine wf_get (k := 11) (l := 3) 1 dJ2_grow_2_33 (by assumption) rfl q173 (Or.inl rfl) (Nat.le_of_ble_eq_true rfl) (Nat.le_of_ble_eq_true rfl) L2 ?_
    refine wa_iload_n (pc := 36) (y := mJ2_grow_2) dJ2_grow_2_36 rfl ?_
    refine wa_callS (pc := 37) (s_J8_copyOf (d := d - 1) (cap := cap) (by omega) hG L7 (by omega) (by omega) hcp) dJ2_grow_2_37 okJ8_copyOf q298 q299 rfl rfl (Nat.le_of_ble_eq_true rfl) (Nat.le_of_ble_eq_true rfl) (by omega) ?_
    rintro _ _ - - ⟨rfl, rfl⟩
    refine aft_v (pc2 := 40) ?_ rfl
    refine wa_dup_x1 (pc := 40) (y := mJ2_grow_2) dJ2_grow_2_40 (by first | rfl | exact rf_cat _) (by first | rfl | exact rf_cat _) ?_
    refine wf_put (k := 11) (l := 3) 1 (.array (.object "java/lang/Object")) dJ2_grow_2_41 (by assumption) rfl q173 (Or.inl rfl) (Nat.le_of_ble_eq_true rfl) rfl (by decide +kernel) (by first | rfl | exact rf_nar _ | exact rf_nar2 _) (by first | rfl | exact rf_fit _ | exact rf_fit2 _) ?_
    refine wa_areturnV (pc := 44) (y := mJ2_grow_2) (.array (.object "java/lang/Object")) dJ2_grow_2_44 rfl (Or.inr ⟨_, rfl⟩) (by first | exact rf_s _ | exact rf_n | exact rf_q _) ⟨_, _, h.1, _, rfl, rfl, ⟨hI, updF_self _ _ _ _, updF_i (by decide) (cpyF_a hne (newF_a hne L3)), ⟨z, updF_i (by decide) (cpyF_a hne (newF_a hne L4))⟩, by omega, by omega, Or.inl ⟨by omega, Is.self⟩, fun i x hx => ⟨updF_a (Ne.symm hne) (cpyF_in ⟨Nat.zero_le _, by have := (List.getElem?_eq_some_iff.mp hx).1; omega⟩ (newF_a hne2 (by rw [Nat.zero_add, Nat.sub_zero]; exact (L8 i x hx).1))), (L8 i x hx).2.ext Ext.new⟩⟩, Is.self, by omega, ((Fr.refl.newT).cpyT (Or.inr (Nat.le_refl _))).updT (Or.inl (Or.inl rfl)), rfl, Nat.le_refl _, by show h.2.1 + _ ≤ _; omega⟩
  · subst L9 L10
    have hx0 : xs = [] := List.eq_nil_of_length_eq_zero hc
    have hI : Is (hNew h 35 10) a 11 3 := L1.new
    refine wa_aloadV_n (pc := 0) (y := mJ2_grow_2) dJ2_grow_2_0 rfl (by first | exact rf_s _ | exact rf_n | exact rf_q _) ?_
    refine wf_get (k := 11) (l := 3) 1 dJ2_grow_2_1 (by assumption) rfl q173 (Or.inl rfl) (Nat.le_of_ble_eq_true rfl) (Nat.le_of_ble_eq_true rfl) (by (repeat (first | exact updF_self _ _ _ _ | (apply updF_i; · decide) | (apply updF_a; · first | assumption | (apply Ne.symm; assumption) | omega) | (apply newF_a; · first | assumption | (apply Ne.symm; assumption) | omega) | exact newL_self (by rfl) | exact newF_self (by rfl) | (apply cpyF_a; · first | assumption | (apply Ne.symm; assumption) | omega))) <;> first | assumption | rfl) ?_
    refine wf_alen dJ2_grow_2_4 (by assumption) (by decide) ?_
    refine wa_istore_n (pc := 5) (y := mJ2_grow_2) dJ2_grow_2_5 (Nat.le_of_ble_eq_true rfl) (by first | rfl | (simp [okst, rf_cat] <;> assumption)) ?_
    change WA _ _ _ _ (List.set _ 2 _) _ _ _
    simp only [List.set_cons_zero, List.set_cons_succ]
    refine wa_iload_n (pc := 6) (y := mJ2_grow_2) dJ2_grow_2_6 rfl ?_
    refine wa_if_gt (pc := 7) 20 dJ2_grow_2_7 rfl (fun hb7 => absurd hb7 (by decide)) (fun hb7 => ?_)
    refine wa_aloadV_n (pc := 10) (y := mJ2_grow_2) dJ2_grow_2_10 rfl (by first | exact rf_s _ | exact rf_n | exact rf_q _) ?_
    refine wf_get (k := 11) (l := 3) 1 dJ2_grow_2_11 (by assumption) rfl q173 (Or.inl rfl) (Nat.le_of_ble_eq_true rfl) (Nat.le_of_ble_eq_true rfl) (by (repeat (first | exact updF_self _ _ _ _ | (apply updF_i; · decide) | (apply updF_a; · first | assumption | (apply Ne.symm; assumption) | omega) | (apply newF_a; · first | assumption | (apply Ne.symm; assumption) | omega) | exact newL_self (by rfl) | exact newF_self (by rfl) | (apply cpyF_a; · first | assumption | (apply Ne.symm; assumption) | omega))) <;> first | assumption | rfl) ?_
    refine wa_gets (pc := 14) (y := mJ2_grow_2) dJ2_grow_2_14 q171 (Or.inl rfl) q172 (lw_all_tbl q88) (hE) ?_
    refine wa_aceqV (pc := 17) 45 dJ2_grow_2_17 rfl (by first | exact rf_s _ | exact rf_n | exact rf_q _) (by first | exact rf_s _ | exact rf_n | exact rf_q _) (fun hb17 => ?_) (fun hb17 => absurd rfl hb17)
    refine wa_aloadV_n (pc := 45) (y := mJ2_grow_2) dJ2_grow_2_45 rfl (by first | exact rf_s _ | exact rf_n | exact rf_q _) ?_
    refine wa_bipush (pc := 46) (y := mJ2_grow_2) (Int32.ofNat 10) dJ2_grow_2_46 rfl ?_
    refine wa_iload_n (pc := 48) (y := mJ2_grow_2) dJ2_grow_2_48 rfl ?_
    refine wa_max (pc := 49) dJ2_grow_2_49 q353 q292 q94 q293 (Nat.le_of_ble_eq_true rfl) (by omega) ?_
    rw [iN_max (by omega) (by omega), show max 10 (xs.length + 1) = 10 from by omega]
    refine wf_anewarray 35 dJ2_grow_2_52 (by omega) (Or.inl ⟨rfl, rfl⟩) q354 q345 ?_
    refine wa_dup_x1 (pc := 55) (y := mJ2_grow_2) dJ2_grow_2_55 (by first | rfl | exact rf_cat _) (by first | rfl | exact rf_cat _) ?_
    refine wf_put (k := 11) (l := 3) 1 (.array (.object "java/lang/Object")) dJ2_grow_2_56 (by assumption) rfl q173 (Or.inl rfl) (Nat.le_of_ble_eq_true rfl) rfl (by decide +kernel) (by first | rfl | exact rf_nar _ | exact rf_nar2 _) (by first | rfl | exact rf_fit _ | exact rf_fit2 _) ?_
    refine wa_areturnV (pc := 59) (y := mJ2_grow_2) (.array (.object "java/lang/Object")) dJ2_grow_2_59 rfl (Or.inr ⟨_, rfl⟩) (by first | exact rf_s _ | exact rf_n | exact rf_q _) ⟨_, _, h.1, 10, rfl, rfl, ⟨hI, updF_self _ _ _ _, updF_i (by decide) (newF_a hne L3), ⟨z, updF_i (by decide) (newF_a hne L4)⟩, by omega, by omega, Or.inl ⟨by omega, Is.self⟩, fun i x hx => by rw [hx0] at hx; cases hx⟩, Is.self, by omega, (Fr.refl.newT).updT (Or.inl (Or.inl rfl)), rfl, Nat.le_refl _, by show h.2.1 + _ ≤ _; omega⟩
end LISTS
