/-! ===== the show's readers ===== -/
def RdQ (c : Nat) (v : Option Value) (h : AH) (F : Nat → Nat → Value) (r : RR) (h' : AH) : Prop := ∃ (h2 : AH) (F2 : Nat → Nat → Value), r = .inl v ∧ h' = sF h2 F2 ∧ Fr NoP h F h2 F2 ∧ Cst c h h2
theorem dn_i9 (j : Nat) : Int32.ofNat (j + 1) + -1 = Int32.ofNat j := by
  have := iN_sub (a := j + 1) (b := 1) (by omega)
  rw [Int32.sub_eq_add_neg] at this
  exact this
def InsO (h : AH) (o : Option Nat) : Prop := ∀ t, o = some t → Is h t 7 2 ∨ Is h t 8 1
theorem AtQ.io {h : AH} {F : Nat → Nat → Value} {A : SA} {f : Nat → Int32} {k c : Nat} {o : Option Nat} (q : AtQ h F A f k c o) : InsO h o := fun t et => by
  obtain ⟨i, p, -, -, -, T⟩ := q.2 t et
  exact T.2.2.elim (fun e => Or.inr e.2) (fun e => Or.inl e.2.1)
section SHOWR
variable {G : GG} {d n : Nat} {h h2 : AH} {F F2 : Nat → Nat → Value} {s c k i p q a : Nat} {A : SA} {f g : Nat → Int32} {O P : Nat → Prop} {x z : Int32}
theorem wa_castI {y : MD} {pc idx : Nat} {ls st : List Value} {Q : RR → AH → Prop} {v : Value} {o : Option Nat} (hd : decode y.2.1 pc = .ok (.checkcast idx, 3)) (e : v = va_rf o) (hc : InsO h o) (hl : Cond.classLink y.1.cls idx "CueStack$Instruction" ∈ lw_all) (kk : WA G d y (pc + 3) ls (v :: st) (sF h F) Q) : WA G d y pc ls (v :: st) (sF h F) Q := by
  subst e
  cases o with
  | none => exact wa_castN hd kk
  | some t =>
    rcases hc t rfl with hi | hi
    · exact wa_castY (k := 7) hd (sF_at hi) rfl hl q3108 kk
    · exact wa_castY (k := 8) hd (sF_at hi) rfl hl q3109 kk
theorem s_X5_init (hd : 1 ≤ d) (hq : Is h q 4 2) : MA G d mX5_init [.ref q, .int x, .int z] (sF h F) (fun r h' => r = .inl none ∧ h' = sF h (updF (updF F q 0 (.int x)) q 1 (.int z))) := by
  change WA G d mX5_init 0 [.ref q, .int x, .int z] [] _ _
  refine wa_aloadV_n (pc := 0) (y := mX5_init) dX5_init_0 rfl (by first | exact rf_s _ | exact rf_n | exact rf_q _) ?_
  refine wa_objInit (pc := 1) (y := mX5_init) dX5_init_1 q434 q151 q152 (Nat.le_of_ble_eq_true rfl) (by omega) ?_
  refine wa_aloadV_n (pc := 4) (y := mX5_init) dX5_init_4 rfl (by first | exact rf_s _ | exact rf_n | exact rf_q _) ?_
  refine wa_iload_n (pc := 5) (y := mX5_init) dX5_init_5 rfl ?_
  refine wf_putF (k := 4) (l := 2) 0 .int dX5_init_6 (by assumption) rfl q435 (Or.inl rfl) (Nat.le_of_ble_eq_true rfl) rfl rfl rfl (by decide +kernel) rfl rfl ?_
  refine wa_aloadV_n (pc := 9) (y := mX5_init) dX5_init_9 rfl (by first | exact rf_s _ | exact rf_n | exact rf_q _) ?_
  refine wa_iload_n (pc := 10) (y := mX5_init) dX5_init_10 rfl ?_
  refine wf_putF (k := 4) (l := 2) 1 .int dX5_init_11 (by assumption) rfl q438 (Or.inl rfl) (Nat.le_of_ble_eq_true rfl) rfl rfl rfl (by decide +kernel) rfl rfl ?_
  refine wa_return (pc := 14) (y := mX5_init) dX5_init_14 rfl ⟨rfl, rfl⟩
theorem s_X9_level (hi : Is h q 7 2) (e : F q 1 = .int z) : MA G d mX9_level [.ref q, .int x] (sF h F) (fun r h' => r = .inl (some (.int z)) ∧ h' = sF h F) := by
  change WA G d mX9_level 0 [.ref q, .int x] [] _ _
  refine wa_aloadV_n (pc := 0) (y := mX9_level) dX9_level_0 rfl (by first | exact rf_s _ | exact rf_n | exact rf_q _) ?_
  refine wf_get (k := 7) (l := 2) 1 dX9_level_1 (by assumption) rfl q1953 (Or.inl rfl) (Nat.le_of_ble_eq_true rfl) (Nat.le_of_ble_eq_true rfl) (by (repeat (first | exact updF_self _ _ _ _ | (apply updF_i; · decide) | (apply updF_a; · first | assumption | (apply Ne.symm; assumption) | omega) | (apply newF_a; · first | assumption | (apply Ne.symm; assumption) | omega) | exact newL_self (by rfl) | exact newF_self (by rfl) | (apply cpyF_a; · first | assumption | (apply Ne.symm; assumption) | omega))) <;> first | assumption | rfl) ?_
  refine wa_ireturn (pc := 4) (y := mX9_level) .int dX9_level_4 rfl rfl ⟨rfl, rfl⟩
theorem s_X9_told (hi : Is h q 7 2) (e : F q 1 = .int z) : MA G d mX9_told [.ref q] (sF h F) (fun r h' => r = .inl (some (.int z)) ∧ h' = sF h F) := by
  change WA G d mX9_told 0 [.ref q] [] _ _
  refine wa_aloadV_n (pc := 0) (y := mX9_told) dX9_told_0 rfl (by first | exact rf_s _ | exact rf_n | exact rf_q _) ?_
  refine wf_get (k := 7) (l := 2) 1 dX9_told_1 (by assumption) rfl q1953 (Or.inl rfl) (Nat.le_of_ble_eq_true rfl) (Nat.le_of_ble_eq_true rfl) (by (repeat (first | exact updF_self _ _ _ _ | (apply updF_i; · decide) | (apply updF_a; · first | assumption | (apply Ne.symm; assumption) | omega) | (apply newF_a; · first | assumption | (apply Ne.symm; assumption) | omega) | exact newL_self (by rfl) | exact newF_self (by rfl) | (apply cpyF_a; · first | assumption | (apply Ne.symm; assumption) | omega))) <;> first | assumption | rfl) ?_
  refine wa_ireturn (pc := 4) (y := mX9_told) .int dX9_told_4 rfl rfl ⟨rfl, rfl⟩
theorem s_X11_level {h0 : AH} : MA G d mX11_level [.ref q, .int x] h0 (fun r h' => r = .inl (some (.int x)) ∧ h' = h0) := by
  change WA G d mX11_level 0 [.ref q, .int x] [] _ _
  refine wa_iload_n (pc := 0) (y := mX11_level) dX11_level_0 rfl ?_
  refine wa_ireturn (pc := 1) (y := mX11_level) .int dX11_level_1 rfl rfl ⟨rfl, rfl⟩
theorem s_X8_told {h0 : AH} : MA G d mX8_told [.ref q] h0 (fun r h' => r = .inl (some (.int (-1))) ∧ h' = h0) := by
  change WA G d mX8_told 0 [.ref q] [] _ _
  refine wa_iconst (pc := 0) (y := mX8_told) (-1) dX8_told_0 rfl ?_
  refine wa_ireturn (pc := 1) (y := mX8_told) .int dX8_told_1 rfl rfl ⟨rfl, rfl⟩
theorem s_X2_at (hd : 5 ≤ d) (S : ShowR G h F O s A f g) (hk : A.cs[k]? = some a) (hc : c < 12) : MA G d mX2_at [.ref s, .int (Int32.ofNat k), .int (Int32.ofNat c)] (sF h F) (fun r h' => ∃ (h2 : AH) (F2 : Nat → Nat → Value) (o : Option Nat), r = .inl (some (va_rf o)) ∧ h' = sF h2 F2 ∧ Fr NoP h F h2 F2 ∧ Cst 1 h h2 ∧ AtQ h2 F2 A f k c o) := by
  have S_is := S.is; have S_0 := S.f0; have S_1 := S.f1; have S_2 := S.f2; have S_3 := S.f3; have S_4 := S.f4; have S_5 := S.f5; have S_6 := S.f6; have S_7 := S.f7; have S_h := S.hm; have S_c := S.cl.1; have S_l := S.fl.1; have S_m := S.im.1
  obtain ⟨n, n1, n2, hn⟩ := S.num hk
  have C := S.cue k a hk
  have c1 := C.1
  have c2 := C.2.2.1
  rw [hn] at c2
  have S9 := S.rd (Fr.newT (k := 4) (l := 2) (g := fun i => [Value.int 0, .int 0].getD i .null) Fr.refl)
  have n9 : s ≠ h.1 := Nat.ne_of_lt S_is.lt
  have n8 : a ≠ h.1 := Nat.ne_of_lt c1.lt
  have i9 := S_is.new (k2 := 4) (l2 := 2)
  have i8 := S_c.new (k2 := 4) (l2 := 2)
  have i7 := c1.new (k2 := 4) (l2 := 2)
  change WA G d mX2_at 0 [.ref s, .int (Int32.ofNat k), .int (Int32.ofNat c)] [] _ _
  refine wa_aloadV_n (pc := 0) (y := mX2_at) dX2_at_0 rfl (by first | exact rf_s _ | exact rf_n | exact rf_q _) ?_
  refine wf_get (k := 1) (l := 8) 1 dX2_at_1 (by assumption) rfl q357 (Or.inl rfl) (Nat.le_of_ble_eq_true rfl) (Nat.le_of_ble_eq_true rfl) (by (repeat (first | exact updF_self _ _ _ _ | (apply updF_i; · decide) | (apply updF_a; · first | assumption | (apply Ne.symm; assumption) | omega) | (apply newF_a; · first | assumption | (apply Ne.symm; assumption) | omega) | exact newL_self (by rfl) | exact newF_self (by rfl) | (apply cpyF_a; · first | assumption | (apply Ne.symm; assumption) | omega))) <;> first | assumption | rfl) ?_
  refine wf_new (k := 4) (l := 2) [.int 0, .int 0] tyX5 dX2_at_4 rfl q414 q415 q98 tyX5_ok rfl rfl ?_
  refine wa_dup (pc := 7) (y := mX2_at) dX2_at_7 (by first | rfl | exact rf_cat _) ?_
  refine wa_aloadV_n (pc := 8) (y := mX2_at) dX2_at_8 rfl (by first | exact rf_s _ | exact rf_n | exact rf_q _) ?_
  refine wf_get (k := 1) (l := 8) 0 dX2_at_9 (by assumption) rfl q355 (Or.inl rfl) (Nat.le_of_ble_eq_true rfl) (Nat.le_of_ble_eq_true rfl) (by (repeat (first | exact updF_self _ _ _ _ | (apply updF_i; · decide) | (apply updF_a; · first | assumption | (apply Ne.symm; assumption) | omega) | (apply newF_a; · first | assumption | (apply Ne.symm; assumption) | omega) | exact newL_self (by rfl) | exact newF_self (by rfl) | (apply cpyF_a; · first | assumption | (apply Ne.symm; assumption) | omega))) <;> first | assumption | rfl) ?_
  refine wa_iload_n (pc := 12) (y := mX2_at) dX2_at_12 rfl ?_
  refine wa_callV (pc := 13) (s_J2_get (d := d - 1) (by omega) S9.cl hk) dX2_at_13 okJ2_get q416 q417 q418 (sF_at (by assumption)) rfl rfl rfl (Nat.le_of_ble_eq_true rfl) (Nat.le_of_ble_eq_true rfl) (by omega) ?_
  rintro _ _ - - ⟨rfl, rfl⟩
  refine aft_v (pc2 := 16) ?_ rfl
  refine wa_castS (pc := 16) (y := mX2_at) (k := 6) dX2_at_16 (sF_at (by assumption)) rfl q430 ?_
  refine wf_getN (k := 6) (l := 6) 0 dX2_at_19 (by assumption) rfl q1193 (Or.inl rfl) (Nat.le_of_ble_eq_true rfl) (Nat.le_of_ble_eq_true rfl) (by (repeat (first | exact updF_self _ _ _ _ | (apply updF_i; · decide) | (apply updF_a; · first | assumption | (apply Ne.symm; assumption) | omega) | (apply newF_a; · first | assumption | (apply Ne.symm; assumption) | omega) | exact newL_self (by rfl) | exact newF_self (by rfl) | (apply cpyF_a; · first | assumption | (apply Ne.symm; assumption) | omega))) <;> first | assumption | rfl) ?_
  refine wa_iload_n (pc := 22) (y := mX2_at) dX2_at_22 rfl ?_
  refine wa_callI (pc := 23) (s_X5_init (d := d - 1) (q := h.1) (x := Int32.ofNat n) (z := Int32.ofNat c) (by omega) (Is.self (h := h))) dX2_at_23 okX5_init rfl rfl rfl q431 q432 rfl rfl (Nat.le_of_ble_eq_true rfl) (Nat.le_of_ble_eq_true rfl) (by omega) ?_
  rintro _ _ - - ⟨rfl, rfl⟩
  refine aft_0 (pc2 := 26) ?_ rfl
  generalize hF2 : updF _ _ _ _ = F2
  have fr : Fr NoP h F (hNew h 4 2) F2 := by rw [← hF2]; exact ((Fr.newT Fr.refl).updT (Or.inr (Nat.le_refl _))).updT (Or.inr (Nat.le_refl _))
  have K : KeyAt (hNew h 4 2) F2 h.1 (12 * n + c) := by rw [← hF2]; exact ⟨Is.self, by rw [show (12 * n + c) / 12 = n by omega]; exact updF_i (by decide) (updF_self _ _ _ _), by rw [show (12 * n + c) % 12 = c by omega]; exact updF_self _ _ _ _, by omega⟩
  have S2 := S.rd fr
  have S2_m := S2.im.1
  refine wa_callV (pc := 26) (s_J5_get (d := d - 1) (by omega) S2.im K) dX2_at_26 okJ5_get q445 q446 q447 (sF_at (by assumption)) rfl rfl rfl (Nat.le_of_ble_eq_true rfl) (Nat.le_of_ble_eq_true rfl) (by omega) ?_
  rintro r _ - - ⟨rfl, e⟩
  obtain ⟨o, rfl, aq⟩ := S2.atR hk hn hc n2 e
  refine aft_v (pc2 := 29) ?_ rfl
  refine wa_castI (pc := 29) (y := mX2_at) dX2_at_29 rfl aq.io q1089 ?_
  refine wa_areturnV (pc := 32) (y := mX2_at) (.object "CueStack$Instruction") dX2_at_32 rfl (Or.inl ⟨_, rfl⟩) (by first | exact rf_s _ | exact rf_n | exact rf_q _) ⟨_, _, o, rfl, rfl, fr, ⟨Nat.le_refl _, by show h.2.1 + 2 ≤ h.2.1 + 4; omega⟩, aq⟩
theorem s_X2_beginsAnew (hd : 3 ≤ d) (S : ShowR G h F O s A f g) (hk : A.cs[k]? = some a) : MA G d mX2_beginsAnew [.ref s, .int (Int32.ofNat k)] (sF h F) (fun r h' => r = .inl (some (.int (bI (decide (k = 0) || isBl f k)))) ∧ h' = sF h F) := by
  have S_is := S.is; have S_0 := S.f0; have S_1 := S.f1; have S_2 := S.f2; have S_3 := S.f3; have S_4 := S.f4; have S_5 := S.f5; have S_6 := S.f6; have S_7 := S.f7; have S_h := S.hm; have S_c := S.cl.1; have S_l := S.fl.1; have S_m := S.im.1
  have C := S.cue k a hk
  have c1 := C.1
  have c2 := C.2.2.2.1
  have c3 := C.2.2.2.2.2.2.2.2.2.2.2.1
  have hk12 : k < 12 := by have := (List.getElem?_eq_some_iff.mp hk).1; have := S.nc2; omega
  have b1 : Int32.ofNat k = 0 → (decide (k = 0) || isBl f k) = true := fun e => by rw [(iN_eq (b := 0) (by omega) (by omega)).mp e]; rfl
  have b2 : ¬ f (18 + 12 * k + 2) = 0 → (decide (k = 0) || isBl f k) = true := fun e => by have := c3.resolve_left e; simp [isBl, this]
  have b3 : ¬ Int32.ofNat k = 0 → f (18 + 12 * k + 2) = 0 → (decide (k = 0) || isBl f k) = false := fun e1 e2 => by
    have : k ≠ 0 := fun e => e1 (by rw [e]; rfl)
    simp [isBl, e2, this]
  change WA G d mX2_beginsAnew 0 [.ref s, .int (Int32.ofNat k)] [] _ _
  refine wa_iload_n (pc := 0) (y := mX2_beginsAnew) dX2_beginsAnew_0 rfl ?_
  refine wa_if_eq (pc := 1) 21 dX2_beginsAnew_1 rfl (fun hb1 => ?_) (fun hb1 => ?_)
  · refine wa_iconst (pc := 21) (y := mX2_beginsAnew) (Int32.ofNat 1) dX2_beginsAnew_21 rfl ?_
    refine wa_goto (pc := 22) (y := mX2_beginsAnew) 26 dX2_beginsAnew_22 rfl ?_
    refine wa_ireturn (pc := 26) (y := mX2_beginsAnew) .boolean dX2_beginsAnew_26 rfl (by first | rfl | exact bI_nar _) ⟨by first | (rw [b1 hb1]; rfl) | (rw [b2 hb18]; rfl) | (rw [b3 hb1 hb18]; rfl), rfl⟩
  · refine wa_aloadV_n (pc := 4) (y := mX2_beginsAnew) dX2_beginsAnew_4 rfl (by first | exact rf_s _ | exact rf_n | exact rf_q _) ?_
    refine wf_get (k := 1) (l := 8) 0 dX2_beginsAnew_5 (by assumption) rfl q355 (Or.inl rfl) (Nat.le_of_ble_eq_true rfl) (Nat.le_of_ble_eq_true rfl) (by (repeat (first | exact updF_self _ _ _ _ | (apply updF_i; · decide) | (apply updF_a; · first | assumption | (apply Ne.symm; assumption) | omega) | (apply newF_a; · first | assumption | (apply Ne.symm; assumption) | omega) | exact newL_self (by rfl) | exact newF_self (by rfl) | (apply cpyF_a; · first | assumption | (apply Ne.symm; assumption) | omega))) <;> first | assumption | rfl) ?_
    refine wa_iload_n (pc := 8) (y := mX2_beginsAnew) dX2_beginsAnew_8 rfl ?_
    refine wa_callV (pc := 9) (s_J2_get (d := d - 1) (by omega) S.cl hk) dX2_beginsAnew_9 okJ2_get q416 q417 q418 (sF_at (by assumption)) rfl rfl rfl (Nat.le_of_ble_eq_true rfl) (Nat.le_of_ble_eq_true rfl) (by omega) ?_
    rintro _ _ - - ⟨rfl, rfl⟩
    refine aft_v (pc2 := 12) ?_ rfl
    refine wa_castS (pc := 12) (y := mX2_beginsAnew) (k := 6) dX2_beginsAnew_12 (sF_at (by assumption)) rfl q430 ?_
    refine wf_getN (k := 6) (l := 6) 1 dX2_beginsAnew_15 (by assumption) rfl q1196 (Or.inl rfl) (Nat.le_of_ble_eq_true rfl) (Nat.le_of_ble_eq_true rfl) (by (repeat (first | exact updF_self _ _ _ _ | (apply updF_i; · decide) | (apply updF_a; · first | assumption | (apply Ne.symm; assumption) | omega) | (apply newF_a; · first | assumption | (apply Ne.symm; assumption) | omega) | exact newL_self (by rfl) | exact newF_self (by rfl) | (apply cpyF_a; · first | assumption | (apply Ne.symm; assumption) | omega))) <;> first | assumption | rfl) ?_
    refine wa_if_eq (pc := 18) 25 dX2_beginsAnew_18 rfl (fun hb18 => ?_) (fun hb18 => ?_)
    · refine wa_iconst (pc := 25) (y := mX2_beginsAnew) (Int32.ofNat 0) dX2_beginsAnew_25 rfl ?_
      refine wa_ireturn (pc := 26) (y := mX2_beginsAnew) .boolean dX2_beginsAnew_26 rfl (by first | rfl | exact bI_nar _) ⟨by first | (rw [b1 hb1]; rfl) | (rw [b2 hb18]; rfl) | (rw [b3 hb1 hb18]; rfl), rfl⟩
    · refine wa_iconst (pc := 21) (y := mX2_beginsAnew) (Int32.ofNat 1) dX2_beginsAnew_21 rfl ?_
      refine wa_goto (pc := 22) (y := mX2_beginsAnew) 26 dX2_beginsAnew_22 rfl ?_
      refine wa_ireturn (pc := 26) (y := mX2_beginsAnew) .boolean dX2_beginsAnew_26 rfl (by first | rfl | exact bI_nar _) ⟨by first | (rw [b1 hb1]; rfl) | (rw [b2 hb18]; rfl) | (rw [b3 hb1 hb18]; rfl), rfl⟩
/-- the level that an instruction tells, found by at -/
theorem AtQ.lv {o : Option Nat} {t : Nat} (q : AtQ h F A f k c o) (e : o = some t) : ∃ i, gv f (f (18 + 12 * k)) (Int32.ofNat c) = some i ∧ (toldL f i c = f (6 + c) ∧ Is h t 8 1 ∨ Is h t 7 2 ∧ F t 1 = .int (toldL f i c)) := by
  obtain ⟨i, p, e1, -, -, T⟩ := q.2 t e
  refine ⟨i, e1, ?_⟩
  unfold toldL
  rcases T.2.2 with ⟨e2, e3⟩ | ⟨e2, e3, e4⟩
  · exact Or.inl ⟨if_pos e2, e3⟩
  · rw [if_neg e2]; exact Or.inr ⟨e3, e4⟩
theorem lev_all : ∀ (k : Nat) {d : Nat} {h : AH} {F : Nat → Nat → Value}, k + 6 ≤ d → ShowR G h F O s A f g → k < u (f 0) → c < 12 → MA G d mX2_level [.ref s, .int (Int32.ofNat k), .int (Int32.ofNat c)] (sF h F) (RdQ (k + 1) (some (.int (lvN f c (k + 1)))) h F) := by
  intro k
  induction k using Nat.strongRecOn with
  | ind k ih =>
    intro d h F hd S hk hc
    obtain ⟨a, ha⟩ := S.cu hk
    have S_is := S.is
    have hn := S.nlt
    have K18 : ∀ (h2 : AH) (F2 : Nat → Nat → Value) (t i : Nat), Fr NoP h F h2 F2 → Cst 1 h h2 → gv f (f (18 + 12 * k)) (Int32.ofNat c) = some i → (toldL f i c = f (6 + c) ∧ Is h2 t 8 1 ∨ Is h2 t 7 2 ∧ F2 t 1 = .int (toldL f i c)) →
        WA G d mX2_level 18 [.ref s, .int (Int32.ofNat k), .int (Int32.ofNat c), .ref t] [.int (f (6 + c)), .ref t] (sF h2 F2) (RdQ (k + 1) (some (.int (lvN f c (k + 1)))) h F) := by
      intro h2 F2 t i fr cst e1 T
      rcases T with ⟨T1, T2⟩ | ⟨T1, T2⟩
      · refine wa_callW (k := 8) (pc := 18) (owner := "CueStack$Instruction") (s_X11_level (d := d - 1)) dX2_level_18 okX11_level rfl q1090 q1092 (hDc_decl q1091) (by decide) q1096 q1097 (sF_at (by assumption)) rfl rfl rfl rfl (Nat.le_of_ble_eq_true rfl) (Nat.le_of_ble_eq_true rfl) (by omega) ?_
        rintro _ _ - - ⟨rfl, rfl⟩
        refine aft_v (pc2 := 21) ?_ rfl
        refine wa_ireturn (pc := 21) (y := mX2_level) .int dX2_level_21 rfl rfl ⟨h2, F2, by rw [lvN_s, lvS_some e1, T1], rfl, fr, cst.mono (by omega)⟩
      · refine wa_callW (k := 7) (pc := 18) (owner := "CueStack$Instruction") (s_X9_level (d := d - 1) T1 T2) dX2_level_18 okX9_level rfl q1090 q1092 (hDc_decl q1091) (by decide) q1093 q1094 (sF_at (by assumption)) rfl rfl rfl rfl (Nat.le_of_ble_eq_true rfl) (Nat.le_of_ble_eq_true rfl) (by omega) ?_
        rintro _ _ - - ⟨rfl, rfl⟩
        refine aft_v (pc2 := 21) ?_ rfl
        refine wa_ireturn (pc := 21) (y := mX2_level) .int dX2_level_21 rfl rfl ⟨h2, F2, by rw [lvN_s, lvS_some e1], rfl, fr, cst.mono (by omega)⟩
    change WA G d mX2_level 0 [.ref s, .int (Int32.ofNat k), .int (Int32.ofNat c), .retAddr 0] [] _ _
    refine wa_aloadV_n (pc := 0) (y := mX2_level) dX2_level_0 rfl (by first | exact rf_s _ | exact rf_n | exact rf_q _) ?_
    refine wa_iload_n (pc := 1) (y := mX2_level) dX2_level_1 rfl ?_
    refine wa_iload_n (pc := 2) (y := mX2_level) dX2_level_2 rfl ?_
    refine wa_callV (pc := 3) (s_X2_at (d := d - 1) (by omega) S ha hc) dX2_level_3 okX2_at q410 q411 q412 (sF_at (by assumption)) rfl rfl rfl (Nat.le_of_ble_eq_true rfl) (Nat.le_of_ble_eq_true rfl) (by omega) ?_
    rintro _ _ - - ⟨h2, F2, o, rfl, rfl, fr, cst, aq⟩
    refine aft_v (pc2 := 6) ?_ rfl
    have S2 := S.rd fr; have S2_is := S2.is; have S2_0 := S2.f0; have S2_1 := S2.f1; have S2_2 := S2.f2; have S2_3 := S2.f3; have S2_4 := S2.f4; have S2_5 := S2.f5; have S2_6 := S2.f6; have S2_7 := S2.f7; have S2_h := S2.hm; have S2_c := S2.cl.1; have S2_l := S2.fl.1; have S2_m := S2.im.1; have hv9 := S2.hv c hc
    refine wa_astoreV_n (pc := 6) (y := mX2_level) dX2_level_6 (Nat.le_of_ble_eq_true rfl) (by first | rfl | (simp [okst, rf_cat] <;> assumption)) (by first | exact rf_s _ | exact rf_n | exact rf_q _) ?_
    change WA _ _ _ _ (List.set _ 3 _) _ _ _
    simp only [List.set_cons_zero, List.set_cons_succ]
    refine wa_aloadV_n (pc := 7) (y := mX2_level) dX2_level_7 rfl (by first | exact rf_s _ | exact rf_n | exact rf_q _) ?_
    refine wa_ifnullV (pc := 8) 22 dX2_level_8 rfl (by first | exact rf_s _ | exact rf_n | exact rf_q _) (fun hb8 => ?_) (fun a8 hb8 => ?_)
    · refine wa_aloadV_n (pc := 22) (y := mX2_level) dX2_level_22 rfl (by first | exact rf_s _ | exact rf_n | exact rf_q _) ?_
      refine wa_iload_n (pc := 23) (y := mX2_level) dX2_level_23 rfl ?_
      refine wa_callV (pc := 24) (s_X2_beginsAnew (d := d - 1) (by omega) S2 ha) dX2_level_24 okX2_beginsAnew q1099 q1101 qs5 (sF_at (by assumption)) rfl rfl rfl (Nat.le_of_ble_eq_true rfl) (Nat.le_of_ble_eq_true rfl) (by omega) ?_
      rintro _ _ - - ⟨rfl, rfl⟩
      refine aft_v (pc2 := 27) ?_ rfl
      refine wa_if_eq (pc := 27) 39 dX2_level_27 rfl (fun hb27 => ?_) (fun hb27 => ?_)
      · obtain ⟨j, rfl⟩ : ∃ j, k = j + 1 := ⟨k - 1, by cases k with | zero => simp [bI] at hb27 | succ k => rfl⟩
        have hbl : isBl f (j + 1) = false := by have := bI_0.mp hb27; simpa using this
        refine wa_aloadV_n (pc := 39) (y := mX2_level) dX2_level_39 rfl (by first | exact rf_s _ | exact rf_n | exact rf_q _) ?_
        refine wa_iload_n (pc := 40) (y := mX2_level) dX2_level_40 rfl ?_
        refine wa_iconst (pc := 41) (y := mX2_level) (Int32.ofNat 1) dX2_level_41 rfl ?_
        refine wa_isub (pc := 42) (y := mX2_level) dX2_level_42 ?_
        rw [show (Int32.ofNat (j + 1) - Int32.ofNat 1) = Int32.ofNat j from iN_sub (by omega)]
        refine wa_iload_n (pc := 43) (y := mX2_level) dX2_level_43 rfl ?_
        refine wa_callV (pc := 44) (ih j (by omega) (d := d - 1) (by omega) S2 (by omega) hc) dX2_level_44 okX2_level q1103 q407 q408 (sF_at (by assumption)) rfl rfl rfl (Nat.le_of_ble_eq_true rfl) (Nat.le_of_ble_eq_true rfl) (by omega) ?_
        rintro _ _ - - ⟨h3, F3, rfl, rfl, fr2, cst2⟩
        refine aft_v (pc2 := 47) ?_ rfl
        refine wa_ireturn (pc := 47) (y := mX2_level) .int dX2_level_47 rfl rfl (by first | exact ⟨h3, F3, by rw [lvN_s f c (j + 1), lvS_none (aq.1 hb8), if_neg (by rw [hbl]; decide)], rfl, fr.trans fr2 fun _ _ q => q, (cst.trans cst2).mono (by omega)⟩ | exact ⟨h2, F2, by rw [lvN_s, lvS_none (aq.1 hb8)]; cases k with | zero => simp [lvN] | succ k => rw [if_pos (by simpa using hbl)], rfl, fr, cst.mono (by omega)⟩)
      · have hbl : (decide (k = 0) || isBl f k) = true := bI_n0 hb27
        refine wa_aloadV_n (pc := 30) (y := mX2_level) dX2_level_30 rfl (by first | exact rf_s _ | exact rf_n | exact rf_q _) ?_
        refine wf_get (k := 1) (l := 8) 2 dX2_level_31 (by assumption) rfl q359 (Or.inl rfl) (Nat.le_of_ble_eq_true rfl) (Nat.le_of_ble_eq_true rfl) (by (repeat (first | exact updF_self _ _ _ _ | (apply updF_i; · decide) | (apply updF_a; · first | assumption | (apply Ne.symm; assumption) | omega) | (apply newF_a; · first | assumption | (apply Ne.symm; assumption) | omega) | exact newL_self (by rfl) | exact newF_self (by rfl) | (apply cpyF_a; · first | assumption | (apply Ne.symm; assumption) | omega))) <;> first | assumption | rfl) ?_
        refine wa_iload_n (pc := 34) (y := mX2_level) dX2_level_34 rfl ?_
        refine wf_iaload dX2_level_35 (by assumption) (by omega) (by (repeat (first | exact updF_self _ _ _ _ | (apply updF_i; · decide) | (apply updF_a; · first | assumption | (apply Ne.symm; assumption) | omega) | (apply newF_a; · first | assumption | (apply Ne.symm; assumption) | omega) | exact newL_self (by rfl) | exact newF_self (by rfl) | (apply cpyF_a; · first | assumption | (apply Ne.symm; assumption) | omega))) <;> first | assumption | rfl) ?_
        refine wa_goto (pc := 36) (y := mX2_level) 47 dX2_level_36 rfl ?_
        refine wa_ireturn (pc := 47) (y := mX2_level) .int dX2_level_47 rfl rfl (by first | exact ⟨h3, F3, by rw [lvN_s f c (j + 1), lvS_none (aq.1 hb8), if_neg (by rw [hbl]; decide)], rfl, fr.trans fr2 fun _ _ q => q, (cst.trans cst2).mono (by omega)⟩ | exact ⟨h2, F2, by rw [lvN_s, lvS_none (aq.1 hb8)]; cases k with | zero => simp [lvN] | succ k => rw [if_pos (by simpa using hbl)], rfl, fr, cst.mono (by omega)⟩)
    · obtain ⟨i, e1, T⟩ := aq.lv hb8
      subst hb8
      refine wa_aloadV_n (pc := 11) (y := mX2_level) dX2_level_11 rfl (by first | exact rf_s _ | exact rf_n | exact rf_q _) ?_
      refine wa_aloadV_n (pc := 12) (y := mX2_level) dX2_level_12 rfl (by first | exact rf_s _ | exact rf_n | exact rf_q _) ?_
      refine wf_get (k := 1) (l := 8) 2 dX2_level_13 (by assumption) rfl q359 (Or.inl rfl) (Nat.le_of_ble_eq_true rfl) (Nat.le_of_ble_eq_true rfl) (by (repeat (first | exact updF_self _ _ _ _ | (apply updF_i; · decide) | (apply updF_a; · first | assumption | (apply Ne.symm; assumption) | omega) | (apply newF_a; · first | assumption | (apply Ne.symm; assumption) | omega) | exact newL_self (by rfl) | exact newF_self (by rfl) | (apply cpyF_a; · first | assumption | (apply Ne.symm; assumption) | omega))) <;> first | assumption | rfl) ?_
      refine wa_iload_n (pc := 16) (y := mX2_level) dX2_level_16 rfl ?_
      refine wf_iaload dX2_level_17 (by assumption) (by omega) (by (repeat (first | exact updF_self _ _ _ _ | (apply updF_i; · decide) | (apply updF_a; · first | assumption | (apply Ne.symm; assumption) | omega) | (apply newF_a; · first | assumption | (apply Ne.symm; assumption) | omega) | exact newL_self (by rfl) | exact newF_self (by rfl) | (apply cpyF_a; · first | assumption | (apply Ne.symm; assumption) | omega))) <;> first | assumption | rfl) ?_
      exact K18 h2 F2 a8 i fr cst e1 T
theorem s_X2_level (hd : k + 6 ≤ d) (S : ShowR G h F O s A f g) (hk : k < u (f 0)) (hc : c < 12) : MA G d mX2_level [.ref s, .int (Int32.ofNat k), .int (Int32.ofNat c)] (sF h F) (RdQ (k + 1) (some (.int (lvN f c (k + 1)))) h F) := lev_all k hd S hk hc
theorem s_X2_levelAgain (hd : 7 ≤ d) (S : ShowR G h F O s A f g) (hk : k < u (f 0)) (hc : c < 12) : MA G d mX2_levelAgain [.ref s, .int (Int32.ofNat k), .int (Int32.ofNat c)] (sF h F) (RdQ (k + 1) (some (.int (lvN f c (k + 1)))) h F) := by
  have hn := S.nlt
  have loop : ∀ (t j : Nat) (h2 : AH) (F2 : Nat → Nat → Value) (v5 : Value), j + t = k + 1 → v5.category = 1 → Fr NoP h F h2 F2 → Cst j h h2 →
      WA G d mX2_levelAgain 10 [.ref s, .int (Int32.ofNat k), .int (Int32.ofNat c), .int (lvN f c j), .int (Int32.ofNat j), v5] [] (sF h2 F2) (RdQ (k + 1) (some (.int (lvN f c (k + 1)))) h F) := by
    intro t
    induction t with
    | zero =>
      intro j h2 F2 v5 hj h5 fr cst
      have hj : j = k + 1 := by omega
      subst hj
      refine wa_iload (pc := 10) (y := mX2_levelAgain) dX2_levelAgain_10 rfl ?_
      refine wa_iload_n (pc := 12) (y := mX2_levelAgain) dX2_levelAgain_12 rfl ?_
      refine wa_icmp_gt (pc := 13) 79 dX2_levelAgain_13 rfl (fun hb13 => ?_) (fun hb13 => absurd ((iN_lt (by omega) (by omega)).mpr (Nat.lt_succ_self k)) hb13)
      refine wa_iload_n (pc := 79) (y := mX2_levelAgain) dX2_levelAgain_79 rfl ?_
      refine wa_ireturn (pc := 80) (y := mX2_levelAgain) .int dX2_levelAgain_80 rfl rfl ⟨h2, F2, rfl, rfl, fr, cst⟩
    | succ t ih =>
      intro j h2 F2 v5 hj h5 fr cst
      obtain ⟨a, ha⟩ := S.cu (k := j) (by omega)
      have S1 := S.rd fr
      have S1_is := S1.is; have S1_0 := S1.f0; have S1_1 := S1.f1; have S1_2 := S1.f2; have S1_3 := S1.f3; have S1_4 := S1.f4; have S1_5 := S1.f5; have S1_6 := S1.f6; have S1_7 := S1.f7; have S1_h := S1.hm; have S1_c := S1.cl.1; have S1_l := S1.fl.1; have S1_m := S1.im.1
      have K38 : ∀ (h3 : AH) (F3 : Nat → Nat → Value) (t i : Nat), gv f (f (18 + 12 * j)) (Int32.ofNat c) = some i → (toldL f i c = f (6 + c) ∧ Is h3 t 8 1 ∨ Is h3 t 7 2 ∧ F3 t 1 = .int (toldL f i c)) → Fr NoP h F h3 F3 → Cst (j + 1) h h3 →
          WA G d mX2_levelAgain 38 [.ref s, .int (Int32.ofNat k), .int (Int32.ofNat c), .int (lvN f c j), .int (Int32.ofNat j), .ref t] [.int (f (6 + c)), .ref t] (sF h3 F3) (RdQ (k + 1) (some (.int (lvN f c (k + 1)))) h F) := by
        intro h3 F3 t i e1 T fr3 cst3
        rcases T with ⟨T1, T2⟩ | ⟨T1, T2⟩
        · refine wa_callW (k := 8) (pc := 38) (owner := "CueStack$Instruction") (s_X11_level (d := d - 1)) dX2_levelAgain_38 okX11_level rfl q1090 q1092 (hDc_decl q1091) (by decide) q1096 q1097 (sF_at (by assumption)) rfl rfl rfl rfl (Nat.le_of_ble_eq_true rfl) (Nat.le_of_ble_eq_true rfl) (by omega) ?_
          rintro _ _ - - ⟨rfl, rfl⟩
          refine aft_v (pc2 := 41) ?_ rfl
          refine wa_goto (pc := 41) (y := mX2_levelAgain) 72 dX2_levelAgain_41 rfl ?_
          refine wa_istore_n (pc := 72) (y := mX2_levelAgain) dX2_levelAgain_72 (Nat.le_of_ble_eq_true rfl) (by first | rfl | (simp [okst, rf_cat] <;> assumption)) ?_
          change WA _ _ _ _ (List.set _ 3 _) _ _ _
          simp only [List.set_cons_zero, List.set_cons_succ]
          refine wa_iincN (pc := 73) (y := mX2_levelAgain) dX2_levelAgain_73 rfl (Nat.le_of_ble_eq_true rfl) (by first | rfl | (simp [okst, rf_cat] <;> assumption)) ?_
          simp only [List.set_cons_zero, List.set_cons_succ]
          refine wa_goto (pc := 76) (y := mX2_levelAgain) 10 dX2_levelAgain_76 rfl ?_
          have := ih (j + 1) h3 F3 (.ref t) (by omega) rfl fr3 cst3; rw [lvN_s, lvS_some e1, T1] at this; exact this
        · refine wa_callW (k := 7) (pc := 38) (owner := "CueStack$Instruction") (s_X9_level (d := d - 1) T1 T2) dX2_levelAgain_38 okX9_level rfl q1090 q1092 (hDc_decl q1091) (by decide) q1093 q1094 (sF_at (by assumption)) rfl rfl rfl rfl (Nat.le_of_ble_eq_true rfl) (Nat.le_of_ble_eq_true rfl) (by omega) ?_
          rintro _ _ - - ⟨rfl, rfl⟩
          refine aft_v (pc2 := 41) ?_ rfl
          refine wa_goto (pc := 41) (y := mX2_levelAgain) 72 dX2_levelAgain_41 rfl ?_
          refine wa_istore_n (pc := 72) (y := mX2_levelAgain) dX2_levelAgain_72 (Nat.le_of_ble_eq_true rfl) (by first | rfl | (simp [okst, rf_cat] <;> assumption)) ?_
          change WA _ _ _ _ (List.set _ 3 _) _ _ _
          simp only [List.set_cons_zero, List.set_cons_succ]
          refine wa_iincN (pc := 73) (y := mX2_levelAgain) dX2_levelAgain_73 rfl (Nat.le_of_ble_eq_true rfl) (by first | rfl | (simp [okst, rf_cat] <;> assumption)) ?_
          simp only [List.set_cons_zero, List.set_cons_succ]
          refine wa_goto (pc := 76) (y := mX2_levelAgain) 10 dX2_levelAgain_76 rfl ?_
          have := ih (j + 1) h3 F3 (.ref t) (by omega) rfl fr3 cst3; rw [lvN_s, lvS_some e1] at this; exact this
      refine wa_iload (pc := 10) (y := mX2_levelAgain) dX2_levelAgain_10 rfl ?_
      refine wa_iload_n (pc := 12) (y := mX2_levelAgain) dX2_levelAgain_12 rfl ?_
      refine wa_icmp_gt (pc := 13) 79 dX2_levelAgain_13 rfl (fun hb13 => absurd ((iN_lt (by omega) (by omega)).mp hb13) (by omega)) (fun hb13 => ?_)
      refine wa_aloadV_n (pc := 16) (y := mX2_levelAgain) dX2_levelAgain_16 rfl (by first | exact rf_s _ | exact rf_n | exact rf_q _) ?_
      refine wa_iload (pc := 17) (y := mX2_levelAgain) dX2_levelAgain_17 rfl ?_
      refine wa_iload_n (pc := 19) (y := mX2_levelAgain) dX2_levelAgain_19 rfl ?_
      refine wa_callV (pc := 20) (s_X2_at (d := d - 1) (by omega) S1 ha hc) dX2_levelAgain_20 okX2_at q410 q411 q412 (sF_at (by assumption)) rfl rfl rfl (Nat.le_of_ble_eq_true rfl) (Nat.le_of_ble_eq_true rfl) (by omega) ?_
      rintro _ _ - - ⟨h3, F3, o, rfl, rfl, fr2, cst2, aq⟩
      refine aft_v (pc2 := 23) ?_ rfl
      have S2 := S1.rd fr2; have S2_is := S2.is; have S2_0 := S2.f0; have S2_1 := S2.f1; have S2_2 := S2.f2; have S2_3 := S2.f3; have S2_4 := S2.f4; have S2_5 := S2.f5; have S2_6 := S2.f6; have S2_7 := S2.f7; have S2_h := S2.hm; have S2_c := S2.cl.1; have S2_l := S2.fl.1; have S2_m := S2.im.1; have hv9 := S2.hv c hc; have C := S2.cue j a ha; have c1 := C.1; have c2 := C.2.2.2.1; have c3 := C.2.2.2.2.2.2.2.2.2.2.2.1
      have fr3 : Fr NoP h F h3 F3 := fr.trans fr2 fun _ _ q => q
      have cst3 := cst.trans cst2
      refine wa_astoreV (pc := 23) (y := mX2_levelAgain) dX2_levelAgain_23 (Nat.le_of_ble_eq_true rfl) (by first | rfl | (simp [okst, rf_cat] <;> assumption)) (by first | exact rf_s _ | exact rf_n | exact rf_q _) ?_
      simp only [List.set_cons_zero, List.set_cons_succ]
      refine wa_aloadV (pc := 25) (y := mX2_levelAgain) dX2_levelAgain_25 rfl (by first | exact rf_s _ | exact rf_n | exact rf_q _) ?_
      refine wa_ifnullV (pc := 27) 44 dX2_levelAgain_27 rfl (by first | exact rf_s _ | exact rf_n | exact rf_q _) (fun hb27 => ?_) (fun a27 hb27 => ?_)
      · refine wa_aloadV_n (pc := 44) (y := mX2_levelAgain) dX2_levelAgain_44 rfl (by first | exact rf_s _ | exact rf_n | exact rf_q _) ?_
        refine wf_get (k := 1) (l := 8) 0 dX2_levelAgain_45 (by assumption) rfl q355 (Or.inl rfl) (Nat.le_of_ble_eq_true rfl) (Nat.le_of_ble_eq_true rfl) (by (repeat (first | exact updF_self _ _ _ _ | (apply updF_i; · decide) | (apply updF_a; · first | assumption | (apply Ne.symm; assumption) | omega) | (apply newF_a; · first | assumption | (apply Ne.symm; assumption) | omega) | exact newL_self (by rfl) | exact newF_self (by rfl) | (apply cpyF_a; · first | assumption | (apply Ne.symm; assumption) | omega))) <;> first | assumption | rfl) ?_
        refine wa_iload (pc := 48) (y := mX2_levelAgain) dX2_levelAgain_48 rfl ?_
        refine wa_callV (pc := 50) (s_J2_get (d := d - 1) (by omega) S2.cl ha) dX2_levelAgain_50 okJ2_get q416 q417 q418 (sF_at (by assumption)) rfl rfl rfl (Nat.le_of_ble_eq_true rfl) (Nat.le_of_ble_eq_true rfl) (by omega) ?_
        rintro _ _ - - ⟨rfl, rfl⟩
        refine aft_v (pc2 := 53) ?_ rfl
        refine wa_castS (pc := 53) (y := mX2_levelAgain) (k := 6) dX2_levelAgain_53 (sF_at (by assumption)) rfl q430 ?_
        refine wf_getN (k := 6) (l := 6) 1 dX2_levelAgain_56 (by assumption) rfl q1196 (Or.inl rfl) (Nat.le_of_ble_eq_true rfl) (Nat.le_of_ble_eq_true rfl) (by (repeat (first | exact updF_self _ _ _ _ | (apply updF_i; · decide) | (apply updF_a; · first | assumption | (apply Ne.symm; assumption) | omega) | (apply newF_a; · first | assumption | (apply Ne.symm; assumption) | omega) | exact newL_self (by rfl) | exact newF_self (by rfl) | (apply cpyF_a; · first | assumption | (apply Ne.symm; assumption) | omega))) <;> first | assumption | rfl) ?_
        refine wa_if_eq (pc := 59) 71 dX2_levelAgain_59 rfl (fun hb59 => ?_) (fun hb59 => ?_)
        · refine wa_iload_n (pc := 71) (y := mX2_levelAgain) dX2_levelAgain_71 rfl ?_
          refine wa_istore_n (pc := 72) (y := mX2_levelAgain) dX2_levelAgain_72 (Nat.le_of_ble_eq_true rfl) (by first | rfl | (simp [okst, rf_cat] <;> assumption)) ?_
          change WA _ _ _ _ (List.set _ 3 _) _ _ _
          simp only [List.set_cons_zero, List.set_cons_succ]
          refine wa_iincN (pc := 73) (y := mX2_levelAgain) dX2_levelAgain_73 rfl (Nat.le_of_ble_eq_true rfl) (by first | rfl | (simp [okst, rf_cat] <;> assumption)) ?_
          simp only [List.set_cons_zero, List.set_cons_succ]
          refine wa_goto (pc := 76) (y := mX2_levelAgain) 10 dX2_levelAgain_76 rfl ?_
          have := ih (j + 1) h3 F3 (va_rf o) (by omega) (rf_cat _) fr3 cst3; first | (rw [lvN_s, lvS_none (aq.1 hb27), if_pos (by simp [isBl, c3.resolve_left hb59])] at this; exact this) | (rw [lvN_s, lvS_none (aq.1 hb27), if_neg (by simp [isBl, hb59])] at this; exact this)
        · refine wa_aloadV_n (pc := 62) (y := mX2_levelAgain) dX2_levelAgain_62 rfl (by first | exact rf_s _ | exact rf_n | exact rf_q _) ?_
          refine wf_get (k := 1) (l := 8) 2 dX2_levelAgain_63 (by assumption) rfl q359 (Or.inl rfl) (Nat.le_of_ble_eq_true rfl) (Nat.le_of_ble_eq_true rfl) (by (repeat (first | exact updF_self _ _ _ _ | (apply updF_i; · decide) | (apply updF_a; · first | assumption | (apply Ne.symm; assumption) | omega) | (apply newF_a; · first | assumption | (apply Ne.symm; assumption) | omega) | exact newL_self (by rfl) | exact newF_self (by rfl) | (apply cpyF_a; · first | assumption | (apply Ne.symm; assumption) | omega))) <;> first | assumption | rfl) ?_
          refine wa_iload_n (pc := 66) (y := mX2_levelAgain) dX2_levelAgain_66 rfl ?_
          refine wf_iaload dX2_levelAgain_67 (by assumption) (by omega) (by (repeat (first | exact updF_self _ _ _ _ | (apply updF_i; · decide) | (apply updF_a; · first | assumption | (apply Ne.symm; assumption) | omega) | (apply newF_a; · first | assumption | (apply Ne.symm; assumption) | omega) | exact newL_self (by rfl) | exact newF_self (by rfl) | (apply cpyF_a; · first | assumption | (apply Ne.symm; assumption) | omega))) <;> first | assumption | rfl) ?_
          refine wa_goto (pc := 68) (y := mX2_levelAgain) 72 dX2_levelAgain_68 rfl ?_
          refine wa_istore_n (pc := 72) (y := mX2_levelAgain) dX2_levelAgain_72 (Nat.le_of_ble_eq_true rfl) (by first | rfl | (simp [okst, rf_cat] <;> assumption)) ?_
          change WA _ _ _ _ (List.set _ 3 _) _ _ _
          simp only [List.set_cons_zero, List.set_cons_succ]
          refine wa_iincN (pc := 73) (y := mX2_levelAgain) dX2_levelAgain_73 rfl (Nat.le_of_ble_eq_true rfl) (by first | rfl | (simp [okst, rf_cat] <;> assumption)) ?_
          simp only [List.set_cons_zero, List.set_cons_succ]
          refine wa_goto (pc := 76) (y := mX2_levelAgain) 10 dX2_levelAgain_76 rfl ?_
          have := ih (j + 1) h3 F3 (va_rf o) (by omega) (rf_cat _) fr3 cst3; first | (rw [lvN_s, lvS_none (aq.1 hb27), if_pos (by simp [isBl, c3.resolve_left hb59])] at this; exact this) | (rw [lvN_s, lvS_none (aq.1 hb27), if_neg (by simp [isBl, hb59])] at this; exact this)
      · obtain ⟨i, e1, T⟩ := aq.lv hb27
        subst hb27
        refine wa_aloadV (pc := 30) (y := mX2_levelAgain) dX2_levelAgain_30 rfl (by first | exact rf_s _ | exact rf_n | exact rf_q _) ?_
        refine wa_aloadV_n (pc := 32) (y := mX2_levelAgain) dX2_levelAgain_32 rfl (by first | exact rf_s _ | exact rf_n | exact rf_q _) ?_
        refine wf_get (k := 1) (l := 8) 2 dX2_levelAgain_33 (by assumption) rfl q359 (Or.inl rfl) (Nat.le_of_ble_eq_true rfl) (Nat.le_of_ble_eq_true rfl) (by (repeat (first | exact updF_self _ _ _ _ | (apply updF_i; · decide) | (apply updF_a; · first | assumption | (apply Ne.symm; assumption) | omega) | (apply newF_a; · first | assumption | (apply Ne.symm; assumption) | omega) | exact newL_self (by rfl) | exact newF_self (by rfl) | (apply cpyF_a; · first | assumption | (apply Ne.symm; assumption) | omega))) <;> first | assumption | rfl) ?_
        refine wa_iload_n (pc := 36) (y := mX2_levelAgain) dX2_levelAgain_36 rfl ?_
        refine wf_iaload dX2_levelAgain_37 (by assumption) (by omega) (by (repeat (first | exact updF_self _ _ _ _ | (apply updF_i; · decide) | (apply updF_a; · first | assumption | (apply Ne.symm; assumption) | omega) | (apply newF_a; · first | assumption | (apply Ne.symm; assumption) | omega) | exact newL_self (by rfl) | exact newF_self (by rfl) | (apply cpyF_a; · first | assumption | (apply Ne.symm; assumption) | omega))) <;> first | assumption | rfl) ?_
        exact K38 h3 F3 a27 i e1 T fr3 cst3
  have S_is := S.is
  have S_2 := S.f2
  have S_h := S.hm
  have hv9 := S.hv c hc
  change WA G d mX2_levelAgain 0 [.ref s, .int (Int32.ofNat k), .int (Int32.ofNat c), .retAddr 0, .retAddr 0, .retAddr 0] [] _ _
  refine wa_aloadV_n (pc := 0) (y := mX2_levelAgain) dX2_levelAgain_0 rfl (by first | exact rf_s _ | exact rf_n | exact rf_q _) ?_
  refine wf_get (k := 1) (l := 8) 2 dX2_levelAgain_1 (by assumption) rfl q359 (Or.inl rfl) (Nat.le_of_ble_eq_true rfl) (Nat.le_of_ble_eq_true rfl) (by (repeat (first | exact updF_self _ _ _ _ | (apply updF_i; · decide) | (apply updF_a; · first | assumption | (apply Ne.symm; assumption) | omega) | (apply newF_a; · first | assumption | (apply Ne.symm; assumption) | omega) | exact newL_self (by rfl) | exact newF_self (by rfl) | (apply cpyF_a; · first | assumption | (apply Ne.symm; assumption) | omega))) <;> first | assumption | rfl) ?_
  refine wa_iload_n (pc := 4) (y := mX2_levelAgain) dX2_levelAgain_4 rfl ?_
  refine wf_iaload dX2_levelAgain_5 (by assumption) (by omega) (by (repeat (first | exact updF_self _ _ _ _ | (apply updF_i; · decide) | (apply updF_a; · first | assumption | (apply Ne.symm; assumption) | omega) | (apply newF_a; · first | assumption | (apply Ne.symm; assumption) | omega) | exact newL_self (by rfl) | exact newF_self (by rfl) | (apply cpyF_a; · first | assumption | (apply Ne.symm; assumption) | omega))) <;> first | assumption | rfl) ?_
  refine wa_istore_n (pc := 6) (y := mX2_levelAgain) dX2_levelAgain_6 (Nat.le_of_ble_eq_true rfl) (by first | rfl | (simp [okst, rf_cat] <;> assumption)) ?_
  change WA _ _ _ _ (List.set _ 3 _) _ _ _
  simp only [List.set_cons_zero, List.set_cons_succ]
  refine wa_iconst (pc := 7) (y := mX2_levelAgain) (Int32.ofNat 0) dX2_levelAgain_7 rfl ?_
  refine wa_istore (pc := 8) (y := mX2_levelAgain) dX2_levelAgain_8 (Nat.le_of_ble_eq_true rfl) (by first | rfl | (simp [okst, rf_cat] <;> assumption)) ?_
  simp only [List.set_cons_zero, List.set_cons_succ]
  exact loop (k + 1) 0 h F _ (by omega) rfl Fr.refl Cst.refl
theorem s_X2_source (hd : 6 ≤ d) (S : ShowR G h F O s A f g) (hk : k < u (f 0)) (hc : c < 12) : MA G d mX2_source [.ref s, .int (Int32.ofNat k), .int (Int32.ofNat c)] (sF h F) (RdQ (k + 1) (some (.int (f (18 + 12 * srN f (Int32.ofNat c) k)))) h F) := by
  have hn := S.nlt
  have loop : ∀ (j : Nat) (h2 : AH) (F2 : Nat → Nat → Value) (e : Nat), j + e = k → srN f (Int32.ofNat c) k = srN f (Int32.ofNat c) j → Fr NoP h F h2 F2 → Cst e h h2 →
      WA G d mX2_source 2 [.ref s, .int (Int32.ofNat k), .int (Int32.ofNat c), .int (Int32.ofNat j)] [] (sF h2 F2) (RdQ (k + 1) (some (.int (f (18 + 12 * srN f (Int32.ofNat c) k)))) h F) := by
    intro j
    induction j with
    | zero =>
      intro h2 F2 e he hs fr cst
      obtain ⟨a, ha⟩ := S.cu (k := 0) (by omega)
      have S1 := S.rd fr
      have S1_is := S1.is; have S1_0 := S1.f0; have S1_1 := S1.f1; have S1_2 := S1.f2; have S1_3 := S1.f3; have S1_4 := S1.f4; have S1_5 := S1.f5; have S1_6 := S1.f6; have S1_7 := S1.f7; have S1_h := S1.hm; have S1_c := S1.cl.1; have S1_l := S1.fl.1; have S1_m := S1.im.1
      have C := S1.cue 0 a ha
      have c1 := C.1
      have c2 := C.2.2.1
      refine wa_aloadV_n (pc := 2) (y := mX2_source) dX2_source_2 rfl (by first | exact rf_s _ | exact rf_n | exact rf_q _) ?_
      refine wa_iload_n (pc := 3) (y := mX2_source) dX2_source_3 rfl ?_
      refine wa_callV (pc := 4) (s_X2_beginsAnew (d := d - 1) (by omega) S1 ha) dX2_source_4 okX2_beginsAnew q1099 q1101 qs5 (sF_at (by assumption)) rfl rfl rfl (Nat.le_of_ble_eq_true rfl) (Nat.le_of_ble_eq_true rfl) (by omega) ?_
      rintro _ _ - - ⟨rfl, rfl⟩
      refine aft_v (pc2 := 7) ?_ rfl
      refine wa_if_ne (pc := 7) 25 dX2_source_7 rfl (fun hb7 => ?_) (fun hb7 => absurd hb7 (by simp [bI]))
      refine wa_aloadV_n (pc := 25) (y := mX2_source) dX2_source_25 rfl (by first | exact rf_s _ | exact rf_n | exact rf_q _) ?_
      refine wf_get (k := 1) (l := 8) 0 dX2_source_26 (by assumption) rfl q355 (Or.inl rfl) (Nat.le_of_ble_eq_true rfl) (Nat.le_of_ble_eq_true rfl) (by (repeat (first | exact updF_self _ _ _ _ | (apply updF_i; · decide) | (apply updF_a; · first | assumption | (apply Ne.symm; assumption) | omega) | (apply newF_a; · first | assumption | (apply Ne.symm; assumption) | omega) | exact newL_self (by rfl) | exact newF_self (by rfl) | (apply cpyF_a; · first | assumption | (apply Ne.symm; assumption) | omega))) <;> first | assumption | rfl) ?_
      refine wa_iload_n (pc := 29) (y := mX2_source) dX2_source_29 rfl ?_
      refine wa_callV (pc := 30) (s_J2_get (d := d - 1) (by omega) S1.cl ha) dX2_source_30 okJ2_get q416 q417 q418 (sF_at (by assumption)) rfl rfl rfl (Nat.le_of_ble_eq_true rfl) (Nat.le_of_ble_eq_true rfl) (by omega) ?_
      rintro _ _ - - ⟨rfl, rfl⟩
      refine aft_v (pc2 := 33) ?_ rfl
      refine wa_castS (pc := 33) (y := mX2_source) (k := 6) dX2_source_33 (sF_at (by assumption)) rfl q430 ?_
      refine wf_getN (k := 6) (l := 6) 0 dX2_source_36 (by assumption) rfl q1193 (Or.inl rfl) (Nat.le_of_ble_eq_true rfl) (Nat.le_of_ble_eq_true rfl) (by (repeat (first | exact updF_self _ _ _ _ | (apply updF_i; · decide) | (apply updF_a; · first | assumption | (apply Ne.symm; assumption) | omega) | (apply newF_a; · first | assumption | (apply Ne.symm; assumption) | omega) | exact newL_self (by rfl) | exact newF_self (by rfl) | (apply cpyF_a; · first | assumption | (apply Ne.symm; assumption) | omega))) <;> first | assumption | rfl) ?_
      refine wa_ireturn (pc := 39) (y := mX2_source) .int dX2_source_39 rfl rfl ⟨h2, F2, by rw [hs]; rfl, rfl, fr, cst.mono (by omega)⟩
    | succ j ih =>
      intro h2 F2 e he hs fr cst
      obtain ⟨a, ha⟩ := S.cu (k := j + 1) (by omega)
      have S1 := S.rd fr
      have S1_is := S1.is; have S1_0 := S1.f0; have S1_1 := S1.f1; have S1_2 := S1.f2; have S1_3 := S1.f3; have S1_4 := S1.f4; have S1_5 := S1.f5; have S1_6 := S1.f6; have S1_7 := S1.f7; have S1_h := S1.hm; have S1_c := S1.cl.1; have S1_l := S1.fl.1; have S1_m := S1.im.1
      have C := S1.cue (j + 1) a ha
      have c1 := C.1
      have c2 := C.2.2.1
      refine wa_aloadV_n (pc := 2) (y := mX2_source) dX2_source_2 rfl (by first | exact rf_s _ | exact rf_n | exact rf_q _) ?_
      refine wa_iload_n (pc := 3) (y := mX2_source) dX2_source_3 rfl ?_
      refine wa_callV (pc := 4) (s_X2_beginsAnew (d := d - 1) (by omega) S1 ha) dX2_source_4 okX2_beginsAnew q1099 q1101 qs5 (sF_at (by assumption)) rfl rfl rfl (Nat.le_of_ble_eq_true rfl) (Nat.le_of_ble_eq_true rfl) (by omega) ?_
      rintro _ _ - - ⟨rfl, rfl⟩
      refine aft_v (pc2 := 7) ?_ rfl
      refine wa_if_ne (pc := 7) 25 dX2_source_7 rfl (fun hb7 => ?_) (fun hb7 => ?_)
      · have hbl : isBl f (j + 1) = true := by have := bI_n0 hb7; simpa using this
        have hs2 : srN f (Int32.ofNat c) k = j + 1 := by rw [hs]; unfold srN; simp [hbl]
        refine wa_aloadV_n (pc := 25) (y := mX2_source) dX2_source_25 rfl (by first | exact rf_s _ | exact rf_n | exact rf_q _) ?_
        refine wf_get (k := 1) (l := 8) 0 dX2_source_26 (by assumption) rfl q355 (Or.inl rfl) (Nat.le_of_ble_eq_true rfl) (Nat.le_of_ble_eq_true rfl) (by (repeat (first | exact updF_self _ _ _ _ | (apply updF_i; · decide) | (apply updF_a; · first | assumption | (apply Ne.symm; assumption) | omega) | (apply newF_a; · first | assumption | (apply Ne.symm; assumption) | omega) | exact newL_self (by rfl) | exact newF_self (by rfl) | (apply cpyF_a; · first | assumption | (apply Ne.symm; assumption) | omega))) <;> first | assumption | rfl) ?_
        refine wa_iload_n (pc := 29) (y := mX2_source) dX2_source_29 rfl ?_
        refine wa_callV (pc := 30) (s_J2_get (d := d - 1) (by omega) (by first | exact S2.cl | exact S1.cl) ha) dX2_source_30 okJ2_get q416 q417 q418 (sF_at (by assumption)) rfl rfl rfl (Nat.le_of_ble_eq_true rfl) (Nat.le_of_ble_eq_true rfl) (by omega) ?_
        rintro _ _ - - ⟨rfl, rfl⟩
        refine aft_v (pc2 := 33) ?_ rfl
        refine wa_castS (pc := 33) (y := mX2_source) (k := 6) dX2_source_33 (sF_at (by assumption)) rfl q430 ?_
        refine wf_getN (k := 6) (l := 6) 0 dX2_source_36 (by assumption) rfl q1193 (Or.inl rfl) (Nat.le_of_ble_eq_true rfl) (Nat.le_of_ble_eq_true rfl) (by (repeat (first | exact updF_self _ _ _ _ | (apply updF_i; · decide) | (apply updF_a; · first | assumption | (apply Ne.symm; assumption) | omega) | (apply newF_a; · first | assumption | (apply Ne.symm; assumption) | omega) | exact newL_self (by rfl) | exact newF_self (by rfl) | (apply cpyF_a; · first | assumption | (apply Ne.symm; assumption) | omega))) <;> first | assumption | rfl) ?_
        refine wa_ireturn (pc := 39) (y := mX2_source) .int dX2_source_39 rfl rfl (by first | exact ⟨h3, F3, by rw [hs2], rfl, fr3, cst3.mono (by omega)⟩ | exact ⟨h2, F2, by rw [hs2], rfl, fr, cst.mono (by omega)⟩)
      · have hbl : isBl f (j + 1) = false := by have := bI_0.mp hb7; simpa using this
        refine wa_aloadV_n (pc := 10) (y := mX2_source) dX2_source_10 rfl (by first | exact rf_s _ | exact rf_n | exact rf_q _) ?_
        refine wa_iload_n (pc := 11) (y := mX2_source) dX2_source_11 rfl ?_
        refine wa_iload_n (pc := 12) (y := mX2_source) dX2_source_12 rfl ?_
        refine wa_callV (pc := 13) (s_X2_at (d := d - 1) (by omega) S1 ha hc) dX2_source_13 okX2_at q410 q411 q412 (sF_at (by assumption)) rfl rfl rfl (Nat.le_of_ble_eq_true rfl) (Nat.le_of_ble_eq_true rfl) (by omega) ?_
        rintro _ _ - - ⟨h3, F3, o, rfl, rfl, fr2, cst2, aq⟩
        refine aft_v (pc2 := 16) ?_ rfl
        have S2 := S1.rd fr2; have S2_is := S2.is; have S2_0 := S2.f0; have S2_1 := S2.f1; have S2_2 := S2.f2; have S2_3 := S2.f3; have S2_4 := S2.f4; have S2_5 := S2.f5; have S2_6 := S2.f6; have S2_7 := S2.f7; have S2_h := S2.hm; have S2_c := S2.cl.1; have S2_l := S2.fl.1; have S2_m := S2.im.1; have C2 := S2.cue (j + 1) a ha; have d1 := C2.1; have d2 := C2.2.2.1
        have fr3 : Fr NoP h F h3 F3 := fr.trans fr2 fun _ _ q => q
        have cst3 := cst.trans cst2
        refine wa_ifnonnullV (pc := 16) 25 dX2_source_16 rfl (by first | exact rf_s _ | exact rf_n | exact rf_q _) (fun a16 hb16 => ?_) (fun hb16 => ?_)
        · have hs2 : srN f (Int32.ofNat c) k = j + 1 := by obtain ⟨i, p, e1, -⟩ := aq.2 _ hb16; rw [hs]; unfold srN; simp [e1]
          refine wa_aloadV_n (pc := 25) (y := mX2_source) dX2_source_25 rfl (by first | exact rf_s _ | exact rf_n | exact rf_q _) ?_
          refine wf_get (k := 1) (l := 8) 0 dX2_source_26 (by assumption) rfl q355 (Or.inl rfl) (Nat.le_of_ble_eq_true rfl) (Nat.le_of_ble_eq_true rfl) (by (repeat (first | exact updF_self _ _ _ _ | (apply updF_i; · decide) | (apply updF_a; · first | assumption | (apply Ne.symm; assumption) | omega) | (apply newF_a; · first | assumption | (apply Ne.symm; assumption) | omega) | exact newL_self (by rfl) | exact newF_self (by rfl) | (apply cpyF_a; · first | assumption | (apply Ne.symm; assumption) | omega))) <;> first | assumption | rfl) ?_
          refine wa_iload_n (pc := 29) (y := mX2_source) dX2_source_29 rfl ?_
          refine wa_callV (pc := 30) (s_J2_get (d := d - 1) (by omega) (by first | exact S2.cl | exact S1.cl) ha) dX2_source_30 okJ2_get q416 q417 q418 (sF_at (by assumption)) rfl rfl rfl (Nat.le_of_ble_eq_true rfl) (Nat.le_of_ble_eq_true rfl) (by omega) ?_
          rintro _ _ - - ⟨rfl, rfl⟩
          refine aft_v (pc2 := 33) ?_ rfl
          refine wa_castS (pc := 33) (y := mX2_source) (k := 6) dX2_source_33 (sF_at (by assumption)) rfl q430 ?_
          refine wf_getN (k := 6) (l := 6) 0 dX2_source_36 (by assumption) rfl q1193 (Or.inl rfl) (Nat.le_of_ble_eq_true rfl) (Nat.le_of_ble_eq_true rfl) (by (repeat (first | exact updF_self _ _ _ _ | (apply updF_i; · decide) | (apply updF_a; · first | assumption | (apply Ne.symm; assumption) | omega) | (apply newF_a; · first | assumption | (apply Ne.symm; assumption) | omega) | exact newL_self (by rfl) | exact newF_self (by rfl) | (apply cpyF_a; · first | assumption | (apply Ne.symm; assumption) | omega))) <;> first | assumption | rfl) ?_
          refine wa_ireturn (pc := 39) (y := mX2_source) .int dX2_source_39 rfl rfl (by first | exact ⟨h3, F3, by rw [hs2], rfl, fr3, cst3.mono (by omega)⟩ | exact ⟨h2, F2, by rw [hs2], rfl, fr, cst.mono (by omega)⟩)
        · have hs2 : srN f (Int32.ofNat c) k = srN f (Int32.ofNat c) j := by rw [hs]; conv => lhs; unfold srN; simp [aq.1 hb16, hbl]
          refine wa_iinc (pc := 19) (y := mX2_source) (-1) dX2_source_19 rfl rfl (Nat.le_of_ble_eq_true rfl) rfl ?_
          simp only [List.set_cons_zero, List.set_cons_succ]
          refine wa_goto (pc := 22) (y := mX2_source) 2 dX2_source_22 rfl ?_
          rw [show (Int32.ofNat (j + 1) + -1 : Int32) = Int32.ofNat j from dn_i9 j]; exact ih h3 F3 (e + 1) (by omega) hs2 fr3 cst3
  change WA G d mX2_source 0 [.ref s, .int (Int32.ofNat k), .int (Int32.ofNat c), .retAddr 0] [] _ _
  refine wa_iload_n (pc := 0) (y := mX2_source) dX2_source_0 rfl ?_
  refine wa_istore_n (pc := 1) (y := mX2_source) dX2_source_1 (Nat.le_of_ble_eq_true rfl) (by first | rfl | (simp [okst, rf_cat] <;> assumption)) ?_
  change WA _ _ _ _ (List.set _ 3 _) _ _ _
  simp only [List.set_cons_zero, List.set_cons_succ]
  exact loop k h F 0 rfl rfl Fr.refl Cst.refl
theorem s_X2_moves (hd : k + 7 ≤ d) (S : ShowR G h F O s A f g) (hk : k < u (f 0)) (hc : c < 12) : MA G d mX2_moves [.ref s, .int (Int32.ofNat k), .int (Int32.ofNat c)] (sF h F) (RdQ (2 * k + 1) (some (.int (bI (mvs f k c)))) h F) := by
  have hn := S.nlt
  have S_is := S.is; have S_0 := S.f0; have S_1 := S.f1; have S_2 := S.f2; have S_3 := S.f3; have S_4 := S.f4; have S_5 := S.f5; have S_6 := S.f6; have S_7 := S.f7; have S_h := S.hm; have S_c := S.cl.1; have S_l := S.fl.1; have S_m := S.im.1
  have hv9 := S.hv c hc
  change WA G d mX2_moves 0 [.ref s, .int (Int32.ofNat k), .int (Int32.ofNat c), .retAddr 0] [] _ _
  refine wa_iload_n (pc := 0) (y := mX2_moves) dX2_moves_0 rfl ?_
  refine wa_if_ne (pc := 1) 13 dX2_moves_1 rfl (fun hb1 => ?_) (fun hb1 => ?_)
  · obtain ⟨j, rfl⟩ : ∃ j, k = j + 1 := ⟨k - 1, by cases k with | zero => exact absurd rfl hb1 | succ k => rfl⟩
    refine wa_aloadV_n (pc := 13) (y := mX2_moves) dX2_moves_13 rfl (by first | exact rf_s _ | exact rf_n | exact rf_q _) ?_
    refine wa_iload_n (pc := 14) (y := mX2_moves) dX2_moves_14 rfl ?_
    refine wa_iconst (pc := 15) (y := mX2_moves) (Int32.ofNat 1) dX2_moves_15 rfl ?_
    refine wa_isub (pc := 16) (y := mX2_moves) dX2_moves_16 ?_
    rw [show (Int32.ofNat (j + 1) - Int32.ofNat 1) = Int32.ofNat j from iN_sub (by omega)]
    refine wa_iload_n (pc := 17) (y := mX2_moves) dX2_moves_17 rfl ?_
    refine wa_callV (pc := 18) (s_X2_level (d := d - 1) (k := j) (by omega) S (by omega) hc) dX2_moves_18 okX2_level q1103 q407 q408 (sF_at (by assumption)) rfl rfl rfl (Nat.le_of_ble_eq_true rfl) (Nat.le_of_ble_eq_true rfl) (by omega) ?_
    rintro _ _ - - ⟨h2, F2, rfl, rfl, fr, cst⟩
    refine aft_v (pc2 := 21) ?_ rfl
    have S2 := S.rd fr; have S2_is := S2.is; have S2_0 := S2.f0; have S2_1 := S2.f1; have S2_2 := S2.f2; have S2_3 := S2.f3; have S2_4 := S2.f4; have S2_5 := S2.f5; have S2_6 := S2.f6; have S2_7 := S2.f7; have S2_h := S2.hm; have S2_c := S2.cl.1; have S2_l := S2.fl.1; have S2_m := S2.im.1
    refine wa_istore_n (pc := 21) (y := mX2_moves) dX2_moves_21 (Nat.le_of_ble_eq_true rfl) (by first | rfl | (simp [okst, rf_cat] <;> assumption)) ?_
    change WA _ _ _ _ (List.set _ 3 _) _ _ _
    simp only [List.set_cons_zero, List.set_cons_succ]
    refine wa_aloadV_n (pc := 22) (y := mX2_moves) dX2_moves_22 rfl (by first | exact rf_s _ | exact rf_n | exact rf_q _) ?_
    refine wa_iload_n (pc := 23) (y := mX2_moves) dX2_moves_23 rfl ?_
    refine wa_iload_n (pc := 24) (y := mX2_moves) dX2_moves_24 rfl ?_
    refine wa_callV (pc := 25) (by first | exact s_X2_level (d := d - 1) (k := j + 1) (by omega) S2 (by omega) hc | exact s_X2_level (d := d - 1) (k := 0) (by omega) S (by omega) hc) dX2_moves_25 okX2_level q1103 q407 q408 (sF_at (by assumption)) rfl rfl rfl (Nat.le_of_ble_eq_true rfl) (Nat.le_of_ble_eq_true rfl) (by omega) ?_
    rintro _ _ - - ⟨h3, F3, rfl, rfl, fr2, cst2⟩
    refine aft_v (pc2 := 28) ?_ rfl
    refine wa_iload_n (pc := 28) (y := mX2_moves) dX2_moves_28 rfl ?_
    refine wa_icmp_eq (pc := 29) 36 dX2_moves_29 rfl (fun hb29 => ?_) (fun hb29 => ?_)
    · refine wa_iconst (pc := 36) (y := mX2_moves) (Int32.ofNat 0) dX2_moves_36 rfl ?_
      refine wa_ireturn (pc := 37) (y := mX2_moves) .boolean dX2_moves_37 rfl (by first | rfl | exact bI_nar _) (by first | exact ⟨h3, F3, by first | rw [show mvs f (j + 1) c = true from decide_eq_true hb29]; rfl | rw [show mvs f (j + 1) c = false from decide_eq_false fun e => e hb29]; rfl, rfl, fr.trans fr2 fun _ _ q => q, (cst.trans cst2).mono (by omega)⟩ | exact ⟨h3, F3, by first | rw [show mvs f 0 c = true from decide_eq_true hb29]; rfl | rw [show mvs f 0 c = false from decide_eq_false fun e => e hb29]; rfl, rfl, fr2, cst2.mono (by omega)⟩)
    · refine wa_iconst (pc := 32) (y := mX2_moves) (Int32.ofNat 1) dX2_moves_32 rfl ?_
      refine wa_goto (pc := 33) (y := mX2_moves) 37 dX2_moves_33 rfl ?_
      refine wa_ireturn (pc := 37) (y := mX2_moves) .boolean dX2_moves_37 rfl (by first | rfl | exact bI_nar _) (by first | exact ⟨h3, F3, by first | rw [show mvs f (j + 1) c = true from decide_eq_true hb29]; rfl | rw [show mvs f (j + 1) c = false from decide_eq_false fun e => e hb29]; rfl, rfl, fr.trans fr2 fun _ _ q => q, (cst.trans cst2).mono (by omega)⟩ | exact ⟨h3, F3, by first | rw [show mvs f 0 c = true from decide_eq_true hb29]; rfl | rw [show mvs f 0 c = false from decide_eq_false fun e => e hb29]; rfl, rfl, fr2, cst2.mono (by omega)⟩)
  · have hk0 : k = 0 := (iN_eq (b := 0) (by omega) (by omega)).mp hb1
    subst hk0
    refine wa_aloadV_n (pc := 4) (y := mX2_moves) dX2_moves_4 rfl (by first | exact rf_s _ | exact rf_n | exact rf_q _) ?_
    refine wf_get (k := 1) (l := 8) 2 dX2_moves_5 (by assumption) rfl q359 (Or.inl rfl) (Nat.le_of_ble_eq_true rfl) (Nat.le_of_ble_eq_true rfl) (by (repeat (first | exact updF_self _ _ _ _ | (apply updF_i; · decide) | (apply updF_a; · first | assumption | (apply Ne.symm; assumption) | omega) | (apply newF_a; · first | assumption | (apply Ne.symm; assumption) | omega) | exact newL_self (by rfl) | exact newF_self (by rfl) | (apply cpyF_a; · first | assumption | (apply Ne.symm; assumption) | omega))) <;> first | assumption | rfl) ?_
    refine wa_iload_n (pc := 8) (y := mX2_moves) dX2_moves_8 rfl ?_
    refine wf_iaload dX2_moves_9 (by assumption) (by omega) (by (repeat (first | exact updF_self _ _ _ _ | (apply updF_i; · decide) | (apply updF_a; · first | assumption | (apply Ne.symm; assumption) | omega) | (apply newF_a; · first | assumption | (apply Ne.symm; assumption) | omega) | exact newL_self (by rfl) | exact newF_self (by rfl) | (apply cpyF_a; · first | assumption | (apply Ne.symm; assumption) | omega))) <;> first | assumption | rfl) ?_
    refine wa_goto (pc := 10) (y := mX2_moves) 21 dX2_moves_10 rfl ?_
    refine wa_istore_n (pc := 21) (y := mX2_moves) dX2_moves_21 (Nat.le_of_ble_eq_true rfl) (by first | rfl | (simp [okst, rf_cat] <;> assumption)) ?_
    change WA _ _ _ _ (List.set _ 3 _) _ _ _
    simp only [List.set_cons_zero, List.set_cons_succ]
    refine wa_aloadV_n (pc := 22) (y := mX2_moves) dX2_moves_22 rfl (by first | exact rf_s _ | exact rf_n | exact rf_q _) ?_
    refine wa_iload_n (pc := 23) (y := mX2_moves) dX2_moves_23 rfl ?_
    refine wa_iload_n (pc := 24) (y := mX2_moves) dX2_moves_24 rfl ?_
    refine wa_callV (pc := 25) (by first | exact s_X2_level (d := d - 1) (k := j + 1) (by omega) S2 (by omega) hc | exact s_X2_level (d := d - 1) (k := 0) (by omega) S (by omega) hc) dX2_moves_25 okX2_level q1103 q407 q408 (sF_at (by assumption)) rfl rfl rfl (Nat.le_of_ble_eq_true rfl) (Nat.le_of_ble_eq_true rfl) (by omega) ?_
    rintro _ _ - - ⟨h3, F3, rfl, rfl, fr2, cst2⟩
    refine aft_v (pc2 := 28) ?_ rfl
    refine wa_iload_n (pc := 28) (y := mX2_moves) dX2_moves_28 rfl ?_
    refine wa_icmp_eq (pc := 29) 36 dX2_moves_29 rfl (fun hb29 => ?_) (fun hb29 => ?_)
    · refine wa_iconst (pc := 36) (y := mX2_moves) (Int32.ofNat 0) dX2_moves_36 rfl ?_
      refine wa_ireturn (pc := 37) (y := mX2_moves) .boolean dX2_moves_37 rfl (by first | rfl | exact bI_nar _) (by first | exact ⟨h3, F3, by first | rw [show mvs f (j + 1) c = true from decide_eq_true hb29]; rfl | rw [show mvs f (j + 1) c = false from decide_eq_false fun e => e hb29]; rfl, rfl, fr.trans fr2 fun _ _ q => q, (cst.trans cst2).mono (by omega)⟩ | exact ⟨h3, F3, by first | rw [show mvs f 0 c = true from decide_eq_true hb29]; rfl | rw [show mvs f 0 c = false from decide_eq_false fun e => e hb29]; rfl, rfl, fr2, cst2.mono (by omega)⟩)
    · refine wa_iconst (pc := 32) (y := mX2_moves) (Int32.ofNat 1) dX2_moves_32 rfl ?_
      refine wa_goto (pc := 33) (y := mX2_moves) 37 dX2_moves_33 rfl ?_
      refine wa_ireturn (pc := 37) (y := mX2_moves) .boolean dX2_moves_37 rfl (by first | rfl | exact bI_nar _) (by first | exact ⟨h3, F3, by first | rw [show mvs f (j + 1) c = true from decide_eq_true hb29]; rfl | rw [show mvs f (j + 1) c = false from decide_eq_false fun e => e hb29]; rfl, rfl, fr.trans fr2 fun _ _ q => q, (cst.trans cst2).mono (by omega)⟩ | exact ⟨h3, F3, by first | rw [show mvs f 0 c = true from decide_eq_true hb29]; rfl | rw [show mvs f 0 c = false from decide_eq_false fun e => e hb29]; rfl, rfl, fr2, cst2.mono (by omega)⟩)
theorem s_X2_partOf (hd : 6 ≤ d) (S : ShowR G h F O s A f g) (hk : k < u (f 0)) (hc : c < 12) : MA G d mX2_partOf [.ref s, .int (Int32.ofNat k), .int (Int32.ofNat c)] (sF h F) (RdQ 1 (some (.int (Int32.ofNat (ptO f (f (18 + 12 * k)) c)))) h F) := by
  obtain ⟨a, ha⟩ := S.cu hk
  have S_is := S.is
  have K15 : ∀ (h2 : AH) (F2 : Nat → Nat → Value) (t i : Nat), Int32.ofNat (ptO f (f (18 + 12 * k)) c) = f (162 + 4 * i + 3) → Fr NoP h F h2 F2 → Cst 1 h h2 → TldR h2 F2 t (f (162 + 4 * i + 2)) (f (162 + 4 * i + 3)) →
      WA G d mX2_partOf 15 [.ref s, .int (Int32.ofNat k), .int (Int32.ofNat c), .ref t] [] (sF h2 F2) (RdQ 1 (some (.int (Int32.ofNat (ptO f (f (18 + 12 * k)) c)))) h F) := by
    intro h2 F2 t i e2 fr cst T
    obtain ⟨-, T1, T2⟩ := T
    rcases T2 with ⟨-, T2⟩ | ⟨-, T2, -⟩
    · refine wa_aloadV_n (pc := 15) (y := mX2_partOf) dX2_partOf_15 rfl (by first | exact rf_s _ | exact rf_n | exact rf_q _) ?_
      refine wf_getN (k := 8) (l := 1) 0 dX2_partOf_16 (by assumption) rfl q1955 (Or.inl rfl) (Nat.le_of_ble_eq_true rfl) (Nat.le_of_ble_eq_true rfl) (by (repeat (first | exact updF_self _ _ _ _ | (apply updF_i; · decide) | (apply updF_a; · first | assumption | (apply Ne.symm; assumption) | omega) | (apply newF_a; · first | assumption | (apply Ne.symm; assumption) | omega) | exact newL_self (by rfl) | exact newF_self (by rfl) | (apply cpyF_a; · first | assumption | (apply Ne.symm; assumption) | omega))) <;> first | assumption | rfl) ?_
      refine wa_ireturn (pc := 19) (y := mX2_partOf) .int dX2_partOf_19 rfl rfl ⟨h2, F2, by rw [e2], rfl, fr, cst⟩
    · refine wa_aloadV_n (pc := 15) (y := mX2_partOf) dX2_partOf_15 rfl (by first | exact rf_s _ | exact rf_n | exact rf_q _) ?_
      refine wf_getN (k := 7) (l := 2) 0 dX2_partOf_16 (by assumption) rfl q1955 (Or.inl rfl) (Nat.le_of_ble_eq_true rfl) (Nat.le_of_ble_eq_true rfl) (by (repeat (first | exact updF_self _ _ _ _ | (apply updF_i; · decide) | (apply updF_a; · first | assumption | (apply Ne.symm; assumption) | omega) | (apply newF_a; · first | assumption | (apply Ne.symm; assumption) | omega) | exact newL_self (by rfl) | exact newF_self (by rfl) | (apply cpyF_a; · first | assumption | (apply Ne.symm; assumption) | omega))) <;> first | assumption | rfl) ?_
      refine wa_ireturn (pc := 19) (y := mX2_partOf) .int dX2_partOf_19 rfl rfl ⟨h2, F2, by rw [e2], rfl, fr, cst⟩
  change WA G d mX2_partOf 0 [.ref s, .int (Int32.ofNat k), .int (Int32.ofNat c), .retAddr 0] [] _ _
  refine wa_aloadV_n (pc := 0) (y := mX2_partOf) dX2_partOf_0 rfl (by first | exact rf_s _ | exact rf_n | exact rf_q _) ?_
  refine wa_iload_n (pc := 1) (y := mX2_partOf) dX2_partOf_1 rfl ?_
  refine wa_iload_n (pc := 2) (y := mX2_partOf) dX2_partOf_2 rfl ?_
  refine wa_callV (pc := 3) (s_X2_at (d := d - 1) (by omega) S ha hc) dX2_partOf_3 okX2_at q410 q411 q412 (sF_at (by assumption)) rfl rfl rfl (Nat.le_of_ble_eq_true rfl) (Nat.le_of_ble_eq_true rfl) (by omega) ?_
  rintro _ _ - - ⟨h2, F2, o, rfl, rfl, fr, cst, aq⟩
  refine aft_v (pc2 := 6) ?_ rfl
  refine wa_astoreV_n (pc := 6) (y := mX2_partOf) dX2_partOf_6 (Nat.le_of_ble_eq_true rfl) (by first | rfl | (simp [okst, rf_cat] <;> assumption)) (by first | exact rf_s _ | exact rf_n | exact rf_q _) ?_
  change WA _ _ _ _ (List.set _ 3 _) _ _ _
  simp only [List.set_cons_zero, List.set_cons_succ]
  refine wa_aloadV_n (pc := 7) (y := mX2_partOf) dX2_partOf_7 rfl (by first | exact rf_s _ | exact rf_n | exact rf_q _) ?_
  refine wa_ifnonnullV (pc := 8) 15 dX2_partOf_8 rfl (by first | exact rf_s _ | exact rf_n | exact rf_q _) (fun a8 hb8 => ?_) (fun hb8 => ?_)
  · obtain ⟨i, p, e1, -, -, T⟩ := aq.2 _ hb8
    subst hb8
    have e2 : Int32.ofNat (ptO f (f (18 + 12 * k)) c) = f (162 + 4 * i + 3) := by unfold ptO; rw [e1]; exact u_self _
    exact K15 h2 F2 a8 i e2 fr cst T
  · have e1 := aq.1 hb8
    refine wa_iconst (pc := 11) (y := mX2_partOf) (Int32.ofNat 0) dX2_partOf_11 rfl ?_
    refine wa_goto (pc := 12) (y := mX2_partOf) 19 dX2_partOf_12 rfl ?_
    refine wa_ireturn (pc := 19) (y := mX2_partOf) .int dX2_partOf_19 rfl rfl ⟨h2, F2, by unfold ptO; rw [e1], rfl, fr, cst⟩
end SHOWR
