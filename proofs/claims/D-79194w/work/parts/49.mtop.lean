/-! ===== CueStackModel: its calls, first part ===== -/
theorem isC_some {f : Nat → Int32} {cue : Int32} {p : Nat} (h : pl f cue = some p) : isC f cue = true := by unfold isC; rw [h]; rfl
theorem isC_none {f : Nat → Int32} {cue : Int32} (h : pl f cue = none) : isC f cue = false := by unfold isC; rw [h]; rfl
theorem toInt_nn {x : Int32} (h : 0 ≤ x) : x.toInt = ((u x : Nat) : Int) := by
  have h1 := Int32.le_iff_toInt_le.mp h
  rw [show (0 : Int32).toInt = 0 from by decide] at h1
  show x.toBitVec.toInt = (x.toBitVec.toNat : Int)
  have h4 : x.toBitVec.toInt = x.toInt := rfl
  rw [← h4] at h1
  rcases Nat.lt_or_ge (2 * x.toBitVec.toNat) (2 ^ 32) with q | q
  · exact BitVec.toInt_eq_toNat_of_lt q
  · rw [BitVec.toInt_eq_toNat_cond, if_neg (by omega)] at h1
    have := x.toBitVec.isLt
    omega
theorem inb_le {x : Int32} {n : Nat} (hn : n < 2147483648) : inb x 0 (Int32.ofNat n) = decide (u x ≤ n) := by
  unfold inb
  by_cases h0 : 0 ≤ x
  · rw [decide_eq_true h0, Bool.true_and]
    congr 1
    rw [Int32.le_iff_toInt_le, toInt_nn h0, iN_toInt hn]
    exact propext ⟨fun q => by omega, fun q => by omega⟩
  · rw [decide_eq_false h0, Bool.false_and]
    refine (decide_eq_false fun q => h0 ?_).symm
    rw [← u_self x, show (0 : Int32) = Int32.ofNat 0 from rfl, iN_le (by omega) (by omega)]
    omega
theorem inb_lt {x : Int32} {n : Nat} (hn : n < 2147483648) : inb x 0 (Int32.ofNat n - Int32.ofNat 1) = decide (u x < n) := by
  cases n with
  | zero =>
    rw [decide_eq_false (by omega)]
    unfold inb
    by_cases h0 : 0 ≤ x
    · rw [decide_eq_true h0, Bool.true_and]
      refine decide_eq_false fun q => ?_
      rw [show Int32.ofNat 0 - Int32.ofNat 1 = -1 from by decide, Int32.le_iff_toInt_le, toInt_nn h0, show (-1 : Int32).toInt = -1 from by decide] at q
      omega
    · rw [decide_eq_false h0, Bool.false_and]
  | succ n =>
    rw [show Int32.ofNat (n + 1) - Int32.ofNat 1 = Int32.ofNat n from iN_sub (a := n + 1) (b := 1) (by omega), inb_le (by omega)]
    congr 1
    exact propext ⟨fun q => by omega, fun q => by omega⟩
abbrev OO : Type := Nat × Int32 × (Nat → Int32) × MS
/-- refused by its arguments: nothing but thrown -/
def oX (f : Nat → Int32) (σ : MS) (k : Nat) : OO := (k, 0, f, mV σ 7 (Int32.ofNat k))
/-- answered, the state is as it was -/
def oR (f : Nat → Int32) (σ : MS) (v : Int32) : OO := (0, v, f, mV σ 7 (Int32.ofNat 0))
/-- behind changes() -/
def oC (f : Nat → Int32) (σ : MS) : MS := chg (mA (mV σ 7 (Int32.ofNat 0)) 1 f)
def O_clear (f : Nat → Int32) (σ : MS) : OO := (0, f 0, fun _ => 0, mV (mV σ 7 (Int32.ofNat 0)) 5 (Int32.ofNat 0))
def O_addCue (f : Nat → Int32) (σ : MS) (n : Int32) : OO := if (dA f n).1 = 0 then (0, (dA f n).2 0, (dA f n).2, chg (mV (mA σ 1 f) 7 (Int32.ofNat 0))) else ((dA f n).1, 0, (dA f n).2, mV (mA σ 1 f) 7 (Int32.ofNat (dA f n).1))
def O_cueAt (f : Nat → Int32) (σ : MS) (i : Int32) : OO := if u i < u (f 0) then oR f σ (f (18 + 12 * u i)) else oX f σ 1
def O_setFollow (f : Nat → Int32) (σ : MS) (cue t : Int32) : OO := match pl f cue with
  | none => oX f σ 1
  | some p => if t ≠ -1 ∧ inb t 1 6000 = false then oX f σ 2 else (0, f (18 + 12 * p + 1), upd f (18 + 12 * p + 1) t, oC f σ)
def blG (f g : Nat → Int32) (p c : Nat) : Int32 := if lvN g c (p + 1) = lvN f c (p + 1) then 0 else 1
def O_setBlock (f : Nat → Int32) (σ : MS) (cue : Int32) (b : Bool) : OO := match pl f cue with
  | none => oX f σ 1
  | some p => (0, smN (blG f (upd f (18 + 12 * p + 2) (bI b)) p) 12, upd f (18 + 12 * p + 2) (bI b), mA (oC f σ) 8 (klF f ((oC f σ).1 8) (12 * u (f 0))))
def O_setProtected (f : Nat → Int32) (σ : MS) (cue : Int32) (b : Bool) : OO := match pl f cue with
  | none => oX f σ 1
  | some p => (0, bI (decide (f (18 + 12 * p + 3) = 1)), upd f (18 + 12 * p + 3) (bI b), oC f σ)
def O_setPart (f : Nat → Int32) (σ : MS) (cue q : Int32) (b : Bool) (t : Int32) : OO := match pl f cue with
  | none => oX f σ 1
  | some p => if ¬ u q < 4 then oX f σ 1 else if ¬ u t ≤ 600 then oX f σ 2 else (0, f (18 + 12 * p + 4 + 2 * u q + if b then 0 else 1), upd f (18 + 12 * p + 4 + 2 * u q + if b then 0 else 1) t, oC f σ)
def O_part (f : Nat → Int32) (σ : MS) (cue q : Int32) (b : Bool) : OO := match pl f cue with
  | none => oX f σ 1
  | some p => if ¬ u q < 4 then oX f σ 1 else oR f σ (f (18 + 12 * p + 4 + 2 * u q + if b then 0 else 1))
def O_setHome (f : Nat → Int32) (σ : MS) (c l : Int32) : OO := if ¬ u c < 12 then oX f σ 1 else if ¬ u l ≤ 100 then oX f σ 2 else (0, f (6 + u c), upd f (6 + u c) l, oC f σ)
theorem chgP (σ : MS) : (chg σ).1 1 = σ.1 1 := rfl
theorem inb11 (x : Int32) : inb x 0 11 = decide (u x < 12) := (inb_le (n := 11) (by omega)).trans (by congr 1; exact propext ⟨fun q => by omega, fun q => by omega⟩)
theorem inb3 (x : Int32) : inb x 0 3 = decide (u x < 4) := (inb_le (n := 3) (by omega)).trans (by congr 1; exact propext ⟨fun q => by omega, fun q => by omega⟩)
section MTOP
variable {G : GG} {d : Nat} {h : AH} {m : Nat} {f : Nat → Int32} {σ : MS}
theorem s_X6_thrown : MA G d mX6_thrown [.ref m] (mH h m f σ) (fun r h' => r = .inl (some (.int (σ.2 7))) ∧ h' = mH h m f σ) := by
  show WA _ _ _ 0 [.ref m] [] _ _
  first | refine wa_aload_n (pc := 0) (y := mX6_thrown) dX6_thrown_0 rfl ?_ | refine wa_aload_nN (pc := 0) (y := mX6_thrown) dX6_thrown_0 rfl ?_ | refine wa_aload_nq (pc := 0) (y := mX6_thrown) dX6_thrown_0 rfl ?_
  refine wa_getf (pc := 1) (y := mX6_thrown) (k := 5) 7 dX6_thrown_1 mH_o rfl q2650 (Or.inl rfl) (Nat.le_of_ble_eq_true rfl) (by rfl) ?_
  exact wa_ireturn (pc := 4) (y := mX6_thrown) .int dX6_thrown_4 rfl rfl ⟨rfl, rfl⟩
theorem s_X6_clear (hd : 2 ≤ d) : MA G d mX6_clear [.ref m] (mH h m f σ) (fun r h' => r = .inl (some (.int (O_clear f σ).2.1)) ∧ h' = mH h m (O_clear f σ).2.2.1 (O_clear f σ).2.2.2) := by
  show WA _ _ _ 0 [.ref m, .retAddr 0] [] _ _
  first | refine wa_aload_n (pc := 0) (y := mX6_clear) dX6_clear_0 rfl ?_ | refine wa_aload_nN (pc := 0) (y := mX6_clear) dX6_clear_0 rfl ?_ | refine wa_aload_nq (pc := 0) (y := mX6_clear) dX6_clear_0 rfl ?_
  refine wa_iconst (pc := 1) (y := mX6_clear) (Int32.ofNat 0) dX6_clear_1 rfl ?_
  refine wa_putf (pc := 2) (y := mX6_clear) (k := 5) 7 .int dX6_clear_2 mH_o rfl q2650 (Or.inl rfl) (Nat.le_of_ble_eq_true rfl) rfl (by decide +kernel) rfl rfl ?_
  rw [mW_o7]
  first | refine wa_aload_n (pc := 5) (y := mX6_clear) dX6_clear_5 rfl ?_ | refine wa_aload_nN (pc := 5) (y := mX6_clear) dX6_clear_5 rfl ?_ | refine wa_aload_nq (pc := 5) (y := mX6_clear) dX6_clear_5 rfl ?_
  refine wa_getf (pc := 6) (y := mX6_clear) (k := 5) 0 dX6_clear_6 mH_o rfl q2643 (Or.inl rfl) (Nat.le_of_ble_eq_true rfl) (by rfl) ?_
  refine wa_iconst (pc := 9) (y := mX6_clear) (Int32.ofNat 0) dX6_clear_9 rfl ?_
  refine wa_ialoadN (pc := 10) (y := mX6_clear) dX6_clear_10 mH_1 (by omega) ?_
  refine wa_istore_n (pc := 11) (y := mX6_clear) dX6_clear_11 (Nat.le_of_ble_eq_true rfl) rfl ?_
  change WA _ _ _ _ (List.set _ 1 _) _ _ _
  simp only [List.set_cons_zero, List.set_cons_succ]
  first | refine wa_aload_n (pc := 12) (y := mX6_clear) dX6_clear_12 rfl ?_ | refine wa_aload_nN (pc := 12) (y := mX6_clear) dX6_clear_12 rfl ?_ | refine wa_aload_nq (pc := 12) (y := mX6_clear) dX6_clear_12 rfl ?_
  refine wa_callV (pc := 13) (s_X6_begin (d := d - 1) (by omega)) dX6_clear_13 okX6_begin q2639 q2641 qs38 mH_o rfl rfl rfl (Nat.le_of_ble_eq_true rfl) (Nat.le_of_ble_eq_true rfl) (by omega) ?_
  rintro _ _ - - ⟨rfl, rfl⟩
  refine aft_0 (pc2 := 16) ?_ rfl
  refine wa_iload_n (pc := 16) (y := mX6_clear) dX6_clear_16 rfl ?_
  exact wa_ireturn (pc := 17) (y := mX6_clear) .int dX6_clear_17 rfl rfl ⟨rfl, rfl⟩
theorem s_X6_addCue {n : Int32} (hd : 4 ≤ d) (hI : Inv f) (hp : u (σ.2 5) ≤ 6) : MA G d mX6_addCue [.ref m, .int n] (mH h m f σ) (fun r h' => r = .inl (some (.int (O_addCue f σ n).2.1)) ∧ h' = mH h m (O_addCue f σ n).2.2.1 (O_addCue f σ n).2.2.2) := by
  show WA _ _ _ 0 [.ref m, .int _] [] _ _
  have hle : (dA f n).1 ≤ 2 := by
    unfold dA
    split
    · show 1 ≤ 2; omega
    · split
      · exact Nat.le_refl _
      · exact Nat.zero_le _
  by_cases e : (dA f n).1 = 0
  · rw [show O_addCue f σ n = _ from if_pos e]
    first | refine wa_aload_n (pc := 0) (y := mX6_addCue) dX6_addCue_0 rfl ?_ | refine wa_aload_nN (pc := 0) (y := mX6_addCue) dX6_addCue_0 rfl ?_ | refine wa_aload_nq (pc := 0) (y := mX6_addCue) dX6_addCue_0 rfl ?_
    refine wa_callV (pc := 1) (s_X6_keepState (d := d - 1) (by omega)) dX6_addCue_1 okX6_keepState q2707 q2709 qs39 mH_o rfl rfl rfl (Nat.le_of_ble_eq_true rfl) (Nat.le_of_ble_eq_true rfl) (by omega) ?_
    rintro _ _ - - ⟨rfl, rfl⟩
    refine aft_0 (pc2 := 4) ?_ rfl
    first | refine wa_aload_n (pc := 4) (y := mX6_addCue) dX6_addCue_4 rfl ?_ | refine wa_aload_nN (pc := 4) (y := mX6_addCue) dX6_addCue_4 rfl ?_ | refine wa_aload_nq (pc := 4) (y := mX6_addCue) dX6_addCue_4 rfl ?_
    first | refine wa_aload_n (pc := 5) (y := mX6_addCue) dX6_addCue_5 rfl ?_ | refine wa_aload_nN (pc := 5) (y := mX6_addCue) dX6_addCue_5 rfl ?_ | refine wa_aload_nq (pc := 5) (y := mX6_addCue) dX6_addCue_5 rfl ?_
    refine wa_iload_n (pc := 6) (y := mX6_addCue) dX6_addCue_6 rfl ?_
    refine wa_callV (pc := 7) (s_X6_doAdd (d := d - 1) (by omega) hI) dX6_addCue_7 okX6_doAdd q2712 q2714 qs40 mH_o rfl rfl rfl (Nat.le_of_ble_eq_true rfl) (Nat.le_of_ble_eq_true rfl) (by omega) ?_
    rintro _ _ - - ⟨rfl, rfl⟩
    refine aft_v (pc2 := 10) ?_ rfl
    rw [e]
    refine wa_putf (pc := 10) (y := mX6_addCue) (k := 5) 7 .int dX6_addCue_10 mH_o rfl q2650 (Or.inl rfl) (Nat.le_of_ble_eq_true rfl) rfl (by decide +kernel) rfl rfl ?_
    rw [mW_o7]
    first | refine wa_aload_n (pc := 13) (y := mX6_addCue) dX6_addCue_13 rfl ?_ | refine wa_aload_nN (pc := 13) (y := mX6_addCue) dX6_addCue_13 rfl ?_ | refine wa_aload_nq (pc := 13) (y := mX6_addCue) dX6_addCue_13 rfl ?_
    refine wa_getf (pc := 14) (y := mX6_addCue) (k := 5) 7 dX6_addCue_14 mH_o rfl q2650 (Or.inl rfl) (Nat.le_of_ble_eq_true rfl) (by rfl) ?_
    rw [mV_s]
    refine wa_if_le (pc := 17) 22 dX6_addCue_17 rfl (fun hb17 => ?_) (fun hb17 => absurd (by decide) hb17)
    first | refine wa_aload_n (pc := 22) (y := mX6_addCue) dX6_addCue_22 rfl ?_ | refine wa_aload_nN (pc := 22) (y := mX6_addCue) dX6_addCue_22 rfl ?_ | refine wa_aload_nq (pc := 22) (y := mX6_addCue) dX6_addCue_22 rfl ?_
    refine wa_callV (pc := 23) (s_X6_change (d := d - 1) (by omega) hp) dX6_addCue_23 okX6_change q2730 q2732 qs43 mH_o rfl rfl rfl (Nat.le_of_ble_eq_true rfl) (Nat.le_of_ble_eq_true rfl) (by omega) ?_
    rintro _ _ - - ⟨rfl, rfl⟩
    refine aft_0 (pc2 := 26) ?_ rfl
    first | refine wa_aload_n (pc := 26) (y := mX6_addCue) dX6_addCue_26 rfl ?_ | refine wa_aload_nN (pc := 26) (y := mX6_addCue) dX6_addCue_26 rfl ?_ | refine wa_aload_nq (pc := 26) (y := mX6_addCue) dX6_addCue_26 rfl ?_
    refine wa_getf (pc := 27) (y := mX6_addCue) (k := 5) 0 dX6_addCue_27 mH_o rfl q2643 (Or.inl rfl) (Nat.le_of_ble_eq_true rfl) (by rfl) ?_
    refine wa_iconst (pc := 30) (y := mX6_addCue) (Int32.ofNat 0) dX6_addCue_30 rfl ?_
    refine wa_ialoadN (pc := 31) (y := mX6_addCue) dX6_addCue_31 mH_1 (by omega) ?_
    exact wa_ireturn (pc := 32) (y := mX6_addCue) .int dX6_addCue_32 rfl rfl ⟨rfl, rfl⟩
  · rw [show O_addCue f σ n = _ from if_neg e]
    first | refine wa_aload_n (pc := 0) (y := mX6_addCue) dX6_addCue_0 rfl ?_ | refine wa_aload_nN (pc := 0) (y := mX6_addCue) dX6_addCue_0 rfl ?_ | refine wa_aload_nq (pc := 0) (y := mX6_addCue) dX6_addCue_0 rfl ?_
    refine wa_callV (pc := 1) (s_X6_keepState (d := d - 1) (by omega)) dX6_addCue_1 okX6_keepState q2707 q2709 qs39 mH_o rfl rfl rfl (Nat.le_of_ble_eq_true rfl) (Nat.le_of_ble_eq_true rfl) (by omega) ?_
    rintro _ _ - - ⟨rfl, rfl⟩
    refine aft_0 (pc2 := 4) ?_ rfl
    first | refine wa_aload_n (pc := 4) (y := mX6_addCue) dX6_addCue_4 rfl ?_ | refine wa_aload_nN (pc := 4) (y := mX6_addCue) dX6_addCue_4 rfl ?_ | refine wa_aload_nq (pc := 4) (y := mX6_addCue) dX6_addCue_4 rfl ?_
    first | refine wa_aload_n (pc := 5) (y := mX6_addCue) dX6_addCue_5 rfl ?_ | refine wa_aload_nN (pc := 5) (y := mX6_addCue) dX6_addCue_5 rfl ?_ | refine wa_aload_nq (pc := 5) (y := mX6_addCue) dX6_addCue_5 rfl ?_
    refine wa_iload_n (pc := 6) (y := mX6_addCue) dX6_addCue_6 rfl ?_
    refine wa_callV (pc := 7) (s_X6_doAdd (d := d - 1) (by omega) hI) dX6_addCue_7 okX6_doAdd q2712 q2714 qs40 mH_o rfl rfl rfl (Nat.le_of_ble_eq_true rfl) (Nat.le_of_ble_eq_true rfl) (by omega) ?_
    rintro _ _ - - ⟨rfl, rfl⟩
    refine aft_v (pc2 := 10) ?_ rfl
    refine wa_putf (pc := 10) (y := mX6_addCue) (k := 5) 7 .int dX6_addCue_10 mH_o rfl q2650 (Or.inl rfl) (Nat.le_of_ble_eq_true rfl) rfl (by decide +kernel) rfl rfl ?_
    rw [mW_o7]
    first | refine wa_aload_n (pc := 13) (y := mX6_addCue) dX6_addCue_13 rfl ?_ | refine wa_aload_nN (pc := 13) (y := mX6_addCue) dX6_addCue_13 rfl ?_ | refine wa_aload_nq (pc := 13) (y := mX6_addCue) dX6_addCue_13 rfl ?_
    refine wa_getf (pc := 14) (y := mX6_addCue) (k := 5) 7 dX6_addCue_14 mH_o rfl q2650 (Or.inl rfl) (Nat.le_of_ble_eq_true rfl) (by rfl) ?_
    rw [mV_s]
    refine wa_if_le (pc := 17) 22 dX6_addCue_17 rfl (fun hb17 => absurd ((iN_pos (by omega)).mp hb17) e) (fun hb17 => ?_)
    refine wa_iconst (pc := 20) (y := mX6_addCue) (Int32.ofNat 0) dX6_addCue_20 rfl ?_
    exact wa_ireturn (pc := 21) (y := mX6_addCue) .int dX6_addCue_21 rfl rfl ⟨rfl, rfl⟩
theorem s_X6_cueAt {i : Int32} (hd : 1 ≤ d) (hI : Inv f) : MA G d mX6_cueAt [.ref m, .int i] (mH h m f σ) (fun r h' => r = .inl (some (.int (O_cueAt f σ i).2.1)) ∧ h' = mH h m (O_cueAt f σ i).2.2.1 (O_cueAt f σ i).2.2.2) := by
  have hn := hI.1
  show WA _ _ _ 0 [.ref m, .int _] [] _ _
  by_cases e : u i < u (f 0)
  · rw [show O_cueAt f σ i = _ from if_pos e]
    first | refine wa_aload_n (pc := 0) (y := mX6_cueAt) dX6_cueAt_0 rfl ?_ | refine wa_aload_nN (pc := 0) (y := mX6_cueAt) dX6_cueAt_0 rfl ?_ | refine wa_aload_nq (pc := 0) (y := mX6_cueAt) dX6_cueAt_0 rfl ?_
    refine wa_iload_n (pc := 1) (y := mX6_cueAt) dX6_cueAt_1 rfl ?_
    refine wa_iconst (pc := 2) (y := mX6_cueAt) (Int32.ofNat 0) dX6_cueAt_2 rfl ?_
    first | refine wa_aload_n (pc := 3) (y := mX6_cueAt) dX6_cueAt_3 rfl ?_ | refine wa_aload_nN (pc := 3) (y := mX6_cueAt) dX6_cueAt_3 rfl ?_ | refine wa_aload_nq (pc := 3) (y := mX6_cueAt) dX6_cueAt_3 rfl ?_
    refine wa_getf (pc := 4) (y := mX6_cueAt) (k := 5) 0 dX6_cueAt_4 mH_o rfl q2643 (Or.inl rfl) (Nat.le_of_ble_eq_true rfl) (by rfl) ?_
    refine wa_iconst (pc := 7) (y := mX6_cueAt) (Int32.ofNat 0) dX6_cueAt_7 rfl ?_
    refine wa_ialoadU (pc := 8) (y := mX6_cueAt) dX6_cueAt_8 mH_1 (by omega) ?_
    refine wa_iconst (pc := 9) (y := mX6_cueAt) (Int32.ofNat 1) dX6_cueAt_9 rfl ?_
    refine wa_isub (pc := 10) (y := mX6_cueAt) dX6_cueAt_10 ?_
    refine wa_callS (pc := 11) (s_X6_in (d := d - 1)) dX6_cueAt_11 okX6_in q2716 q2717 rfl rfl (Nat.le_of_ble_eq_true rfl) (Nat.le_of_ble_eq_true rfl) (by omega) ?_
    rintro _ _ - - ⟨rfl, rfl⟩
    refine aft_v (pc2 := 14) ?_ rfl
    rw [show inb i (Int32.ofNat 0) (Int32.ofNat (u (f 0)) - Int32.ofNat 1) = true from (inb_lt (by omega)).trans (decide_eq_true e)]
    refine wa_if_eq (pc := 14) 21 dX6_cueAt_14 rfl (fun hb14 => absurd hb14 (by decide)) (fun hb14 => ?_)
    refine wa_iconst (pc := 17) (y := mX6_cueAt) (Int32.ofNat 0) dX6_cueAt_17 rfl ?_
    refine wa_goto (pc := 18) (y := mX6_cueAt) 22 dX6_cueAt_18 rfl ?_
    refine wa_putf (pc := 22) (y := mX6_cueAt) (k := 5) 7 .int dX6_cueAt_22 mH_o rfl q2650 (Or.inl rfl) (Nat.le_of_ble_eq_true rfl) rfl (by decide +kernel) rfl rfl ?_
    rw [mW_o7]
    first | refine wa_aload_n (pc := 25) (y := mX6_cueAt) dX6_cueAt_25 rfl ?_ | refine wa_aload_nN (pc := 25) (y := mX6_cueAt) dX6_cueAt_25 rfl ?_ | refine wa_aload_nq (pc := 25) (y := mX6_cueAt) dX6_cueAt_25 rfl ?_
    refine wa_getf (pc := 26) (y := mX6_cueAt) (k := 5) 7 dX6_cueAt_26 mH_o rfl q2650 (Or.inl rfl) (Nat.le_of_ble_eq_true rfl) (by rfl) ?_
    show WA _ _ _ _ _ (.int (Int32.ofNat 0) :: _) _ _
    refine wa_if_le (pc := 29) 36 dX6_cueAt_29 rfl (fun hb29 => ?_) (fun hb29 => absurd hb29 (by decide))
    clear hb29
    first | refine wa_aload_n (pc := 36) (y := mX6_cueAt) dX6_cueAt_36 rfl ?_ | refine wa_aload_nN (pc := 36) (y := mX6_cueAt) dX6_cueAt_36 rfl ?_ | refine wa_aload_nq (pc := 36) (y := mX6_cueAt) dX6_cueAt_36 rfl ?_
    refine wa_getf (pc := 37) (y := mX6_cueAt) (k := 5) 0 dX6_cueAt_37 mH_o rfl q2643 (Or.inl rfl) (Nat.le_of_ble_eq_true rfl) (by rfl) ?_
    refine wa_iload_n (pc := 40) (y := mX6_cueAt) dX6_cueAt_40 rfl ?_
    rw [← u_self i]
    refine wa_callS (pc := 41) (s_X6_at (d := d - 1)) dX6_cueAt_41 okX6_at q2727 q2728 rfl rfl (Nat.le_of_ble_eq_true rfl) (Nat.le_of_ble_eq_true rfl) (by omega) ?_
    rintro _ _ - - ⟨rfl, rfl⟩
    refine aft_v (pc2 := 44) ?_ rfl
    refine wa_ialoadN (pc := 44) (y := mX6_cueAt) dX6_cueAt_44 mH_1 (by omega) ?_
    exact wa_ireturn (pc := 45) (y := mX6_cueAt) .int dX6_cueAt_45 rfl rfl ⟨by rw [u_self]; rfl, rfl⟩
  · rw [show O_cueAt f σ i = _ from if_neg e]
    first | refine wa_aload_n (pc := 0) (y := mX6_cueAt) dX6_cueAt_0 rfl ?_ | refine wa_aload_nN (pc := 0) (y := mX6_cueAt) dX6_cueAt_0 rfl ?_ | refine wa_aload_nq (pc := 0) (y := mX6_cueAt) dX6_cueAt_0 rfl ?_
    refine wa_iload_n (pc := 1) (y := mX6_cueAt) dX6_cueAt_1 rfl ?_
    refine wa_iconst (pc := 2) (y := mX6_cueAt) (Int32.ofNat 0) dX6_cueAt_2 rfl ?_
    first | refine wa_aload_n (pc := 3) (y := mX6_cueAt) dX6_cueAt_3 rfl ?_ | refine wa_aload_nN (pc := 3) (y := mX6_cueAt) dX6_cueAt_3 rfl ?_ | refine wa_aload_nq (pc := 3) (y := mX6_cueAt) dX6_cueAt_3 rfl ?_
    refine wa_getf (pc := 4) (y := mX6_cueAt) (k := 5) 0 dX6_cueAt_4 mH_o rfl q2643 (Or.inl rfl) (Nat.le_of_ble_eq_true rfl) (by rfl) ?_
    refine wa_iconst (pc := 7) (y := mX6_cueAt) (Int32.ofNat 0) dX6_cueAt_7 rfl ?_
    refine wa_ialoadU (pc := 8) (y := mX6_cueAt) dX6_cueAt_8 mH_1 (by omega) ?_
    refine wa_iconst (pc := 9) (y := mX6_cueAt) (Int32.ofNat 1) dX6_cueAt_9 rfl ?_
    refine wa_isub (pc := 10) (y := mX6_cueAt) dX6_cueAt_10 ?_
    refine wa_callS (pc := 11) (s_X6_in (d := d - 1)) dX6_cueAt_11 okX6_in q2716 q2717 rfl rfl (Nat.le_of_ble_eq_true rfl) (Nat.le_of_ble_eq_true rfl) (by omega) ?_
    rintro _ _ - - ⟨rfl, rfl⟩
    refine aft_v (pc2 := 14) ?_ rfl
    rw [show inb i (Int32.ofNat 0) (Int32.ofNat (u (f 0)) - Int32.ofNat 1) = false from (inb_lt (by omega)).trans (decide_eq_false e)]
    refine wa_if_eq (pc := 14) 21 dX6_cueAt_14 rfl (fun hb14 => ?_) (fun hb14 => absurd rfl hb14)
    refine wa_iconst (pc := 21) (y := mX6_cueAt) (Int32.ofNat 1) dX6_cueAt_21 rfl ?_
    refine wa_putf (pc := 22) (y := mX6_cueAt) (k := 5) 7 .int dX6_cueAt_22 mH_o rfl q2650 (Or.inl rfl) (Nat.le_of_ble_eq_true rfl) rfl (by decide +kernel) rfl rfl ?_
    rw [mW_o7]
    first | refine wa_aload_n (pc := 25) (y := mX6_cueAt) dX6_cueAt_25 rfl ?_ | refine wa_aload_nN (pc := 25) (y := mX6_cueAt) dX6_cueAt_25 rfl ?_ | refine wa_aload_nq (pc := 25) (y := mX6_cueAt) dX6_cueAt_25 rfl ?_
    refine wa_getf (pc := 26) (y := mX6_cueAt) (k := 5) 7 dX6_cueAt_26 mH_o rfl q2650 (Or.inl rfl) (Nat.le_of_ble_eq_true rfl) (by rfl) ?_
    show WA _ _ _ _ _ (.int (Int32.ofNat 1) :: _) _ _
    refine wa_if_le (pc := 29) 36 dX6_cueAt_29 rfl (fun hb29 => absurd hb29 (by decide)) (fun hb29 => ?_)
    clear hb29
    refine wa_iconst (pc := 32) (y := mX6_cueAt) (Int32.ofNat 0) dX6_cueAt_32 rfl ?_
    refine wa_goto (pc := 33) (y := mX6_cueAt) 45 dX6_cueAt_33 rfl ?_
    exact wa_ireturn (pc := 45) (y := mX6_cueAt) .int dX6_cueAt_45 rfl rfl ⟨rfl, rfl⟩
theorem s_X6_setFollow {cue t : Int32} (hd : 3 ≤ d) (hI : Inv f) (hpm : u (σ.2 5) ≤ 6) : MA G d mX6_setFollow [.ref m, .int cue, .int t] (mH h m f σ) (fun r h' => r = .inl (some (.int (O_setFollow f σ cue t).2.1)) ∧ h' = mH h m (O_setFollow f σ cue t).2.2.1 (O_setFollow f σ cue t).2.2.2) := by
  have hn := hI.1
  show WA _ _ _ 0 [.ref m, .int _, .int _, .retAddr 0] [] _ _
  cases hp : pl f cue with
  | none =>
    rw [show O_setFollow f σ cue t = oX f σ 1 by unfold O_setFollow; rw [hp]]
    first | refine wa_aload_n (pc := 0) (y := mX6_setFollow) dX6_setFollow_0 rfl ?_ | refine wa_aload_nN (pc := 0) (y := mX6_setFollow) dX6_setFollow_0 rfl ?_ | refine wa_aload_nq (pc := 0) (y := mX6_setFollow) dX6_setFollow_0 rfl ?_
    first | refine wa_aload_n (pc := 1) (y := mX6_setFollow) dX6_setFollow_1 rfl ?_ | refine wa_aload_nN (pc := 1) (y := mX6_setFollow) dX6_setFollow_1 rfl ?_ | refine wa_aload_nq (pc := 1) (y := mX6_setFollow) dX6_setFollow_1 rfl ?_
    refine wa_iload_n (pc := 2) (y := mX6_setFollow) dX6_setFollow_2 rfl ?_
    refine wa_callV (pc := 3) (s_X6_isCue (d := d - 1) (by omega) hI) dX6_setFollow_3 okX6_isCue q2719 q2721 qs41 mH_o rfl rfl rfl (Nat.le_of_ble_eq_true rfl) (Nat.le_of_ble_eq_true rfl) (by omega) ?_
    rintro _ _ - - ⟨rfl, rfl⟩
    refine aft_v (pc2 := 6) ?_ rfl
    rw [isC_none hp]
    refine wa_if_ne (pc := 6) 13 dX6_setFollow_6 rfl (fun hb6 => absurd rfl hb6) (fun hb6 => ?_)
    refine wa_iconst (pc := 9) (y := mX6_setFollow) (Int32.ofNat 1) dX6_setFollow_9 rfl ?_
    refine wa_goto (pc := 10) (y := mX6_setFollow) 34 dX6_setFollow_10 rfl ?_
    refine wa_putf (pc := 34) (y := mX6_setFollow) (k := 5) 7 .int dX6_setFollow_34 mH_o rfl q2650 (Or.inl rfl) (Nat.le_of_ble_eq_true rfl) rfl (by decide +kernel) rfl rfl ?_
    rw [mW_o7]
    first | refine wa_aload_n (pc := 37) (y := mX6_setFollow) dX6_setFollow_37 rfl ?_ | refine wa_aload_nN (pc := 37) (y := mX6_setFollow) dX6_setFollow_37 rfl ?_ | refine wa_aload_nq (pc := 37) (y := mX6_setFollow) dX6_setFollow_37 rfl ?_
    refine wa_getf (pc := 38) (y := mX6_setFollow) (k := 5) 7 dX6_setFollow_38 mH_o rfl q2650 (Or.inl rfl) (Nat.le_of_ble_eq_true rfl) (by rfl) ?_
    show WA _ _ _ _ _ (.int (Int32.ofNat 1) :: _) _ _
    refine wa_if_le (pc := 41) 46 dX6_setFollow_41 rfl (fun hb41 => absurd hb41 (by decide)) (fun hb41 => ?_)
    clear hb41
    refine wa_iconst (pc := 44) (y := mX6_setFollow) (Int32.ofNat 0) dX6_setFollow_44 rfl ?_
    exact wa_ireturn (pc := 45) (y := mX6_setFollow) .int dX6_setFollow_45 rfl rfl ⟨rfl, rfl⟩
  | some p =>
    have hps := pl_some hp
    have hpp : ∀ (_ : MS), WA G d mX6_setFollow 46 [.ref m, .int cue, .int t, .retAddr 0] [] (mH h m f (mV σ 7 (Int32.ofNat 0))) (fun r h' => r = .inl (some (.int (f (18 + 12 * p + 1)))) ∧ h' = mH h m (upd f (18 + 12 * p + 1) t) (oC f σ)) := by
      intro _
      first | refine wa_aload_n (pc := 46) (y := mX6_setFollow) dX6_setFollow_46 rfl ?_ | refine wa_aload_nN (pc := 46) (y := mX6_setFollow) dX6_setFollow_46 rfl ?_ | refine wa_aload_nq (pc := 46) (y := mX6_setFollow) dX6_setFollow_46 rfl ?_
      refine wa_callV (pc := 47) (s_X6_changes (d := d - 1) (by omega) hpm) dX6_setFollow_47 okX6_changes q2742 q2744 qs44 mH_o rfl rfl rfl (Nat.le_of_ble_eq_true rfl) (Nat.le_of_ble_eq_true rfl) (by omega) ?_
      rintro _ _ - - ⟨rfl, rfl⟩
      refine aft_0 (pc2 := 50) ?_ rfl
      first | refine wa_aload_n (pc := 50) (y := mX6_setFollow) dX6_setFollow_50 rfl ?_ | refine wa_aload_nN (pc := 50) (y := mX6_setFollow) dX6_setFollow_50 rfl ?_ | refine wa_aload_nq (pc := 50) (y := mX6_setFollow) dX6_setFollow_50 rfl ?_
      refine wa_getf (pc := 51) (y := mX6_setFollow) (k := 5) 0 dX6_setFollow_51 mH_o rfl q2643 (Or.inl rfl) (Nat.le_of_ble_eq_true rfl) (by rfl) ?_
      first | refine wa_aload_n (pc := 54) (y := mX6_setFollow) dX6_setFollow_54 rfl ?_ | refine wa_aload_nN (pc := 54) (y := mX6_setFollow) dX6_setFollow_54 rfl ?_ | refine wa_aload_nq (pc := 54) (y := mX6_setFollow) dX6_setFollow_54 rfl ?_
      refine wa_iload_n (pc := 55) (y := mX6_setFollow) dX6_setFollow_55 rfl ?_
      refine wa_callV (pc := 56) (s_X6_placeOf (d := d - 1) (by omega) hI) dX6_setFollow_56 okX6_placeOf q2723 q2725 qs42 mH_o rfl rfl rfl (Nat.le_of_ble_eq_true rfl) (Nat.le_of_ble_eq_true rfl) (by omega) ?_
      rintro _ _ - - ⟨rfl, rfl⟩
      refine aft_v (pc2 := 59) ?_ rfl
      rw [hp, oI_some]
      refine wa_callS (pc := 59) (s_X6_at (d := d - 1)) dX6_setFollow_59 okX6_at q2727 q2728 rfl rfl (Nat.le_of_ble_eq_true rfl) (Nat.le_of_ble_eq_true rfl) (by omega) ?_
      rintro _ _ - - ⟨rfl, rfl⟩
      refine aft_v (pc2 := 62) ?_ rfl
      refine wa_iconst (pc := 62) (y := mX6_setFollow) (Int32.ofNat 1) dX6_setFollow_62 rfl ?_
      first | with_reducible refine wa_iaddN (pc := 63) (y := mX6_setFollow) dX6_setFollow_63 ?_ | refine wa_iadd (pc := 63) (y := mX6_setFollow) dX6_setFollow_63 ?_
      refine wa_ialoadN (pc := 64) (y := mX6_setFollow) dX6_setFollow_64 mH_1 (by omega) ?_
      refine wa_istore_n (pc := 65) (y := mX6_setFollow) dX6_setFollow_65 (Nat.le_of_ble_eq_true rfl) rfl ?_
      change WA _ _ _ _ (List.set _ 3 _) _ _ _
      simp only [List.set_cons_zero, List.set_cons_succ]
      first | refine wa_aload_n (pc := 66) (y := mX6_setFollow) dX6_setFollow_66 rfl ?_ | refine wa_aload_nN (pc := 66) (y := mX6_setFollow) dX6_setFollow_66 rfl ?_ | refine wa_aload_nq (pc := 66) (y := mX6_setFollow) dX6_setFollow_66 rfl ?_
      refine wa_getf (pc := 67) (y := mX6_setFollow) (k := 5) 0 dX6_setFollow_67 mH_o rfl q2643 (Or.inl rfl) (Nat.le_of_ble_eq_true rfl) (by rfl) ?_
      first | refine wa_aload_n (pc := 70) (y := mX6_setFollow) dX6_setFollow_70 rfl ?_ | refine wa_aload_nN (pc := 70) (y := mX6_setFollow) dX6_setFollow_70 rfl ?_ | refine wa_aload_nq (pc := 70) (y := mX6_setFollow) dX6_setFollow_70 rfl ?_
      refine wa_iload_n (pc := 71) (y := mX6_setFollow) dX6_setFollow_71 rfl ?_
      refine wa_callV (pc := 72) (s_X6_placeOf (d := d - 1) (by omega) hI) dX6_setFollow_72 okX6_placeOf q2723 q2725 qs42 mH_o rfl rfl rfl (Nat.le_of_ble_eq_true rfl) (Nat.le_of_ble_eq_true rfl) (by omega) ?_
      rintro _ _ - - ⟨rfl, rfl⟩
      refine aft_v (pc2 := 75) ?_ rfl
      rw [hp, oI_some]
      refine wa_callS (pc := 75) (s_X6_at (d := d - 1)) dX6_setFollow_75 okX6_at q2727 q2728 rfl rfl (Nat.le_of_ble_eq_true rfl) (Nat.le_of_ble_eq_true rfl) (by omega) ?_
      rintro _ _ - - ⟨rfl, rfl⟩
      refine aft_v (pc2 := 78) ?_ rfl
      refine wa_iconst (pc := 78) (y := mX6_setFollow) (Int32.ofNat 1) dX6_setFollow_78 rfl ?_
      first | with_reducible refine wa_iaddN (pc := 79) (y := mX6_setFollow) dX6_setFollow_79 ?_ | refine wa_iadd (pc := 79) (y := mX6_setFollow) dX6_setFollow_79 ?_
      refine wa_iload_n (pc := 80) (y := mX6_setFollow) dX6_setFollow_80 rfl ?_
      refine wa_iastoreN (pc := 81) (y := mX6_setFollow) dX6_setFollow_81 mH_1 (by omega) ?_
      rw [mW_1]
      refine wa_iload_n (pc := 82) (y := mX6_setFollow) dX6_setFollow_82 rfl ?_
      exact wa_ireturn (pc := 83) (y := mX6_setFollow) .int dX6_setFollow_83 rfl rfl ⟨rfl, rfl⟩
    by_cases e : t ≠ -1 ∧ inb t 1 6000 = false
    · rw [show O_setFollow f σ cue t = oX f σ 2 by unfold O_setFollow; rw [hp]; exact if_pos e]
      first | refine wa_aload_n (pc := 0) (y := mX6_setFollow) dX6_setFollow_0 rfl ?_ | refine wa_aload_nN (pc := 0) (y := mX6_setFollow) dX6_setFollow_0 rfl ?_ | refine wa_aload_nq (pc := 0) (y := mX6_setFollow) dX6_setFollow_0 rfl ?_
      first | refine wa_aload_n (pc := 1) (y := mX6_setFollow) dX6_setFollow_1 rfl ?_ | refine wa_aload_nN (pc := 1) (y := mX6_setFollow) dX6_setFollow_1 rfl ?_ | refine wa_aload_nq (pc := 1) (y := mX6_setFollow) dX6_setFollow_1 rfl ?_
      refine wa_iload_n (pc := 2) (y := mX6_setFollow) dX6_setFollow_2 rfl ?_
      refine wa_callV (pc := 3) (s_X6_isCue (d := d - 1) (by omega) hI) dX6_setFollow_3 okX6_isCue q2719 q2721 qs41 mH_o rfl rfl rfl (Nat.le_of_ble_eq_true rfl) (Nat.le_of_ble_eq_true rfl) (by omega) ?_
      rintro _ _ - - ⟨rfl, rfl⟩
      refine aft_v (pc2 := 6) ?_ rfl
      rw [isC_some hp]
      refine wa_if_ne (pc := 6) 13 dX6_setFollow_6 rfl (fun hb6 => ?_) (fun hb6 => absurd hb6 (by decide))
      refine wa_iload_n (pc := 13) (y := mX6_setFollow) dX6_setFollow_13 rfl ?_
      refine wa_iconst (pc := 14) (y := mX6_setFollow) (-1) dX6_setFollow_14 rfl ?_
      refine wa_icmp_eq (pc := 15) 33 dX6_setFollow_15 rfl (fun hb15 => absurd hb15 e.1) (fun hb15 => ?_)
      refine wa_iload_n (pc := 18) (y := mX6_setFollow) dX6_setFollow_18 rfl ?_
      refine wa_iconst (pc := 19) (y := mX6_setFollow) (Int32.ofNat 1) dX6_setFollow_19 rfl ?_
      refine wa_sipush (pc := 20) (y := mX6_setFollow) (Int32.ofNat 6000) dX6_setFollow_20 rfl ?_
      refine wa_callS (pc := 23) (s_X6_in (d := d - 1)) dX6_setFollow_23 okX6_in q2716 q2717 rfl rfl (Nat.le_of_ble_eq_true rfl) (Nat.le_of_ble_eq_true rfl) (by omega) ?_
      rintro _ _ - - ⟨rfl, rfl⟩
      refine aft_v (pc2 := 26) ?_ rfl
      rw [show inb t (Int32.ofNat 1) (Int32.ofNat 6000) = false from e.2]
      refine wa_if_ne (pc := 26) 33 dX6_setFollow_26 rfl (fun hb26 => absurd rfl hb26) (fun hb26 => ?_)
      refine wa_iconst (pc := 29) (y := mX6_setFollow) (Int32.ofNat 2) dX6_setFollow_29 rfl ?_
      refine wa_goto (pc := 30) (y := mX6_setFollow) 34 dX6_setFollow_30 rfl ?_
      refine wa_putf (pc := 34) (y := mX6_setFollow) (k := 5) 7 .int dX6_setFollow_34 mH_o rfl q2650 (Or.inl rfl) (Nat.le_of_ble_eq_true rfl) rfl (by decide +kernel) rfl rfl ?_
      rw [mW_o7]
      first | refine wa_aload_n (pc := 37) (y := mX6_setFollow) dX6_setFollow_37 rfl ?_ | refine wa_aload_nN (pc := 37) (y := mX6_setFollow) dX6_setFollow_37 rfl ?_ | refine wa_aload_nq (pc := 37) (y := mX6_setFollow) dX6_setFollow_37 rfl ?_
      refine wa_getf (pc := 38) (y := mX6_setFollow) (k := 5) 7 dX6_setFollow_38 mH_o rfl q2650 (Or.inl rfl) (Nat.le_of_ble_eq_true rfl) (by rfl) ?_
      show WA _ _ _ _ _ (.int (Int32.ofNat 2) :: _) _ _
      refine wa_if_le (pc := 41) 46 dX6_setFollow_41 rfl (fun hb41 => absurd hb41 (by decide)) (fun hb41 => ?_)
      clear hb41
      refine wa_iconst (pc := 44) (y := mX6_setFollow) (Int32.ofNat 0) dX6_setFollow_44 rfl ?_
      exact wa_ireturn (pc := 45) (y := mX6_setFollow) .int dX6_setFollow_45 rfl rfl ⟨rfl, rfl⟩
    · rw [show O_setFollow f σ cue t = (0, f (18 + 12 * p + 1), upd f (18 + 12 * p + 1) t, oC f σ) by unfold O_setFollow; rw [hp]; exact if_neg e]
      first | refine wa_aload_n (pc := 0) (y := mX6_setFollow) dX6_setFollow_0 rfl ?_ | refine wa_aload_nN (pc := 0) (y := mX6_setFollow) dX6_setFollow_0 rfl ?_ | refine wa_aload_nq (pc := 0) (y := mX6_setFollow) dX6_setFollow_0 rfl ?_
      first | refine wa_aload_n (pc := 1) (y := mX6_setFollow) dX6_setFollow_1 rfl ?_ | refine wa_aload_nN (pc := 1) (y := mX6_setFollow) dX6_setFollow_1 rfl ?_ | refine wa_aload_nq (pc := 1) (y := mX6_setFollow) dX6_setFollow_1 rfl ?_
      refine wa_iload_n (pc := 2) (y := mX6_setFollow) dX6_setFollow_2 rfl ?_
      refine wa_callV (pc := 3) (s_X6_isCue (d := d - 1) (by omega) hI) dX6_setFollow_3 okX6_isCue q2719 q2721 qs41 mH_o rfl rfl rfl (Nat.le_of_ble_eq_true rfl) (Nat.le_of_ble_eq_true rfl) (by omega) ?_
      rintro _ _ - - ⟨rfl, rfl⟩
      refine aft_v (pc2 := 6) ?_ rfl
      rw [isC_some hp]
      refine wa_if_ne (pc := 6) 13 dX6_setFollow_6 rfl (fun hb6 => ?_) (fun hb6 => absurd hb6 (by decide))
      refine wa_iload_n (pc := 13) (y := mX6_setFollow) dX6_setFollow_13 rfl ?_
      refine wa_iconst (pc := 14) (y := mX6_setFollow) (-1) dX6_setFollow_14 rfl ?_
      refine wa_icmp_eq (pc := 15) 33 dX6_setFollow_15 rfl (fun hb15 => ?_) (fun hb15 => ?_)
      · refine wa_iconst (pc := 33) (y := mX6_setFollow) (Int32.ofNat 0) dX6_setFollow_33 rfl ?_
        refine wa_putf (pc := 34) (y := mX6_setFollow) (k := 5) 7 .int dX6_setFollow_34 mH_o rfl q2650 (Or.inl rfl) (Nat.le_of_ble_eq_true rfl) rfl (by decide +kernel) rfl rfl ?_
        rw [mW_o7]
        first | refine wa_aload_n (pc := 37) (y := mX6_setFollow) dX6_setFollow_37 rfl ?_ | refine wa_aload_nN (pc := 37) (y := mX6_setFollow) dX6_setFollow_37 rfl ?_ | refine wa_aload_nq (pc := 37) (y := mX6_setFollow) dX6_setFollow_37 rfl ?_
        refine wa_getf (pc := 38) (y := mX6_setFollow) (k := 5) 7 dX6_setFollow_38 mH_o rfl q2650 (Or.inl rfl) (Nat.le_of_ble_eq_true rfl) (by rfl) ?_
        show WA _ _ _ _ _ (.int (Int32.ofNat 0) :: _) _ _
        refine wa_if_le (pc := 41) 46 dX6_setFollow_41 rfl (fun hb41 => ?_) (fun hb41 => absurd hb41 (by decide))
        clear hb41
        exact hpp σ
      · refine wa_iload_n (pc := 18) (y := mX6_setFollow) dX6_setFollow_18 rfl ?_
        refine wa_iconst (pc := 19) (y := mX6_setFollow) (Int32.ofNat 1) dX6_setFollow_19 rfl ?_
        refine wa_sipush (pc := 20) (y := mX6_setFollow) (Int32.ofNat 6000) dX6_setFollow_20 rfl ?_
        refine wa_callS (pc := 23) (s_X6_in (d := d - 1)) dX6_setFollow_23 okX6_in q2716 q2717 rfl rfl (Nat.le_of_ble_eq_true rfl) (Nat.le_of_ble_eq_true rfl) (by omega) ?_
        rintro _ _ - - ⟨rfl, rfl⟩
        refine aft_v (pc2 := 26) ?_ rfl
        rw [show inb t (Int32.ofNat 1) (Int32.ofNat 6000) = true from by cases e9 : inb t 1 6000 with | true => rfl | false => exact absurd ⟨hb15, e9⟩ e]
        refine wa_if_ne (pc := 26) 33 dX6_setFollow_26 rfl (fun hb26 => ?_) (fun hb26 => absurd hb26 (by decide))
        refine wa_iconst (pc := 33) (y := mX6_setFollow) (Int32.ofNat 0) dX6_setFollow_33 rfl ?_
        refine wa_putf (pc := 34) (y := mX6_setFollow) (k := 5) 7 .int dX6_setFollow_34 mH_o rfl q2650 (Or.inl rfl) (Nat.le_of_ble_eq_true rfl) rfl (by decide +kernel) rfl rfl ?_
        rw [mW_o7]
        first | refine wa_aload_n (pc := 37) (y := mX6_setFollow) dX6_setFollow_37 rfl ?_ | refine wa_aload_nN (pc := 37) (y := mX6_setFollow) dX6_setFollow_37 rfl ?_ | refine wa_aload_nq (pc := 37) (y := mX6_setFollow) dX6_setFollow_37 rfl ?_
        refine wa_getf (pc := 38) (y := mX6_setFollow) (k := 5) 7 dX6_setFollow_38 mH_o rfl q2650 (Or.inl rfl) (Nat.le_of_ble_eq_true rfl) (by rfl) ?_
        show WA _ _ _ _ _ (.int (Int32.ofNat 0) :: _) _ _
        refine wa_if_le (pc := 41) 46 dX6_setFollow_41 rfl (fun hb41 => ?_) (fun hb41 => absurd hb41 (by decide))
        clear hb41
        exact hpp σ
theorem s_X6_setBlock {cue : Int32} {b : Bool} (hd : 4 ≤ d) (hI : Inv f) (hpm : u (σ.2 5) ≤ 6) : MA G d mX6_setBlock [.ref m, .int cue, .int (bI b)] (mH h m f σ) (fun r h' => r = .inl (some (.int (O_setBlock f σ cue b).2.1)) ∧ h' = mH h m (O_setBlock f σ cue b).2.2.1 (O_setBlock f σ cue b).2.2.2) := by
  have hn := hI.1
  show WA _ _ _ 0 [.ref m, .int _, .int _, .retAddr 0, .retAddr 0, .retAddr 0] [] _ _
  cases hp : pl f cue with
  | none =>
    rw [show O_setBlock f σ cue b = oX f σ 1 by unfold O_setBlock; rw [hp]]
    first | refine wa_aload_n (pc := 0) (y := mX6_setBlock) dX6_setBlock_0 rfl ?_ | refine wa_aload_nN (pc := 0) (y := mX6_setBlock) dX6_setBlock_0 rfl ?_ | refine wa_aload_nq (pc := 0) (y := mX6_setBlock) dX6_setBlock_0 rfl ?_
    first | refine wa_aload_n (pc := 1) (y := mX6_setBlock) dX6_setBlock_1 rfl ?_ | refine wa_aload_nN (pc := 1) (y := mX6_setBlock) dX6_setBlock_1 rfl ?_ | refine wa_aload_nq (pc := 1) (y := mX6_setBlock) dX6_setBlock_1 rfl ?_
    refine wa_iload_n (pc := 2) (y := mX6_setBlock) dX6_setBlock_2 rfl ?_
    refine wa_callV (pc := 3) (s_X6_isCue (d := d - 1) (by omega) hI) dX6_setBlock_3 okX6_isCue q2719 q2721 qs41 mH_o rfl rfl rfl (Nat.le_of_ble_eq_true rfl) (Nat.le_of_ble_eq_true rfl) (by omega) ?_
    rintro _ _ - - ⟨rfl, rfl⟩
    refine aft_v (pc2 := 6) ?_ rfl
    rw [isC_none hp]
    refine wa_if_eq (pc := 6) 13 dX6_setBlock_6 rfl (fun hb6 => ?_) (fun hb6 => absurd rfl hb6)
    refine wa_iconst (pc := 13) (y := mX6_setBlock) (Int32.ofNat 1) dX6_setBlock_13 rfl ?_
    refine wa_putf (pc := 14) (y := mX6_setBlock) (k := 5) 7 .int dX6_setBlock_14 mH_o rfl q2650 (Or.inl rfl) (Nat.le_of_ble_eq_true rfl) rfl (by decide +kernel) rfl rfl ?_
    rw [mW_o7]
    first | refine wa_aload_n (pc := 17) (y := mX6_setBlock) dX6_setBlock_17 rfl ?_ | refine wa_aload_nN (pc := 17) (y := mX6_setBlock) dX6_setBlock_17 rfl ?_ | refine wa_aload_nq (pc := 17) (y := mX6_setBlock) dX6_setBlock_17 rfl ?_
    refine wa_getf (pc := 18) (y := mX6_setBlock) (k := 5) 7 dX6_setBlock_18 mH_o rfl q2650 (Or.inl rfl) (Nat.le_of_ble_eq_true rfl) (by rfl) ?_
    show WA _ _ _ _ _ (.int (Int32.ofNat 1) :: _) _ _
    refine wa_if_le (pc := 21) 26 dX6_setBlock_21 rfl (fun hb21 => absurd hb21 (by decide)) (fun hb21 => ?_)
    clear hb21
    refine wa_iconst (pc := 24) (y := mX6_setBlock) (Int32.ofNat 0) dX6_setBlock_24 rfl ?_
    exact wa_ireturn (pc := 25) (y := mX6_setBlock) .int dX6_setBlock_25 rfl rfl ⟨rfl, rfl⟩
  | some p =>
    have hps := pl_some hp
    rw [show O_setBlock f σ cue b = (0, smN (blG f (upd f (18 + 12 * p + 2) (bI b)) p) 12, upd f (18 + 12 * p + 2) (bI b), mA (oC f σ) 8 (klF f ((oC f σ).1 8) (12 * u (f 0)))) by unfold O_setBlock; rw [hp]]
    have gI : Inv (upd f (18 + 12 * p + 2) (bI b)) := by
      obtain ⟨h1, h2, h3, h4, h5, h6⟩ := hI
      refine ⟨by rw [upd_o _ _ (by omega)]; exact h1, by rw [upd_o _ _ (by omega)]; exact h2, fun i hi => ?_, fun i j hij hj => ?_, fun k hk => ?_, fun j k hjk hk => ?_⟩
      · rw [upd_o _ _ (by omega)] at hi
        obtain ⟨a, b9, q, q1, q2⟩ := h3 i hi
        rw [upd_o _ _ (by omega), upd_o _ _ (by omega), upd_o _ _ (by omega), upd_o (j := 162 + 4 * i) _ _ (by omega)]
        exact ⟨a, b9, q, q1, by rw [upd_o _ _ (by omega)]; exact q2⟩
      · rw [upd_o _ _ (by omega)] at hj
        rw [upd_o _ _ (by omega), upd_o _ _ (by omega), upd_o _ _ (by omega), upd_o _ _ (by omega)]
        exact h4 i j hij hj
      · rw [upd_o _ _ (by omega)] at hk
        rw [upd_o (j := 18 + 12 * k) _ _ (by omega), upd_o (j := 18 + 12 * k + 1) _ _ (by omega), upd_o (j := 18 + 12 * k + 3) _ _ (by omega)]
        obtain ⟨a, b9, c9, d9⟩ := h5 k hk
        refine ⟨a, b9, ?_, d9⟩
        by_cases e : k = p
        · rw [e, upd_s]
          cases b
          · exact Or.inl rfl
          · exact Or.inr rfl
        · rw [upd_o _ _ (by omega)]; exact c9
      · rw [upd_o _ _ (by omega)] at hk
        rw [upd_o _ _ (by omega), upd_o _ _ (by omega)]
        exact h6 j k hjk hk
    have g0 : p < u (upd f (18 + 12 * p + 2) (bI b) 0) := by rw [upd_o _ _ (by omega)]; exact hps.1
    have key : ∀ t c, c + t = 12 → WA G d mX6_setBlock 66 [.ref m, .int cue, .int (bI b), .int (Int32.ofNat p), .int (smN (blG f (upd f (18 + 12 * p + 2) (bI b)) p) c), .int (Int32.ofNat c)] [] (mH h m (upd f (18 + 12 * p + 2) (bI b)) (mA (oC f σ) 8 (klF f ((oC f σ).1 8) (12 * u (f 0))))) (fun r h' => r = .inl (some (.int (smN (blG f (upd f (18 + 12 * p + 2) (bI b)) p) 12))) ∧ h' = mH h m (upd f (18 + 12 * p + 2) (bI b)) (mA (oC f σ) 8 (klF f ((oC f σ).1 8) (12 * u (f 0))))) := by
      intro t
      induction t with
      | zero =>
        intro c hc
        obtain rfl : c = 12 := hc
        refine wa_iload (pc := 66) (y := mX6_setBlock) dX6_setBlock_66 rfl ?_
        refine wa_bipush (pc := 68) (y := mX6_setBlock) (Int32.ofNat 12) dX6_setBlock_68 rfl ?_
        refine wa_icmp_ge (pc := 70) 111 dX6_setBlock_70 rfl (fun hb70 => ?_) (fun hb70 => absurd ((iN_le (by omega) (by omega)).mpr (by omega)) hb70)
        refine wa_iload (pc := 111) (y := mX6_setBlock) dX6_setBlock_111 rfl ?_
        exact wa_ireturn (pc := 113) (y := mX6_setBlock) .int dX6_setBlock_113 rfl rfl ⟨rfl, rfl⟩
      | succ t ih =>
        intro c hc
        have ek : klF f ((oC f σ).1 8) (12 * u (f 0)) (12 * p + c) = lvN f c (p + 1) := by
          unfold klF
          rw [if_pos (by omega), show (12 * p + c) % 12 = c by omega, show (12 * p + c) / 12 = p by omega]
        refine wa_iload (pc := 66) (y := mX6_setBlock) dX6_setBlock_66 rfl ?_
        refine wa_bipush (pc := 68) (y := mX6_setBlock) (Int32.ofNat 12) dX6_setBlock_68 rfl ?_
        refine wa_icmp_ge (pc := 70) 111 dX6_setBlock_70 rfl (fun hb70 => absurd ((iN_le (by omega) (by omega)).mp hb70) (by omega)) (fun hb70 => ?_)
        refine wa_iload (pc := 73) (y := mX6_setBlock) dX6_setBlock_73 rfl ?_
        first | refine wa_aload_n (pc := 75) (y := mX6_setBlock) dX6_setBlock_75 rfl ?_ | refine wa_aload_nN (pc := 75) (y := mX6_setBlock) dX6_setBlock_75 rfl ?_ | refine wa_aload_nq (pc := 75) (y := mX6_setBlock) dX6_setBlock_75 rfl ?_
        refine wa_iload_n (pc := 76) (y := mX6_setBlock) dX6_setBlock_76 rfl ?_
        refine wa_iload (pc := 77) (y := mX6_setBlock) dX6_setBlock_77 rfl ?_
        refine wa_callV (pc := 79) (s_X6_levelIn (d := d - 1) (by omega) gI g0 (by omega)) dX6_setBlock_79 okX6_levelIn q2754 q2756 qs46 mH_o rfl rfl rfl (Nat.le_of_ble_eq_true rfl) (Nat.le_of_ble_eq_true rfl) (by omega) ?_
        rintro _ _ - - ⟨rfl, rfl⟩
        refine aft_v (pc2 := 82) ?_ rfl
        first | refine wa_aload_n (pc := 82) (y := mX6_setBlock) dX6_setBlock_82 rfl ?_ | refine wa_aload_nN (pc := 82) (y := mX6_setBlock) dX6_setBlock_82 rfl ?_ | refine wa_aload_nq (pc := 82) (y := mX6_setBlock) dX6_setBlock_82 rfl ?_
        refine wa_getf (pc := 83) (y := mX6_setBlock) (k := 5) 8 dX6_setBlock_83 mH_o rfl q2651 (Or.inl rfl) (Nat.le_of_ble_eq_true rfl) (by rfl) ?_
        refine wa_bipush (pc := 86) (y := mX6_setBlock) (Int32.ofNat 12) dX6_setBlock_86 rfl ?_
        refine wa_iload_n (pc := 88) (y := mX6_setBlock) dX6_setBlock_88 rfl ?_
        first | with_reducible refine wa_imulN (pc := 89) (y := mX6_setBlock) dX6_setBlock_89 ?_ | refine wa_imul (pc := 89) (y := mX6_setBlock) dX6_setBlock_89 ?_
        refine wa_iload (pc := 90) (y := mX6_setBlock) dX6_setBlock_90 rfl ?_
        first | with_reducible refine wa_iaddN (pc := 92) (y := mX6_setBlock) dX6_setBlock_92 ?_ | refine wa_iadd (pc := 92) (y := mX6_setBlock) dX6_setBlock_92 ?_
        refine wa_ialoadN (pc := 93) (y := mX6_setBlock) dX6_setBlock_93 mH_5 (by omega) ?_
        rw [mA_s, ek]
        refine wa_icmp_eq (pc := 94) 101 dX6_setBlock_94 rfl (fun hb94 => ?_) (fun hb94 => ?_)
        · have e : blG f (upd f (18 + 12 * p + 2) (bI b)) p c = Int32.ofNat 0 := if_pos hb94
          refine wa_iconst (pc := 101) (y := mX6_setBlock) (Int32.ofNat 0) dX6_setBlock_101 rfl ?_
          first | with_reducible refine wa_iaddN (pc := 102) (y := mX6_setBlock) dX6_setBlock_102 ?_ | refine wa_iadd (pc := 102) (y := mX6_setBlock) dX6_setBlock_102 ?_
          rw [smN_s e]
          refine wa_istore (pc := 103) (y := mX6_setBlock) dX6_setBlock_103 (Nat.le_of_ble_eq_true rfl) rfl ?_
          simp only [List.set_cons_zero, List.set_cons_succ]
          first | with_reducible refine wa_iincN (pc := 105) (y := mX6_setBlock) dX6_setBlock_105 rfl (Nat.le_of_ble_eq_true rfl) rfl ?_ | refine wa_iinc (pc := 105) (y := mX6_setBlock) (1) dX6_setBlock_105 rfl rfl (Nat.le_of_ble_eq_true rfl) rfl ?_
          simp only [List.set_cons_zero, List.set_cons_succ]
          refine wa_goto (pc := 108) (y := mX6_setBlock) 66 dX6_setBlock_108 rfl ?_
          exact ih (c + 1) (by omega)
        · have e : blG f (upd f (18 + 12 * p + 2) (bI b)) p c = Int32.ofNat 1 := if_neg hb94
          refine wa_iconst (pc := 97) (y := mX6_setBlock) (Int32.ofNat 1) dX6_setBlock_97 rfl ?_
          refine wa_goto (pc := 98) (y := mX6_setBlock) 102 dX6_setBlock_98 rfl ?_
          first | with_reducible refine wa_iaddN (pc := 102) (y := mX6_setBlock) dX6_setBlock_102 ?_ | refine wa_iadd (pc := 102) (y := mX6_setBlock) dX6_setBlock_102 ?_
          rw [smN_s e]
          refine wa_istore (pc := 103) (y := mX6_setBlock) dX6_setBlock_103 (Nat.le_of_ble_eq_true rfl) rfl ?_
          simp only [List.set_cons_zero, List.set_cons_succ]
          first | with_reducible refine wa_iincN (pc := 105) (y := mX6_setBlock) dX6_setBlock_105 rfl (Nat.le_of_ble_eq_true rfl) rfl ?_ | refine wa_iinc (pc := 105) (y := mX6_setBlock) (1) dX6_setBlock_105 rfl rfl (Nat.le_of_ble_eq_true rfl) rfl ?_
          simp only [List.set_cons_zero, List.set_cons_succ]
          refine wa_goto (pc := 108) (y := mX6_setBlock) 66 dX6_setBlock_108 rfl ?_
          exact ih (c + 1) (by omega)
    first | refine wa_aload_n (pc := 0) (y := mX6_setBlock) dX6_setBlock_0 rfl ?_ | refine wa_aload_nN (pc := 0) (y := mX6_setBlock) dX6_setBlock_0 rfl ?_ | refine wa_aload_nq (pc := 0) (y := mX6_setBlock) dX6_setBlock_0 rfl ?_
    first | refine wa_aload_n (pc := 1) (y := mX6_setBlock) dX6_setBlock_1 rfl ?_ | refine wa_aload_nN (pc := 1) (y := mX6_setBlock) dX6_setBlock_1 rfl ?_ | refine wa_aload_nq (pc := 1) (y := mX6_setBlock) dX6_setBlock_1 rfl ?_
    refine wa_iload_n (pc := 2) (y := mX6_setBlock) dX6_setBlock_2 rfl ?_
    refine wa_callV (pc := 3) (s_X6_isCue (d := d - 1) (by omega) hI) dX6_setBlock_3 okX6_isCue q2719 q2721 qs41 mH_o rfl rfl rfl (Nat.le_of_ble_eq_true rfl) (Nat.le_of_ble_eq_true rfl) (by omega) ?_
    rintro _ _ - - ⟨rfl, rfl⟩
    refine aft_v (pc2 := 6) ?_ rfl
    rw [isC_some hp]
    refine wa_if_eq (pc := 6) 13 dX6_setBlock_6 rfl (fun hb6 => absurd hb6 (by decide)) (fun hb6 => ?_)
    refine wa_iconst (pc := 9) (y := mX6_setBlock) (Int32.ofNat 0) dX6_setBlock_9 rfl ?_
    refine wa_goto (pc := 10) (y := mX6_setBlock) 14 dX6_setBlock_10 rfl ?_
    refine wa_putf (pc := 14) (y := mX6_setBlock) (k := 5) 7 .int dX6_setBlock_14 mH_o rfl q2650 (Or.inl rfl) (Nat.le_of_ble_eq_true rfl) rfl (by decide +kernel) rfl rfl ?_
    rw [mW_o7]
    first | refine wa_aload_n (pc := 17) (y := mX6_setBlock) dX6_setBlock_17 rfl ?_ | refine wa_aload_nN (pc := 17) (y := mX6_setBlock) dX6_setBlock_17 rfl ?_ | refine wa_aload_nq (pc := 17) (y := mX6_setBlock) dX6_setBlock_17 rfl ?_
    refine wa_getf (pc := 18) (y := mX6_setBlock) (k := 5) 7 dX6_setBlock_18 mH_o rfl q2650 (Or.inl rfl) (Nat.le_of_ble_eq_true rfl) (by rfl) ?_
    show WA _ _ _ _ _ (.int (Int32.ofNat 0) :: _) _ _
    refine wa_if_le (pc := 21) 26 dX6_setBlock_21 rfl (fun hb21 => ?_) (fun hb21 => absurd hb21 (by decide))
    clear hb21
    first | refine wa_aload_n (pc := 26) (y := mX6_setBlock) dX6_setBlock_26 rfl ?_ | refine wa_aload_nN (pc := 26) (y := mX6_setBlock) dX6_setBlock_26 rfl ?_ | refine wa_aload_nq (pc := 26) (y := mX6_setBlock) dX6_setBlock_26 rfl ?_
    refine wa_callV (pc := 27) (s_X6_changes (d := d - 1) (by omega) hpm) dX6_setBlock_27 okX6_changes q2742 q2744 qs44 mH_o rfl rfl rfl (Nat.le_of_ble_eq_true rfl) (Nat.le_of_ble_eq_true rfl) (by omega) ?_
    rintro _ _ - - ⟨rfl, rfl⟩
    refine aft_0 (pc2 := 30) ?_ rfl
    first | refine wa_aload_n (pc := 30) (y := mX6_setBlock) dX6_setBlock_30 rfl ?_ | refine wa_aload_nN (pc := 30) (y := mX6_setBlock) dX6_setBlock_30 rfl ?_ | refine wa_aload_nq (pc := 30) (y := mX6_setBlock) dX6_setBlock_30 rfl ?_
    refine wa_callV (pc := 31) (s_X6_keepLevels (d := d - 1) (by omega) hI) dX6_setBlock_31 okX6_keepLevels q2750 q2752 qs45 mH_o rfl rfl rfl (Nat.le_of_ble_eq_true rfl) (Nat.le_of_ble_eq_true rfl) (by omega) ?_
    rintro _ _ - - ⟨rfl, rfl⟩
    refine aft_0 (pc2 := 34) ?_ rfl
    first | refine wa_aload_n (pc := 34) (y := mX6_setBlock) dX6_setBlock_34 rfl ?_ | refine wa_aload_nN (pc := 34) (y := mX6_setBlock) dX6_setBlock_34 rfl ?_ | refine wa_aload_nq (pc := 34) (y := mX6_setBlock) dX6_setBlock_34 rfl ?_
    refine wa_iload_n (pc := 35) (y := mX6_setBlock) dX6_setBlock_35 rfl ?_
    refine wa_callV (pc := 36) (s_X6_placeOf (d := d - 1) (by omega) hI) dX6_setBlock_36 okX6_placeOf q2723 q2725 qs42 mH_o rfl rfl rfl (Nat.le_of_ble_eq_true rfl) (Nat.le_of_ble_eq_true rfl) (by omega) ?_
    rintro _ _ - - ⟨rfl, rfl⟩
    refine aft_v (pc2 := 39) ?_ rfl
    rw [hp, oI_some]
    refine wa_istore_n (pc := 39) (y := mX6_setBlock) dX6_setBlock_39 (Nat.le_of_ble_eq_true rfl) rfl ?_
    change WA _ _ _ _ (List.set _ 3 _) _ _ _
    simp only [List.set_cons_zero, List.set_cons_succ]
    first | refine wa_aload_n (pc := 40) (y := mX6_setBlock) dX6_setBlock_40 rfl ?_ | refine wa_aload_nN (pc := 40) (y := mX6_setBlock) dX6_setBlock_40 rfl ?_ | refine wa_aload_nq (pc := 40) (y := mX6_setBlock) dX6_setBlock_40 rfl ?_
    refine wa_getf (pc := 41) (y := mX6_setBlock) (k := 5) 0 dX6_setBlock_41 mH_o rfl q2643 (Or.inl rfl) (Nat.le_of_ble_eq_true rfl) (by rfl) ?_
    refine wa_iload_n (pc := 44) (y := mX6_setBlock) dX6_setBlock_44 rfl ?_
    refine wa_callS (pc := 45) (s_X6_at (d := d - 1)) dX6_setBlock_45 okX6_at q2727 q2728 rfl rfl (Nat.le_of_ble_eq_true rfl) (Nat.le_of_ble_eq_true rfl) (by omega) ?_
    rintro _ _ - - ⟨rfl, rfl⟩
    refine aft_v (pc2 := 48) ?_ rfl
    refine wa_iconst (pc := 48) (y := mX6_setBlock) (Int32.ofNat 2) dX6_setBlock_48 rfl ?_
    first | with_reducible refine wa_iaddN (pc := 49) (y := mX6_setBlock) dX6_setBlock_49 ?_ | refine wa_iadd (pc := 49) (y := mX6_setBlock) dX6_setBlock_49 ?_
    refine wa_iload_n (pc := 50) (y := mX6_setBlock) dX6_setBlock_50 rfl ?_
    refine wa_if_eq (pc := 51) 58 dX6_setBlock_51 rfl (fun hb51 => ?_) (fun hb51 => ?_)
    · obtain rfl := bI_0.mp hb51
      refine wa_iconst (pc := 58) (y := mX6_setBlock) (Int32.ofNat 0) dX6_setBlock_58 rfl ?_
      refine wa_iastoreN (pc := 59) (y := mX6_setBlock) dX6_setBlock_59 mH_1 (by omega) ?_
      rw [mW_1]
      refine wa_iconst (pc := 60) (y := mX6_setBlock) (Int32.ofNat 0) dX6_setBlock_60 rfl ?_
      refine wa_istore (pc := 61) (y := mX6_setBlock) dX6_setBlock_61 (Nat.le_of_ble_eq_true rfl) rfl ?_
      simp only [List.set_cons_zero, List.set_cons_succ]
      refine wa_iconst (pc := 63) (y := mX6_setBlock) (Int32.ofNat 0) dX6_setBlock_63 rfl ?_
      refine wa_istore (pc := 64) (y := mX6_setBlock) dX6_setBlock_64 (Nat.le_of_ble_eq_true rfl) rfl ?_
      simp only [List.set_cons_zero, List.set_cons_succ]
      exact key 12 0 (by omega)
    · obtain rfl := bI_n0 hb51
      refine wa_iconst (pc := 54) (y := mX6_setBlock) (Int32.ofNat 1) dX6_setBlock_54 rfl ?_
      refine wa_goto (pc := 55) (y := mX6_setBlock) 59 dX6_setBlock_55 rfl ?_
      refine wa_iastoreN (pc := 59) (y := mX6_setBlock) dX6_setBlock_59 mH_1 (by omega) ?_
      rw [mW_1]
      refine wa_iconst (pc := 60) (y := mX6_setBlock) (Int32.ofNat 0) dX6_setBlock_60 rfl ?_
      refine wa_istore (pc := 61) (y := mX6_setBlock) dX6_setBlock_61 (Nat.le_of_ble_eq_true rfl) rfl ?_
      simp only [List.set_cons_zero, List.set_cons_succ]
      refine wa_iconst (pc := 63) (y := mX6_setBlock) (Int32.ofNat 0) dX6_setBlock_63 rfl ?_
      refine wa_istore (pc := 64) (y := mX6_setBlock) dX6_setBlock_64 (Nat.le_of_ble_eq_true rfl) rfl ?_
      simp only [List.set_cons_zero, List.set_cons_succ]
      exact key 12 0 (by omega)
theorem s_X6_setProtected {cue : Int32} {b : Bool} (hd : 3 ≤ d) (hI : Inv f) (hpm : u (σ.2 5) ≤ 6) : MA G d mX6_setProtected [.ref m, .int cue, .int (bI b)] (mH h m f σ) (fun r h' => r = .inl (some (.int (O_setProtected f σ cue b).2.1)) ∧ h' = mH h m (O_setProtected f σ cue b).2.2.1 (O_setProtected f σ cue b).2.2.2) := by
  have hn := hI.1
  show WA _ _ _ 0 [.ref m, .int _, .int _, .retAddr 0, .retAddr 0] [] _ _
  cases hp : pl f cue with
  | none =>
    rw [show O_setProtected f σ cue b = oX f σ 1 by unfold O_setProtected; rw [hp]]
    first | refine wa_aload_n (pc := 0) (y := mX6_setProtected) dX6_setProtected_0 rfl ?_ | refine wa_aload_nN (pc := 0) (y := mX6_setProtected) dX6_setProtected_0 rfl ?_ | refine wa_aload_nq (pc := 0) (y := mX6_setProtected) dX6_setProtected_0 rfl ?_
    first | refine wa_aload_n (pc := 1) (y := mX6_setProtected) dX6_setProtected_1 rfl ?_ | refine wa_aload_nN (pc := 1) (y := mX6_setProtected) dX6_setProtected_1 rfl ?_ | refine wa_aload_nq (pc := 1) (y := mX6_setProtected) dX6_setProtected_1 rfl ?_
    refine wa_iload_n (pc := 2) (y := mX6_setProtected) dX6_setProtected_2 rfl ?_
    refine wa_callV (pc := 3) (s_X6_isCue (d := d - 1) (by omega) hI) dX6_setProtected_3 okX6_isCue q2719 q2721 qs41 mH_o rfl rfl rfl (Nat.le_of_ble_eq_true rfl) (Nat.le_of_ble_eq_true rfl) (by omega) ?_
    rintro _ _ - - ⟨rfl, rfl⟩
    refine aft_v (pc2 := 6) ?_ rfl
    rw [isC_none hp]
    refine wa_if_eq (pc := 6) 13 dX6_setProtected_6 rfl (fun hb6 => ?_) (fun hb6 => absurd rfl hb6)
    refine wa_iconst (pc := 13) (y := mX6_setProtected) (Int32.ofNat 1) dX6_setProtected_13 rfl ?_
    refine wa_putf (pc := 14) (y := mX6_setProtected) (k := 5) 7 .int dX6_setProtected_14 mH_o rfl q2650 (Or.inl rfl) (Nat.le_of_ble_eq_true rfl) rfl (by decide +kernel) rfl rfl ?_
    rw [mW_o7]
    first | refine wa_aload_n (pc := 17) (y := mX6_setProtected) dX6_setProtected_17 rfl ?_ | refine wa_aload_nN (pc := 17) (y := mX6_setProtected) dX6_setProtected_17 rfl ?_ | refine wa_aload_nq (pc := 17) (y := mX6_setProtected) dX6_setProtected_17 rfl ?_
    refine wa_getf (pc := 18) (y := mX6_setProtected) (k := 5) 7 dX6_setProtected_18 mH_o rfl q2650 (Or.inl rfl) (Nat.le_of_ble_eq_true rfl) (by rfl) ?_
    show WA _ _ _ _ _ (.int (Int32.ofNat 1) :: _) _ _
    refine wa_if_le (pc := 21) 26 dX6_setProtected_21 rfl (fun hb21 => absurd hb21 (by decide)) (fun hb21 => ?_)
    clear hb21
    refine wa_iconst (pc := 24) (y := mX6_setProtected) (Int32.ofNat 0) dX6_setProtected_24 rfl ?_
    exact wa_ireturn (pc := 25) (y := mX6_setProtected) .boolean dX6_setProtected_25 rfl rfl ⟨rfl, rfl⟩
  | some p =>
    have hps := pl_some hp
    rw [show O_setProtected f σ cue b = (0, bI (decide (f (18 + 12 * p + 3) = 1)), upd f (18 + 12 * p + 3) (bI b), oC f σ) by unfold O_setProtected; rw [hp]]
    first | refine wa_aload_n (pc := 0) (y := mX6_setProtected) dX6_setProtected_0 rfl ?_ | refine wa_aload_nN (pc := 0) (y := mX6_setProtected) dX6_setProtected_0 rfl ?_ | refine wa_aload_nq (pc := 0) (y := mX6_setProtected) dX6_setProtected_0 rfl ?_
    first | refine wa_aload_n (pc := 1) (y := mX6_setProtected) dX6_setProtected_1 rfl ?_ | refine wa_aload_nN (pc := 1) (y := mX6_setProtected) dX6_setProtected_1 rfl ?_ | refine wa_aload_nq (pc := 1) (y := mX6_setProtected) dX6_setProtected_1 rfl ?_
    refine wa_iload_n (pc := 2) (y := mX6_setProtected) dX6_setProtected_2 rfl ?_
    refine wa_callV (pc := 3) (s_X6_isCue (d := d - 1) (by omega) hI) dX6_setProtected_3 okX6_isCue q2719 q2721 qs41 mH_o rfl rfl rfl (Nat.le_of_ble_eq_true rfl) (Nat.le_of_ble_eq_true rfl) (by omega) ?_
    rintro _ _ - - ⟨rfl, rfl⟩
    refine aft_v (pc2 := 6) ?_ rfl
    rw [isC_some hp]
    refine wa_if_eq (pc := 6) 13 dX6_setProtected_6 rfl (fun hb6 => absurd hb6 (by decide)) (fun hb6 => ?_)
    refine wa_iconst (pc := 9) (y := mX6_setProtected) (Int32.ofNat 0) dX6_setProtected_9 rfl ?_
    refine wa_goto (pc := 10) (y := mX6_setProtected) 14 dX6_setProtected_10 rfl ?_
    refine wa_putf (pc := 14) (y := mX6_setProtected) (k := 5) 7 .int dX6_setProtected_14 mH_o rfl q2650 (Or.inl rfl) (Nat.le_of_ble_eq_true rfl) rfl (by decide +kernel) rfl rfl ?_
    rw [mW_o7]
    first | refine wa_aload_n (pc := 17) (y := mX6_setProtected) dX6_setProtected_17 rfl ?_ | refine wa_aload_nN (pc := 17) (y := mX6_setProtected) dX6_setProtected_17 rfl ?_ | refine wa_aload_nq (pc := 17) (y := mX6_setProtected) dX6_setProtected_17 rfl ?_
    refine wa_getf (pc := 18) (y := mX6_setProtected) (k := 5) 7 dX6_setProtected_18 mH_o rfl q2650 (Or.inl rfl) (Nat.le_of_ble_eq_true rfl) (by rfl) ?_
    show WA _ _ _ _ _ (.int (Int32.ofNat 0) :: _) _ _
    refine wa_if_le (pc := 21) 26 dX6_setProtected_21 rfl (fun hb21 => ?_) (fun hb21 => absurd hb21 (by decide))
    clear hb21
    first | refine wa_aload_n (pc := 26) (y := mX6_setProtected) dX6_setProtected_26 rfl ?_ | refine wa_aload_nN (pc := 26) (y := mX6_setProtected) dX6_setProtected_26 rfl ?_ | refine wa_aload_nq (pc := 26) (y := mX6_setProtected) dX6_setProtected_26 rfl ?_
    refine wa_callV (pc := 27) (s_X6_changes (d := d - 1) (by omega) hpm) dX6_setProtected_27 okX6_changes q2742 q2744 qs44 mH_o rfl rfl rfl (Nat.le_of_ble_eq_true rfl) (Nat.le_of_ble_eq_true rfl) (by omega) ?_
    rintro _ _ - - ⟨rfl, rfl⟩
    refine aft_0 (pc2 := 30) ?_ rfl
    first | refine wa_aload_n (pc := 30) (y := mX6_setProtected) dX6_setProtected_30 rfl ?_ | refine wa_aload_nN (pc := 30) (y := mX6_setProtected) dX6_setProtected_30 rfl ?_ | refine wa_aload_nq (pc := 30) (y := mX6_setProtected) dX6_setProtected_30 rfl ?_
    refine wa_iload_n (pc := 31) (y := mX6_setProtected) dX6_setProtected_31 rfl ?_
    refine wa_callV (pc := 32) (s_X6_placeOf (d := d - 1) (by omega) hI) dX6_setProtected_32 okX6_placeOf q2723 q2725 qs42 mH_o rfl rfl rfl (Nat.le_of_ble_eq_true rfl) (Nat.le_of_ble_eq_true rfl) (by omega) ?_
    rintro _ _ - - ⟨rfl, rfl⟩
    refine aft_v (pc2 := 35) ?_ rfl
    rw [hp, oI_some]
    refine wa_callS (pc := 35) (s_X6_at (d := d - 1)) dX6_setProtected_35 okX6_at q2727 q2728 rfl rfl (Nat.le_of_ble_eq_true rfl) (Nat.le_of_ble_eq_true rfl) (by omega) ?_
    rintro _ _ - - ⟨rfl, rfl⟩
    refine aft_v (pc2 := 38) ?_ rfl
    refine wa_iconst (pc := 38) (y := mX6_setProtected) (Int32.ofNat 3) dX6_setProtected_38 rfl ?_
    first | with_reducible refine wa_iaddN (pc := 39) (y := mX6_setProtected) dX6_setProtected_39 ?_ | refine wa_iadd (pc := 39) (y := mX6_setProtected) dX6_setProtected_39 ?_
    refine wa_istore_n (pc := 40) (y := mX6_setProtected) dX6_setProtected_40 (Nat.le_of_ble_eq_true rfl) rfl ?_
    change WA _ _ _ _ (List.set _ 3 _) _ _ _
    simp only [List.set_cons_zero, List.set_cons_succ]
    first | refine wa_aload_n (pc := 41) (y := mX6_setProtected) dX6_setProtected_41 rfl ?_ | refine wa_aload_nN (pc := 41) (y := mX6_setProtected) dX6_setProtected_41 rfl ?_ | refine wa_aload_nq (pc := 41) (y := mX6_setProtected) dX6_setProtected_41 rfl ?_
    refine wa_getf (pc := 42) (y := mX6_setProtected) (k := 5) 0 dX6_setProtected_42 mH_o rfl q2643 (Or.inl rfl) (Nat.le_of_ble_eq_true rfl) (by rfl) ?_
    refine wa_iload_n (pc := 45) (y := mX6_setProtected) dX6_setProtected_45 rfl ?_
    refine wa_ialoadN (pc := 46) (y := mX6_setProtected) dX6_setProtected_46 mH_1 (by omega) ?_
    refine wa_iconst (pc := 47) (y := mX6_setProtected) (Int32.ofNat 1) dX6_setProtected_47 rfl ?_
    refine wa_icmp_ne (pc := 48) 55 dX6_setProtected_48 rfl (fun hb48 => ?_) (fun hb48 => ?_)
    · rw [show decide (f (18 + 12 * p + 3) = 1) = false from decide_eq_false hb48]
      refine wa_iconst (pc := 55) (y := mX6_setProtected) (Int32.ofNat 0) dX6_setProtected_55 rfl ?_
      refine wa_istore (pc := 56) (y := mX6_setProtected) dX6_setProtected_56 (Nat.le_of_ble_eq_true rfl) rfl ?_
      simp only [List.set_cons_zero, List.set_cons_succ]
      first | refine wa_aload_n (pc := 58) (y := mX6_setProtected) dX6_setProtected_58 rfl ?_ | refine wa_aload_nN (pc := 58) (y := mX6_setProtected) dX6_setProtected_58 rfl ?_ | refine wa_aload_nq (pc := 58) (y := mX6_setProtected) dX6_setProtected_58 rfl ?_
      refine wa_getf (pc := 59) (y := mX6_setProtected) (k := 5) 0 dX6_setProtected_59 mH_o rfl q2643 (Or.inl rfl) (Nat.le_of_ble_eq_true rfl) (by rfl) ?_
      refine wa_iload_n (pc := 62) (y := mX6_setProtected) dX6_setProtected_62 rfl ?_
      refine wa_iload_n (pc := 63) (y := mX6_setProtected) dX6_setProtected_63 rfl ?_
      refine wa_if_eq (pc := 64) 71 dX6_setProtected_64 rfl (fun hb64 => ?_) (fun hb64 => ?_)
      · obtain rfl := bI_0.mp hb64
        refine wa_iconst (pc := 71) (y := mX6_setProtected) (Int32.ofNat 0) dX6_setProtected_71 rfl ?_
        refine wa_iastoreN (pc := 72) (y := mX6_setProtected) dX6_setProtected_72 mH_1 (by omega) ?_
        rw [mW_1]
        refine wa_iload (pc := 73) (y := mX6_setProtected) dX6_setProtected_73 rfl ?_
        exact wa_ireturn (pc := 75) (y := mX6_setProtected) .boolean dX6_setProtected_75 rfl rfl ⟨rfl, rfl⟩
      · obtain rfl := bI_n0 hb64
        refine wa_iconst (pc := 67) (y := mX6_setProtected) (Int32.ofNat 1) dX6_setProtected_67 rfl ?_
        refine wa_goto (pc := 68) (y := mX6_setProtected) 72 dX6_setProtected_68 rfl ?_
        refine wa_iastoreN (pc := 72) (y := mX6_setProtected) dX6_setProtected_72 mH_1 (by omega) ?_
        rw [mW_1]
        refine wa_iload (pc := 73) (y := mX6_setProtected) dX6_setProtected_73 rfl ?_
        exact wa_ireturn (pc := 75) (y := mX6_setProtected) .boolean dX6_setProtected_75 rfl rfl ⟨rfl, rfl⟩
    · rw [show decide (f (18 + 12 * p + 3) = 1) = true from decide_eq_true hb48]
      refine wa_iconst (pc := 51) (y := mX6_setProtected) (Int32.ofNat 1) dX6_setProtected_51 rfl ?_
      refine wa_goto (pc := 52) (y := mX6_setProtected) 56 dX6_setProtected_52 rfl ?_
      refine wa_istore (pc := 56) (y := mX6_setProtected) dX6_setProtected_56 (Nat.le_of_ble_eq_true rfl) rfl ?_
      simp only [List.set_cons_zero, List.set_cons_succ]
      first | refine wa_aload_n (pc := 58) (y := mX6_setProtected) dX6_setProtected_58 rfl ?_ | refine wa_aload_nN (pc := 58) (y := mX6_setProtected) dX6_setProtected_58 rfl ?_ | refine wa_aload_nq (pc := 58) (y := mX6_setProtected) dX6_setProtected_58 rfl ?_
      refine wa_getf (pc := 59) (y := mX6_setProtected) (k := 5) 0 dX6_setProtected_59 mH_o rfl q2643 (Or.inl rfl) (Nat.le_of_ble_eq_true rfl) (by rfl) ?_
      refine wa_iload_n (pc := 62) (y := mX6_setProtected) dX6_setProtected_62 rfl ?_
      refine wa_iload_n (pc := 63) (y := mX6_setProtected) dX6_setProtected_63 rfl ?_
      refine wa_if_eq (pc := 64) 71 dX6_setProtected_64 rfl (fun hb64 => ?_) (fun hb64 => ?_)
      · obtain rfl := bI_0.mp hb64
        refine wa_iconst (pc := 71) (y := mX6_setProtected) (Int32.ofNat 0) dX6_setProtected_71 rfl ?_
        refine wa_iastoreN (pc := 72) (y := mX6_setProtected) dX6_setProtected_72 mH_1 (by omega) ?_
        rw [mW_1]
        refine wa_iload (pc := 73) (y := mX6_setProtected) dX6_setProtected_73 rfl ?_
        exact wa_ireturn (pc := 75) (y := mX6_setProtected) .boolean dX6_setProtected_75 rfl rfl ⟨rfl, rfl⟩
      · obtain rfl := bI_n0 hb64
        refine wa_iconst (pc := 67) (y := mX6_setProtected) (Int32.ofNat 1) dX6_setProtected_67 rfl ?_
        refine wa_goto (pc := 68) (y := mX6_setProtected) 72 dX6_setProtected_68 rfl ?_
        refine wa_iastoreN (pc := 72) (y := mX6_setProtected) dX6_setProtected_72 mH_1 (by omega) ?_
        rw [mW_1]
        refine wa_iload (pc := 73) (y := mX6_setProtected) dX6_setProtected_73 rfl ?_
        exact wa_ireturn (pc := 75) (y := mX6_setProtected) .boolean dX6_setProtected_75 rfl rfl ⟨rfl, rfl⟩
end MTOP
