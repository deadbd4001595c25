/-! ===== CueStackModel: what reads ===== -/
def smN (g : Nat → Int32) : Nat → Int32
  | 0 => 0
  | k + 1 => smN g k + g k
theorem smN_s {g : Nat → Int32} {k : Nat} {v : Int32} (e : g k = v) : smN g k + v = smN g (k + 1) := by rw [← e]; rfl
def bit (k : Nat) : Int32 := Int32.ofNat 1 <<< (Int32.ofNat k &&& 31)
def orN (g : Nat → Bool) : Nat → Int32
  | 0 => 0
  | k + 1 => orN g k ||| (if g k then bit k else 0)
def cntG (f : Nat → Int32) (cue : Int32) (k : Nat) : Int32 := if f (162 + 4 * k) = cue then 1 else 0
def relG (f : Nat → Int32) (k : Nat) : Int32 := if f (162 + 4 * k + 2) = -1 then 1 else 0
def chgG (f lev : Nat → Int32) (c k : Nat) : Int32 := if lvN f c (k + 1) = lev (12 * k + c) then 0 else 1
def ovcG (f : Nat → Int32) (what : Int32) (c : Nat) : Int32 := if what = 2 then nowF f c else if what = 3 then f (402 + 5 * c + 1) else bI (isF f c)
def mvG (f : Nat → Int32) (p c : Nat) : Int32 := bI (mvs f p c)
/-- overCues: what a cue adds behind its channels -/
def ovkG (f : Nat → Int32) (what : Int32) (k : Nat) : Int32 := if what = 8 then f (18 + 12 * k + 3) else if what = 9 then f (18 + 12 * k + 2) else 0
def ovkN (f : Nat → Int32) (what : Int32) : Nat → Int32
  | 0 => 0
  | k + 1 => (if what = 7 then Nat.rec (ovkN f what k) (fun c a => a + mvG f k c) 12 else ovkN f what k) + ovkG f what k
def lenF (f : Nat → Int32) (cue : Int32) (p c : Nat) : Int32 := f (18 + 12 * p + 4 + 2 * ptO f cue c) + f (18 + 12 * p + 4 + 2 * ptO f cue c + 1)
section MREAD
variable {G : GG} {d : Nat} {h : AH} {m : Nat} {f : Nat → Int32} {σ : MS}
theorem s_X6_moves {p c : Nat} (hd : 3 ≤ d) (hI : Inv f) (hp : p < u (f 0)) (hc : c < 12) : MA G d mX6_moves [.ref m, .int (Int32.ofNat p), .int (Int32.ofNat c)] (mH h m f σ) (fun r h' => r = .inl (some (.int (bI (mvs f p c)))) ∧ h' = mH h m f σ) := by
  have hn := hI.1
  have key : WA G d mX6_moves 24 [.ref m, .int (Int32.ofNat p), .int (Int32.ofNat c), .retAddr 0] [.int (lvN f c p)] (mH h m f σ) (fun r h' => r = .inl (some (.int (bI (mvs f p c)))) ∧ h' = mH h m f σ) := by
    refine wa_istore_n (pc := 24) (y := mX6_moves) dX6_moves_24 (Nat.le_of_ble_eq_true rfl) rfl ?_
    change WA _ _ _ _ (List.set _ 3 _) _ _ _
    simp only [List.set_cons_zero, List.set_cons_succ]
    first | refine wa_aload_n (pc := 25) (y := mX6_moves) dX6_moves_25 rfl ?_ | refine wa_aload_nN (pc := 25) (y := mX6_moves) dX6_moves_25 rfl ?_ | refine wa_aload_nq (pc := 25) (y := mX6_moves) dX6_moves_25 rfl ?_
    refine wa_iload_n (pc := 26) (y := mX6_moves) dX6_moves_26 rfl ?_
    refine wa_iload_n (pc := 27) (y := mX6_moves) dX6_moves_27 rfl ?_
    refine wa_callV (pc := 28) (s_X6_levelIn (d := d - 1) (by omega) hI hp hc) dX6_moves_28 okX6_levelIn q2754 q2756 qs46 mH_o rfl rfl rfl (Nat.le_of_ble_eq_true rfl) (Nat.le_of_ble_eq_true rfl) (by omega) ?_
    rintro _ _ - - ⟨rfl, rfl⟩
    refine aft_v (pc2 := 31) ?_ rfl
    refine wa_iload_n (pc := 31) (y := mX6_moves) dX6_moves_31 rfl ?_
    refine wa_icmp_eq (pc := 32) 39 dX6_moves_32 rfl (fun hb32 => ?_) (fun hb32 => ?_)
    · refine wa_iconst (pc := 39) (y := mX6_moves) (Int32.ofNat 0) dX6_moves_39 rfl ?_
      exact wa_ireturn (pc := 40) (y := mX6_moves) .boolean dX6_moves_40 rfl rfl ⟨by unfold mvs; simp [hb32, bI], rfl⟩
    · refine wa_iconst (pc := 35) (y := mX6_moves) (Int32.ofNat 1) dX6_moves_35 rfl ?_
      refine wa_goto (pc := 36) (y := mX6_moves) 40 dX6_moves_36 rfl ?_
      exact wa_ireturn (pc := 40) (y := mX6_moves) .boolean dX6_moves_40 rfl rfl ⟨by unfold mvs; simp [hb32, bI], rfl⟩
  show WA _ _ _ 0 [.ref m, .int _, .int _, .retAddr 0] [] _ _
  cases p with
  | zero =>
    refine wa_iload_n (pc := 0) (y := mX6_moves) dX6_moves_0 rfl ?_
    refine wa_if_ne (pc := 1) 16 dX6_moves_1 rfl (fun hb1 => absurd rfl hb1) (fun hb1 => ?_)
    first | refine wa_aload_n (pc := 4) (y := mX6_moves) dX6_moves_4 rfl ?_ | refine wa_aload_nN (pc := 4) (y := mX6_moves) dX6_moves_4 rfl ?_ | refine wa_aload_nq (pc := 4) (y := mX6_moves) dX6_moves_4 rfl ?_
    refine wa_getf (pc := 5) (y := mX6_moves) (k := 5) 0 dX6_moves_5 mH_o rfl q2643 (Or.inl rfl) (Nat.le_of_ble_eq_true rfl) (by rfl) ?_
    refine wa_bipush (pc := 8) (y := mX6_moves) (Int32.ofNat 6) dX6_moves_8 rfl ?_
    refine wa_iload_n (pc := 10) (y := mX6_moves) dX6_moves_10 rfl ?_
    first | with_reducible refine wa_iaddN (pc := 11) (y := mX6_moves) dX6_moves_11 ?_ | refine wa_iadd (pc := 11) (y := mX6_moves) dX6_moves_11 ?_
    refine wa_ialoadN (pc := 12) (y := mX6_moves) dX6_moves_12 mH_1 (by omega) ?_
    refine wa_goto (pc := 13) (y := mX6_moves) 24 dX6_moves_13 rfl ?_
    exact key
  | succ p =>
    refine wa_iload_n (pc := 0) (y := mX6_moves) dX6_moves_0 rfl ?_
    refine wa_if_ne (pc := 1) 16 dX6_moves_1 rfl (fun hb1 => ?_) (fun hb1 => absurd ((iN_eq (b := 0) (by omega) (by omega)).mp hb1) (by omega))
    first | refine wa_aload_n (pc := 16) (y := mX6_moves) dX6_moves_16 rfl ?_ | refine wa_aload_nN (pc := 16) (y := mX6_moves) dX6_moves_16 rfl ?_ | refine wa_aload_nq (pc := 16) (y := mX6_moves) dX6_moves_16 rfl ?_
    refine wa_iload_n (pc := 17) (y := mX6_moves) dX6_moves_17 rfl ?_
    refine wa_iconst (pc := 18) (y := mX6_moves) (Int32.ofNat 1) dX6_moves_18 rfl ?_
    refine wa_isubN (pc := 19) dX6_moves_19 (by omega) ?_
    rw [Nat.add_sub_cancel]
    refine wa_iload_n (pc := 20) (y := mX6_moves) dX6_moves_20 rfl ?_
    refine wa_callV (pc := 21) (s_X6_levelIn (d := d - 1) (by omega) hI (by omega) hc) dX6_moves_21 okX6_levelIn q2754 q2756 qs46 mH_o rfl rfl rfl (Nat.le_of_ble_eq_true rfl) (Nat.le_of_ble_eq_true rfl) (by omega) ?_
    rintro _ _ - - ⟨rfl, rfl⟩
    refine aft_v (pc2 := 24) ?_ rfl
    exact key
theorem s_X6_partOf {cue : Int32} {c : Nat} (hd : 1 ≤ d) (hI : Inv f) : MA G d mX6_partOf [.ref m, .int cue, .int (Int32.ofNat c)] (mH h m f σ) (fun r h' => r = .inl (some (.int (Int32.ofNat (ptO f cue c)))) ∧ h' = mH h m f σ) := by
  have hi := hI.2.1
  show WA _ _ _ 0 [.ref m, .int _, .int _, .retAddr 0] [] _ _
  cases eg : gv f cue (Int32.ofNat c) with
  | none =>
    first | refine wa_aload_n (pc := 0) (y := mX6_partOf) dX6_partOf_0 rfl ?_ | refine wa_aload_nN (pc := 0) (y := mX6_partOf) dX6_partOf_0 rfl ?_ | refine wa_aload_nq (pc := 0) (y := mX6_partOf) dX6_partOf_0 rfl ?_
    refine wa_iload_n (pc := 1) (y := mX6_partOf) dX6_partOf_1 rfl ?_
    refine wa_iload_n (pc := 2) (y := mX6_partOf) dX6_partOf_2 rfl ?_
    refine wa_callV (pc := 3) (s_X6_given (d := d - 1) hI) dX6_partOf_3 okX6_given q2758 q2760 qs47 mH_o rfl rfl rfl (Nat.le_of_ble_eq_true rfl) (Nat.le_of_ble_eq_true rfl) (by omega) ?_
    rintro _ _ - - ⟨rfl, rfl⟩
    refine aft_v (pc2 := 6) ?_ rfl
    rw [eg, oI_none]
    refine wa_istore_n (pc := 6) (y := mX6_partOf) dX6_partOf_6 (Nat.le_of_ble_eq_true rfl) rfl ?_
    change WA _ _ _ _ (List.set _ 3 _) _ _ _
    simp only [List.set_cons_zero, List.set_cons_succ]
    refine wa_iload_n (pc := 7) (y := mX6_partOf) dX6_partOf_7 rfl ?_
    refine wa_if_ge (pc := 8) 15 dX6_partOf_8 rfl (fun hb8 => absurd hb8 (by decide)) (fun hb8 => ?_)
    refine wa_iconst (pc := 11) (y := mX6_partOf) (Int32.ofNat 0) dX6_partOf_11 rfl ?_
    refine wa_goto (pc := 12) (y := mX6_partOf) 29 dX6_partOf_12 rfl ?_
    exact wa_ireturn (pc := 29) (y := mX6_partOf) .int dX6_partOf_29 rfl rfl ⟨by unfold ptO; rw [eg], rfl⟩
  | some i =>
    have hg := gv_some eg
    first | refine wa_aload_n (pc := 0) (y := mX6_partOf) dX6_partOf_0 rfl ?_ | refine wa_aload_nN (pc := 0) (y := mX6_partOf) dX6_partOf_0 rfl ?_ | refine wa_aload_nq (pc := 0) (y := mX6_partOf) dX6_partOf_0 rfl ?_
    refine wa_iload_n (pc := 1) (y := mX6_partOf) dX6_partOf_1 rfl ?_
    refine wa_iload_n (pc := 2) (y := mX6_partOf) dX6_partOf_2 rfl ?_
    refine wa_callV (pc := 3) (s_X6_given (d := d - 1) hI) dX6_partOf_3 okX6_given q2758 q2760 qs47 mH_o rfl rfl rfl (Nat.le_of_ble_eq_true rfl) (Nat.le_of_ble_eq_true rfl) (by omega) ?_
    rintro _ _ - - ⟨rfl, rfl⟩
    refine aft_v (pc2 := 6) ?_ rfl
    rw [eg, oI_some]
    refine wa_istore_n (pc := 6) (y := mX6_partOf) dX6_partOf_6 (Nat.le_of_ble_eq_true rfl) rfl ?_
    change WA _ _ _ _ (List.set _ 3 _) _ _ _
    simp only [List.set_cons_zero, List.set_cons_succ]
    refine wa_iload_n (pc := 7) (y := mX6_partOf) dX6_partOf_7 rfl ?_
    refine wa_if_ge (pc := 8) 15 dX6_partOf_8 rfl (fun hb8 => ?_) (fun hb8 => absurd ((iN_le (a := 0) (by omega) (by omega)).mpr (by omega)) hb8)
    first | refine wa_aload_n (pc := 15) (y := mX6_partOf) dX6_partOf_15 rfl ?_ | refine wa_aload_nN (pc := 15) (y := mX6_partOf) dX6_partOf_15 rfl ?_ | refine wa_aload_nq (pc := 15) (y := mX6_partOf) dX6_partOf_15 rfl ?_
    refine wa_getf (pc := 16) (y := mX6_partOf) (k := 5) 0 dX6_partOf_16 mH_o rfl q2643 (Or.inl rfl) (Nat.le_of_ble_eq_true rfl) (by rfl) ?_
    refine wa_sipush (pc := 19) (y := mX6_partOf) (Int32.ofNat 162) dX6_partOf_19 rfl ?_
    refine wa_iconst (pc := 22) (y := mX6_partOf) (Int32.ofNat 4) dX6_partOf_22 rfl ?_
    refine wa_iload_n (pc := 23) (y := mX6_partOf) dX6_partOf_23 rfl ?_
    first | with_reducible refine wa_imulN (pc := 24) (y := mX6_partOf) dX6_partOf_24 ?_ | refine wa_imul (pc := 24) (y := mX6_partOf) dX6_partOf_24 ?_
    first | with_reducible refine wa_iaddN (pc := 25) (y := mX6_partOf) dX6_partOf_25 ?_ | refine wa_iadd (pc := 25) (y := mX6_partOf) dX6_partOf_25 ?_
    refine wa_iconst (pc := 26) (y := mX6_partOf) (Int32.ofNat 3) dX6_partOf_26 rfl ?_
    first | with_reducible refine wa_iaddN (pc := 27) (y := mX6_partOf) dX6_partOf_27 ?_ | refine wa_iadd (pc := 27) (y := mX6_partOf) dX6_partOf_27 ?_
    refine wa_ialoadU (pc := 28) (y := mX6_partOf) dX6_partOf_28 mH_1 (by omega) ?_
    exact wa_ireturn (pc := 29) (y := mX6_partOf) .int dX6_partOf_29 rfl rfl ⟨by unfold ptO; rw [eg], rfl⟩
theorem s_X6_partAt {cue : Int32} {p q : Nat} {b : Bool} (hd : 2 ≤ d) (hI : Inv f) (hp : pl f cue = some p) : MA G d mX6_partAt [.ref m, .int cue, .int (Int32.ofNat q), .int (bI b)] (mH h m f σ) (fun r h' => r = .inl (some (.int (Int32.ofNat (18 + 12 * p + 4 + 2 * q + if b then 0 else 1)))) ∧ h' = mH h m f σ) := by
  show WA _ _ _ 0 [.ref m, .int _, .int _, .int _] [] _ _
  first | refine wa_aload_n (pc := 0) (y := mX6_partAt) dX6_partAt_0 rfl ?_ | refine wa_aload_nN (pc := 0) (y := mX6_partAt) dX6_partAt_0 rfl ?_ | refine wa_aload_nq (pc := 0) (y := mX6_partAt) dX6_partAt_0 rfl ?_
  refine wa_iload_n (pc := 1) (y := mX6_partAt) dX6_partAt_1 rfl ?_
  refine wa_callV (pc := 2) (s_X6_placeOf (d := d - 1) (by omega) hI) dX6_partAt_2 okX6_placeOf q2723 q2725 qs42 mH_o rfl rfl rfl (Nat.le_of_ble_eq_true rfl) (Nat.le_of_ble_eq_true rfl) (by omega) ?_
  rintro _ _ - - ⟨rfl, rfl⟩
  refine aft_v (pc2 := 5) ?_ rfl
  rw [hp, oI_some]
  refine wa_callS (pc := 5) (s_X6_at (d := d - 1)) dX6_partAt_5 okX6_at q2727 q2728 rfl rfl (Nat.le_of_ble_eq_true rfl) (Nat.le_of_ble_eq_true rfl) (by omega) ?_
  rintro _ _ - - ⟨rfl, rfl⟩
  refine aft_v (pc2 := 8) ?_ rfl
  refine wa_iconst (pc := 8) (y := mX6_partAt) (Int32.ofNat 4) dX6_partAt_8 rfl ?_
  first | with_reducible refine wa_iaddN (pc := 9) (y := mX6_partAt) dX6_partAt_9 ?_ | refine wa_iadd (pc := 9) (y := mX6_partAt) dX6_partAt_9 ?_
  refine wa_iconst (pc := 10) (y := mX6_partAt) (Int32.ofNat 2) dX6_partAt_10 rfl ?_
  refine wa_iload_n (pc := 11) (y := mX6_partAt) dX6_partAt_11 rfl ?_
  first | with_reducible refine wa_imulN (pc := 12) (y := mX6_partAt) dX6_partAt_12 ?_ | refine wa_imul (pc := 12) (y := mX6_partAt) dX6_partAt_12 ?_
  first | with_reducible refine wa_iaddN (pc := 13) (y := mX6_partAt) dX6_partAt_13 ?_ | refine wa_iadd (pc := 13) (y := mX6_partAt) dX6_partAt_13 ?_
  refine wa_iload_n (pc := 14) (y := mX6_partAt) dX6_partAt_14 rfl ?_
  refine wa_if_eq (pc := 15) 22 dX6_partAt_15 rfl (fun hb15 => ?_) (fun hb15 => ?_)
  · rw [bI_0.mp hb15]
    refine wa_iconst (pc := 22) (y := mX6_partAt) (Int32.ofNat 1) dX6_partAt_22 rfl ?_
    first | with_reducible refine wa_iaddN (pc := 23) (y := mX6_partAt) dX6_partAt_23 ?_ | refine wa_iadd (pc := 23) (y := mX6_partAt) dX6_partAt_23 ?_
    exact wa_ireturn (pc := 24) (y := mX6_partAt) .int dX6_partAt_24 rfl rfl ⟨rfl, rfl⟩
  · rw [bI_n0 hb15]
    refine wa_iconst (pc := 18) (y := mX6_partAt) (Int32.ofNat 0) dX6_partAt_18 rfl ?_
    refine wa_goto (pc := 19) (y := mX6_partAt) 23 dX6_partAt_19 rfl ?_
    first | with_reducible refine wa_iaddN (pc := 23) (y := mX6_partAt) dX6_partAt_23 ?_ | refine wa_iadd (pc := 23) (y := mX6_partAt) dX6_partAt_23 ?_
    exact wa_ireturn (pc := 24) (y := mX6_partAt) .int dX6_partAt_24 rfl rfl ⟨rfl, rfl⟩
theorem s_X6_lengthOf {cue : Int32} {p c : Nat} (hd : 3 ≤ d) (hI : Inv f) (hp : pl f cue = some p) : MA G d mX6_lengthOf [.ref m, .int cue, .int (Int32.ofNat c)] (mH h m f σ) (fun r h' => r = .inl (some (.int (lenF f cue p c))) ∧ h' = mH h m f σ) := by
  have hn := hI.1
  have h1 := (pl_some hp).1
  have h2 := ptO_lt hI cue c
  show WA _ _ _ 0 [.ref m, .int _, .int _, .retAddr 0] [] _ _
  first | refine wa_aload_n (pc := 0) (y := mX6_lengthOf) dX6_lengthOf_0 rfl ?_ | refine wa_aload_nN (pc := 0) (y := mX6_lengthOf) dX6_lengthOf_0 rfl ?_ | refine wa_aload_nq (pc := 0) (y := mX6_lengthOf) dX6_lengthOf_0 rfl ?_
  refine wa_iload_n (pc := 1) (y := mX6_lengthOf) dX6_lengthOf_1 rfl ?_
  refine wa_iload_n (pc := 2) (y := mX6_lengthOf) dX6_lengthOf_2 rfl ?_
  refine wa_callV (pc := 3) (s_X6_partOf (d := d - 1) (by omega) hI) dX6_lengthOf_3 okX6_partOf q2801 q2803 qs53 mH_o rfl rfl rfl (Nat.le_of_ble_eq_true rfl) (Nat.le_of_ble_eq_true rfl) (by omega) ?_
  rintro _ _ - - ⟨rfl, rfl⟩
  refine aft_v (pc2 := 6) ?_ rfl
  refine wa_istore_n (pc := 6) (y := mX6_lengthOf) dX6_lengthOf_6 (Nat.le_of_ble_eq_true rfl) rfl ?_
  change WA _ _ _ _ (List.set _ 3 _) _ _ _
  simp only [List.set_cons_zero, List.set_cons_succ]
  first | refine wa_aload_n (pc := 7) (y := mX6_lengthOf) dX6_lengthOf_7 rfl ?_ | refine wa_aload_nN (pc := 7) (y := mX6_lengthOf) dX6_lengthOf_7 rfl ?_ | refine wa_aload_nq (pc := 7) (y := mX6_lengthOf) dX6_lengthOf_7 rfl ?_
  refine wa_getf (pc := 8) (y := mX6_lengthOf) (k := 5) 0 dX6_lengthOf_8 mH_o rfl q2643 (Or.inl rfl) (Nat.le_of_ble_eq_true rfl) (by rfl) ?_
  first | refine wa_aload_n (pc := 11) (y := mX6_lengthOf) dX6_lengthOf_11 rfl ?_ | refine wa_aload_nN (pc := 11) (y := mX6_lengthOf) dX6_lengthOf_11 rfl ?_ | refine wa_aload_nq (pc := 11) (y := mX6_lengthOf) dX6_lengthOf_11 rfl ?_
  refine wa_iload_n (pc := 12) (y := mX6_lengthOf) dX6_lengthOf_12 rfl ?_
  refine wa_iload_n (pc := 13) (y := mX6_lengthOf) dX6_lengthOf_13 rfl ?_
  refine wa_iconst (pc := 14) (y := mX6_lengthOf) (Int32.ofNat 1) dX6_lengthOf_14 rfl ?_
  refine wa_callV (pc := 15) (s_X6_partAt (b := true) (d := d - 1) (by omega) hI hp) dX6_lengthOf_15 okX6_partAt q2777 q2779 qs49 mH_o rfl rfl rfl (Nat.le_of_ble_eq_true rfl) (Nat.le_of_ble_eq_true rfl) (by omega) ?_
  rintro _ _ - - ⟨rfl, rfl⟩
  refine aft_v (pc2 := 18) ?_ rfl
  rw [if_pos rfl]
  refine wa_ialoadN (pc := 18) (y := mX6_lengthOf) dX6_lengthOf_18 mH_1 (by omega) ?_
  first | refine wa_aload_n (pc := 19) (y := mX6_lengthOf) dX6_lengthOf_19 rfl ?_ | refine wa_aload_nN (pc := 19) (y := mX6_lengthOf) dX6_lengthOf_19 rfl ?_ | refine wa_aload_nq (pc := 19) (y := mX6_lengthOf) dX6_lengthOf_19 rfl ?_
  refine wa_getf (pc := 20) (y := mX6_lengthOf) (k := 5) 0 dX6_lengthOf_20 mH_o rfl q2643 (Or.inl rfl) (Nat.le_of_ble_eq_true rfl) (by rfl) ?_
  first | refine wa_aload_n (pc := 23) (y := mX6_lengthOf) dX6_lengthOf_23 rfl ?_ | refine wa_aload_nN (pc := 23) (y := mX6_lengthOf) dX6_lengthOf_23 rfl ?_ | refine wa_aload_nq (pc := 23) (y := mX6_lengthOf) dX6_lengthOf_23 rfl ?_
  refine wa_iload_n (pc := 24) (y := mX6_lengthOf) dX6_lengthOf_24 rfl ?_
  refine wa_iload_n (pc := 25) (y := mX6_lengthOf) dX6_lengthOf_25 rfl ?_
  refine wa_iconst (pc := 26) (y := mX6_lengthOf) (Int32.ofNat 0) dX6_lengthOf_26 rfl ?_
  refine wa_callV (pc := 27) (s_X6_partAt (b := false) (d := d - 1) (by omega) hI hp) dX6_lengthOf_27 okX6_partAt q2777 q2779 qs49 mH_o rfl rfl rfl (Nat.le_of_ble_eq_true rfl) (Nat.le_of_ble_eq_true rfl) (by omega) ?_
  rintro _ _ - - ⟨rfl, rfl⟩
  refine aft_v (pc2 := 30) ?_ rfl
  rw [if_neg (by decide)]
  refine wa_ialoadN (pc := 30) (y := mX6_lengthOf) dX6_lengthOf_30 mH_1 (by omega) ?_
  first | with_reducible refine wa_iaddN (pc := 31) (y := mX6_lengthOf) dX6_lengthOf_31 ?_ | refine wa_iadd (pc := 31) (y := mX6_lengthOf) dX6_lengthOf_31 ?_
  exact wa_ireturn (pc := 32) (y := mX6_lengthOf) .int dX6_lengthOf_32 rfl rfl ⟨rfl, rfl⟩
theorem s_X6_countOf {cue : Int32} (hd : 1 ≤ d) (hI : Inv f) : MA G d mX6_countOf [.ref m, .int cue] (mH h m f σ) (fun r h' => r = .inl (some (.int (smN (cntG f cue) (u (f 1))))) ∧ h' = mH h m f σ) := by
  have hn := hI.2.1
  have key : ∀ t k, k + t = u (f 1) → WA G d mX6_countOf 4 [.ref m, .int cue, .int (smN (cntG f cue) k), .int (Int32.ofNat k)] [] (mH h m f σ) (fun r h' => r = .inl (some (.int (smN (cntG f cue) (u (f 1))))) ∧ h' = mH h m f σ) := by
    intro t
    induction t with
    | zero =>
      intro k hk
      refine wa_iload_n (pc := 4) (y := mX6_countOf) dX6_countOf_4 rfl ?_
      first | refine wa_aload_n (pc := 5) (y := mX6_countOf) dX6_countOf_5 rfl ?_ | refine wa_aload_nN (pc := 5) (y := mX6_countOf) dX6_countOf_5 rfl ?_ | refine wa_aload_nq (pc := 5) (y := mX6_countOf) dX6_countOf_5 rfl ?_
      refine wa_getf (pc := 6) (y := mX6_countOf) (k := 5) 0 dX6_countOf_6 mH_o rfl q2643 (Or.inl rfl) (Nat.le_of_ble_eq_true rfl) (by rfl) ?_
      refine wa_iconst (pc := 9) (y := mX6_countOf) (Int32.ofNat 1) dX6_countOf_9 rfl ?_
      refine wa_ialoadU (pc := 10) (y := mX6_countOf) dX6_countOf_10 mH_1 (by omega) ?_
      refine wa_icmp_ge (pc := 11) 44 dX6_countOf_11 rfl (fun hb11 => ?_) (fun hb11 => absurd ((iN_le (by omega) (by omega)).mpr (by omega)) hb11)
      refine wa_iload_n (pc := 44) (y := mX6_countOf) dX6_countOf_44 rfl ?_
      exact wa_ireturn (pc := 45) (y := mX6_countOf) .int dX6_countOf_45 rfl rfl ⟨by rw [show k = u (f 1) by omega], rfl⟩
    | succ t ih =>
      intro k hk
      refine wa_iload_n (pc := 4) (y := mX6_countOf) dX6_countOf_4 rfl ?_
      first | refine wa_aload_n (pc := 5) (y := mX6_countOf) dX6_countOf_5 rfl ?_ | refine wa_aload_nN (pc := 5) (y := mX6_countOf) dX6_countOf_5 rfl ?_ | refine wa_aload_nq (pc := 5) (y := mX6_countOf) dX6_countOf_5 rfl ?_
      refine wa_getf (pc := 6) (y := mX6_countOf) (k := 5) 0 dX6_countOf_6 mH_o rfl q2643 (Or.inl rfl) (Nat.le_of_ble_eq_true rfl) (by rfl) ?_
      refine wa_iconst (pc := 9) (y := mX6_countOf) (Int32.ofNat 1) dX6_countOf_9 rfl ?_
      refine wa_ialoadU (pc := 10) (y := mX6_countOf) dX6_countOf_10 mH_1 (by omega) ?_
      refine wa_icmp_ge (pc := 11) 44 dX6_countOf_11 rfl (fun hb11 => absurd ((iN_le (by omega) (by omega)).mp hb11) (by omega)) (fun hb11 => ?_)
      refine wa_iload_n (pc := 14) (y := mX6_countOf) dX6_countOf_14 rfl ?_
      first | refine wa_aload_n (pc := 15) (y := mX6_countOf) dX6_countOf_15 rfl ?_ | refine wa_aload_nN (pc := 15) (y := mX6_countOf) dX6_countOf_15 rfl ?_ | refine wa_aload_nq (pc := 15) (y := mX6_countOf) dX6_countOf_15 rfl ?_
      refine wa_getf (pc := 16) (y := mX6_countOf) (k := 5) 0 dX6_countOf_16 mH_o rfl q2643 (Or.inl rfl) (Nat.le_of_ble_eq_true rfl) (by rfl) ?_
      refine wa_sipush (pc := 19) (y := mX6_countOf) (Int32.ofNat 162) dX6_countOf_19 rfl ?_
      refine wa_iconst (pc := 22) (y := mX6_countOf) (Int32.ofNat 4) dX6_countOf_22 rfl ?_
      refine wa_iload_n (pc := 23) (y := mX6_countOf) dX6_countOf_23 rfl ?_
      first | with_reducible refine wa_imulN (pc := 24) (y := mX6_countOf) dX6_countOf_24 ?_ | refine wa_imul (pc := 24) (y := mX6_countOf) dX6_countOf_24 ?_
      first | with_reducible refine wa_iaddN (pc := 25) (y := mX6_countOf) dX6_countOf_25 ?_ | refine wa_iadd (pc := 25) (y := mX6_countOf) dX6_countOf_25 ?_
      refine wa_ialoadN (pc := 26) (y := mX6_countOf) dX6_countOf_26 mH_1 (by omega) ?_
      refine wa_iload_n (pc := 27) (y := mX6_countOf) dX6_countOf_27 rfl ?_
      refine wa_icmp_ne (pc := 28) 35 dX6_countOf_28 rfl (fun hb28 => ?_) (fun hb28 => ?_)
      · have e : cntG f cue k = Int32.ofNat 0 := if_neg hb28
        refine wa_iconst (pc := 35) (y := mX6_countOf) (Int32.ofNat 0) dX6_countOf_35 rfl ?_
        first | with_reducible refine wa_iaddN (pc := 36) (y := mX6_countOf) dX6_countOf_36 ?_ | refine wa_iadd (pc := 36) (y := mX6_countOf) dX6_countOf_36 ?_
        rw [smN_s e]
        refine wa_istore_n (pc := 37) (y := mX6_countOf) dX6_countOf_37 (Nat.le_of_ble_eq_true rfl) rfl ?_
        change WA _ _ _ _ (List.set _ 2 _) _ _ _
        simp only [List.set_cons_zero, List.set_cons_succ]
        first | with_reducible refine wa_iincN (pc := 38) (y := mX6_countOf) dX6_countOf_38 rfl (Nat.le_of_ble_eq_true rfl) rfl ?_ | refine wa_iinc (pc := 38) (y := mX6_countOf) (1) dX6_countOf_38 rfl rfl (Nat.le_of_ble_eq_true rfl) rfl ?_
        simp only [List.set_cons_zero, List.set_cons_succ]
        refine wa_goto (pc := 41) (y := mX6_countOf) 4 dX6_countOf_41 rfl ?_
        exact ih (k + 1) (by omega)
      · have e : cntG f cue k = Int32.ofNat 1 := if_pos hb28
        refine wa_iconst (pc := 31) (y := mX6_countOf) (Int32.ofNat 1) dX6_countOf_31 rfl ?_
        refine wa_goto (pc := 32) (y := mX6_countOf) 36 dX6_countOf_32 rfl ?_
        first | with_reducible refine wa_iaddN (pc := 36) (y := mX6_countOf) dX6_countOf_36 ?_ | refine wa_iadd (pc := 36) (y := mX6_countOf) dX6_countOf_36 ?_
        rw [smN_s e]
        refine wa_istore_n (pc := 37) (y := mX6_countOf) dX6_countOf_37 (Nat.le_of_ble_eq_true rfl) rfl ?_
        change WA _ _ _ _ (List.set _ 2 _) _ _ _
        simp only [List.set_cons_zero, List.set_cons_succ]
        first | with_reducible refine wa_iincN (pc := 38) (y := mX6_countOf) dX6_countOf_38 rfl (Nat.le_of_ble_eq_true rfl) rfl ?_ | refine wa_iinc (pc := 38) (y := mX6_countOf) (1) dX6_countOf_38 rfl rfl (Nat.le_of_ble_eq_true rfl) rfl ?_
        simp only [List.set_cons_zero, List.set_cons_succ]
        refine wa_goto (pc := 41) (y := mX6_countOf) 4 dX6_countOf_41 rfl ?_
        exact ih (k + 1) (by omega)
  show WA _ _ _ 0 [.ref m, .int cue, .retAddr 0, .retAddr 0] [] _ _
  refine wa_iconst (pc := 0) (y := mX6_countOf) (Int32.ofNat 0) dX6_countOf_0 rfl ?_
  refine wa_istore_n (pc := 1) (y := mX6_countOf) dX6_countOf_1 (Nat.le_of_ble_eq_true rfl) rfl ?_
  change WA _ _ _ _ (List.set _ 2 _) _ _ _
  simp only [List.set_cons_zero, List.set_cons_succ]
  refine wa_iconst (pc := 2) (y := mX6_countOf) (Int32.ofNat 0) dX6_countOf_2 rfl ?_
  refine wa_istore_n (pc := 3) (y := mX6_countOf) dX6_countOf_3 (Nat.le_of_ble_eq_true rfl) rfl ?_
  change WA _ _ _ _ (List.set _ 3 _) _ _ _
  simp only [List.set_cons_zero, List.set_cons_succ]
  exact key (u (f 1)) 0 (by omega)
theorem s_X6_nextCue {cue : Int32} (hd : 1 ≤ d) (hI : Inv f) : MA G d mX6_nextCue [.ref m, .int cue] (mH h m f σ) (fun r h' => r = .inl (some (.int (nx f cue))) ∧ h' = mH h m f σ) := by
  have hn := hI.1
  have key : ∀ t k, k + t = u (f 0) → WA G d mX6_nextCue 2 [.ref m, .int cue, .int (Int32.ofNat k)] [] (mH h m f σ) (fun r h' => r = .inl (some (.int (nxg f cue t k))) ∧ h' = mH h m f σ) := by
    intro t
    induction t with
    | zero =>
      intro k hk
      refine wa_iload_n (pc := 2) (y := mX6_nextCue) dX6_nextCue_2 rfl ?_
      first | refine wa_aload_n (pc := 3) (y := mX6_nextCue) dX6_nextCue_3 rfl ?_ | refine wa_aload_nN (pc := 3) (y := mX6_nextCue) dX6_nextCue_3 rfl ?_ | refine wa_aload_nq (pc := 3) (y := mX6_nextCue) dX6_nextCue_3 rfl ?_
      refine wa_getf (pc := 4) (y := mX6_nextCue) (k := 5) 0 dX6_nextCue_4 mH_o rfl q2643 (Or.inl rfl) (Nat.le_of_ble_eq_true rfl) (by rfl) ?_
      refine wa_iconst (pc := 7) (y := mX6_nextCue) (Int32.ofNat 0) dX6_nextCue_7 rfl ?_
      refine wa_ialoadU (pc := 8) (y := mX6_nextCue) dX6_nextCue_8 mH_1 (by omega) ?_
      refine wa_icmp_ge (pc := 9) 41 dX6_nextCue_9 rfl (fun hb9 => ?_) (fun hb9 => absurd ((iN_le (by omega) (by omega)).mpr (by omega)) hb9)
      refine wa_iconst (pc := 41) (y := mX6_nextCue) (Int32.ofNat 0) dX6_nextCue_41 rfl ?_
      exact wa_ireturn (pc := 42) (y := mX6_nextCue) .int dX6_nextCue_42 rfl rfl ⟨rfl, rfl⟩
    | succ t ih =>
      intro k hk
      refine wa_iload_n (pc := 2) (y := mX6_nextCue) dX6_nextCue_2 rfl ?_
      first | refine wa_aload_n (pc := 3) (y := mX6_nextCue) dX6_nextCue_3 rfl ?_ | refine wa_aload_nN (pc := 3) (y := mX6_nextCue) dX6_nextCue_3 rfl ?_ | refine wa_aload_nq (pc := 3) (y := mX6_nextCue) dX6_nextCue_3 rfl ?_
      refine wa_getf (pc := 4) (y := mX6_nextCue) (k := 5) 0 dX6_nextCue_4 mH_o rfl q2643 (Or.inl rfl) (Nat.le_of_ble_eq_true rfl) (by rfl) ?_
      refine wa_iconst (pc := 7) (y := mX6_nextCue) (Int32.ofNat 0) dX6_nextCue_7 rfl ?_
      refine wa_ialoadU (pc := 8) (y := mX6_nextCue) dX6_nextCue_8 mH_1 (by omega) ?_
      refine wa_icmp_ge (pc := 9) 41 dX6_nextCue_9 rfl (fun hb9 => absurd ((iN_le (by omega) (by omega)).mp hb9) (by omega)) (fun hb9 => ?_)
      first | refine wa_aload_n (pc := 12) (y := mX6_nextCue) dX6_nextCue_12 rfl ?_ | refine wa_aload_nN (pc := 12) (y := mX6_nextCue) dX6_nextCue_12 rfl ?_ | refine wa_aload_nq (pc := 12) (y := mX6_nextCue) dX6_nextCue_12 rfl ?_
      refine wa_getf (pc := 13) (y := mX6_nextCue) (k := 5) 0 dX6_nextCue_13 mH_o rfl q2643 (Or.inl rfl) (Nat.le_of_ble_eq_true rfl) (by rfl) ?_
      refine wa_iload_n (pc := 16) (y := mX6_nextCue) dX6_nextCue_16 rfl ?_
      refine wa_callS (pc := 17) (s_X6_at (d := d - 1)) dX6_nextCue_17 okX6_at q2727 q2728 rfl rfl (Nat.le_of_ble_eq_true rfl) (Nat.le_of_ble_eq_true rfl) (by omega) ?_
      rintro _ _ - - ⟨rfl, rfl⟩
      refine aft_v (pc2 := 20) ?_ rfl
      refine wa_ialoadN (pc := 20) (y := mX6_nextCue) dX6_nextCue_20 mH_1 (by omega) ?_
      refine wa_iload_n (pc := 21) (y := mX6_nextCue) dX6_nextCue_21 rfl ?_
      refine wa_icmp_le (pc := 22) 35 dX6_nextCue_22 rfl (fun hb22 => ?_) (fun hb22 => ?_)
      · rw [nxg, if_neg (fun q => Int32.not_lt.mpr hb22 q)]
        first | with_reducible refine wa_iincN (pc := 35) (y := mX6_nextCue) dX6_nextCue_35 rfl (Nat.le_of_ble_eq_true rfl) rfl ?_ | refine wa_iinc (pc := 35) (y := mX6_nextCue) (1) dX6_nextCue_35 rfl rfl (Nat.le_of_ble_eq_true rfl) rfl ?_
        simp only [List.set_cons_zero, List.set_cons_succ]
        refine wa_goto (pc := 38) (y := mX6_nextCue) 2 dX6_nextCue_38 rfl ?_
        exact ih (k + 1) (by omega)
      · rw [nxg, if_pos (Int32.not_le.mp hb22)]
        first | refine wa_aload_n (pc := 25) (y := mX6_nextCue) dX6_nextCue_25 rfl ?_ | refine wa_aload_nN (pc := 25) (y := mX6_nextCue) dX6_nextCue_25 rfl ?_ | refine wa_aload_nq (pc := 25) (y := mX6_nextCue) dX6_nextCue_25 rfl ?_
        refine wa_getf (pc := 26) (y := mX6_nextCue) (k := 5) 0 dX6_nextCue_26 mH_o rfl q2643 (Or.inl rfl) (Nat.le_of_ble_eq_true rfl) (by rfl) ?_
        refine wa_iload_n (pc := 29) (y := mX6_nextCue) dX6_nextCue_29 rfl ?_
        refine wa_callS (pc := 30) (s_X6_at (d := d - 1)) dX6_nextCue_30 okX6_at q2727 q2728 rfl rfl (Nat.le_of_ble_eq_true rfl) (Nat.le_of_ble_eq_true rfl) (by omega) ?_
        rintro _ _ - - ⟨rfl, rfl⟩
        refine aft_v (pc2 := 33) ?_ rfl
        refine wa_ialoadN (pc := 33) (y := mX6_nextCue) dX6_nextCue_33 mH_1 (by omega) ?_
        exact wa_ireturn (pc := 34) (y := mX6_nextCue) .int dX6_nextCue_34 rfl rfl ⟨rfl, rfl⟩
  show WA _ _ _ 0 [.ref m, .int cue, .retAddr 0] [] _ _
  refine wa_iconst (pc := 0) (y := mX6_nextCue) (Int32.ofNat 0) dX6_nextCue_0 rfl ?_
  refine wa_istore_n (pc := 1) (y := mX6_nextCue) dX6_nextCue_1 (Nat.le_of_ble_eq_true rfl) rfl ?_
  change WA _ _ _ _ (List.set _ 2 _) _ _ _
  simp only [List.set_cons_zero, List.set_cons_succ]
  exact key (u (f 0)) 0 (by omega)
theorem s_X6_cueAhead {cue : Int32} (hd : 1 ≤ d) (hI : Inv f) : MA G d mX6_cueAhead [.ref m, .int cue] (mH h m f σ) (fun r h' => r = .inl (some (.int (ahN f cue (u (f 0))))) ∧ h' = mH h m f σ) := by
  have hn := hI.1
  have key : ∀ t k, k + t = u (f 0) → WA G d mX6_cueAhead 4 [.ref m, .int cue, .int (ahN f cue k), .int (Int32.ofNat k)] [] (mH h m f σ) (fun r h' => r = .inl (some (.int (ahN f cue (u (f 0))))) ∧ h' = mH h m f σ) := by
    intro t
    induction t with
    | zero =>
      intro k hk
      refine wa_iload_n (pc := 4) (y := mX6_cueAhead) dX6_cueAhead_4 rfl ?_
      first | refine wa_aload_n (pc := 5) (y := mX6_cueAhead) dX6_cueAhead_5 rfl ?_ | refine wa_aload_nN (pc := 5) (y := mX6_cueAhead) dX6_cueAhead_5 rfl ?_ | refine wa_aload_nq (pc := 5) (y := mX6_cueAhead) dX6_cueAhead_5 rfl ?_
      refine wa_getf (pc := 6) (y := mX6_cueAhead) (k := 5) 0 dX6_cueAhead_6 mH_o rfl q2643 (Or.inl rfl) (Nat.le_of_ble_eq_true rfl) (by rfl) ?_
      refine wa_iconst (pc := 9) (y := mX6_cueAhead) (Int32.ofNat 0) dX6_cueAhead_9 rfl ?_
      refine wa_ialoadU (pc := 10) (y := mX6_cueAhead) dX6_cueAhead_10 mH_1 (by omega) ?_
      refine wa_icmp_ge (pc := 11) 47 dX6_cueAhead_11 rfl (fun hb11 => ?_) (fun hb11 => absurd ((iN_le (by omega) (by omega)).mpr (by omega)) hb11)
      refine wa_iload_n (pc := 47) (y := mX6_cueAhead) dX6_cueAhead_47 rfl ?_
      exact wa_ireturn (pc := 48) (y := mX6_cueAhead) .int dX6_cueAhead_48 rfl rfl ⟨by rw [show k = u (f 0) by omega], rfl⟩
    | succ t ih =>
      intro k hk
      refine wa_iload_n (pc := 4) (y := mX6_cueAhead) dX6_cueAhead_4 rfl ?_
      first | refine wa_aload_n (pc := 5) (y := mX6_cueAhead) dX6_cueAhead_5 rfl ?_ | refine wa_aload_nN (pc := 5) (y := mX6_cueAhead) dX6_cueAhead_5 rfl ?_ | refine wa_aload_nq (pc := 5) (y := mX6_cueAhead) dX6_cueAhead_5 rfl ?_
      refine wa_getf (pc := 6) (y := mX6_cueAhead) (k := 5) 0 dX6_cueAhead_6 mH_o rfl q2643 (Or.inl rfl) (Nat.le_of_ble_eq_true rfl) (by rfl) ?_
      refine wa_iconst (pc := 9) (y := mX6_cueAhead) (Int32.ofNat 0) dX6_cueAhead_9 rfl ?_
      refine wa_ialoadU (pc := 10) (y := mX6_cueAhead) dX6_cueAhead_10 mH_1 (by omega) ?_
      refine wa_icmp_ge (pc := 11) 47 dX6_cueAhead_11 rfl (fun hb11 => absurd ((iN_le (by omega) (by omega)).mp hb11) (by omega)) (fun hb11 => ?_)
      first | refine wa_aload_n (pc := 14) (y := mX6_cueAhead) dX6_cueAhead_14 rfl ?_ | refine wa_aload_nN (pc := 14) (y := mX6_cueAhead) dX6_cueAhead_14 rfl ?_ | refine wa_aload_nq (pc := 14) (y := mX6_cueAhead) dX6_cueAhead_14 rfl ?_
      refine wa_getf (pc := 15) (y := mX6_cueAhead) (k := 5) 0 dX6_cueAhead_15 mH_o rfl q2643 (Or.inl rfl) (Nat.le_of_ble_eq_true rfl) (by rfl) ?_
      refine wa_iload_n (pc := 18) (y := mX6_cueAhead) dX6_cueAhead_18 rfl ?_
      refine wa_callS (pc := 19) (s_X6_at (d := d - 1)) dX6_cueAhead_19 okX6_at q2727 q2728 rfl rfl (Nat.le_of_ble_eq_true rfl) (Nat.le_of_ble_eq_true rfl) (by omega) ?_
      rintro _ _ - - ⟨rfl, rfl⟩
      refine aft_v (pc2 := 22) ?_ rfl
      refine wa_ialoadN (pc := 22) (y := mX6_cueAhead) dX6_cueAhead_22 mH_1 (by omega) ?_
      refine wa_iload_n (pc := 23) (y := mX6_cueAhead) dX6_cueAhead_23 rfl ?_
      refine wa_icmp_ge (pc := 24) 39 dX6_cueAhead_24 rfl (fun hb24 => ?_) (fun hb24 => ?_)
      · have e : ahN f cue k = ahN f cue (k + 1) := (if_neg (Int32.not_lt.mpr hb24)).symm
        refine wa_iload_n (pc := 39) (y := mX6_cueAhead) dX6_cueAhead_39 rfl ?_
        rw [e]
        refine wa_istore_n (pc := 40) (y := mX6_cueAhead) dX6_cueAhead_40 (Nat.le_of_ble_eq_true rfl) rfl ?_
        change WA _ _ _ _ (List.set _ 2 _) _ _ _
        simp only [List.set_cons_zero, List.set_cons_succ]
        first | with_reducible refine wa_iincN (pc := 41) (y := mX6_cueAhead) dX6_cueAhead_41 rfl (Nat.le_of_ble_eq_true rfl) rfl ?_ | refine wa_iinc (pc := 41) (y := mX6_cueAhead) (1) dX6_cueAhead_41 rfl rfl (Nat.le_of_ble_eq_true rfl) rfl ?_
        simp only [List.set_cons_zero, List.set_cons_succ]
        refine wa_goto (pc := 44) (y := mX6_cueAhead) 4 dX6_cueAhead_44 rfl ?_
        exact ih (k + 1) (by omega)
      · have e : f (18 + 12 * k) = ahN f cue (k + 1) := (if_pos (Int32.not_le.mp hb24)).symm
        first | refine wa_aload_n (pc := 27) (y := mX6_cueAhead) dX6_cueAhead_27 rfl ?_ | refine wa_aload_nN (pc := 27) (y := mX6_cueAhead) dX6_cueAhead_27 rfl ?_ | refine wa_aload_nq (pc := 27) (y := mX6_cueAhead) dX6_cueAhead_27 rfl ?_
        refine wa_getf (pc := 28) (y := mX6_cueAhead) (k := 5) 0 dX6_cueAhead_28 mH_o rfl q2643 (Or.inl rfl) (Nat.le_of_ble_eq_true rfl) (by rfl) ?_
        refine wa_iload_n (pc := 31) (y := mX6_cueAhead) dX6_cueAhead_31 rfl ?_
        refine wa_callS (pc := 32) (s_X6_at (d := d - 1)) dX6_cueAhead_32 okX6_at q2727 q2728 rfl rfl (Nat.le_of_ble_eq_true rfl) (Nat.le_of_ble_eq_true rfl) (by omega) ?_
        rintro _ _ - - ⟨rfl, rfl⟩
        refine aft_v (pc2 := 35) ?_ rfl
        refine wa_ialoadN (pc := 35) (y := mX6_cueAhead) dX6_cueAhead_35 mH_1 (by omega) ?_
        refine wa_goto (pc := 36) (y := mX6_cueAhead) 40 dX6_cueAhead_36 rfl ?_
        rw [e]
        refine wa_istore_n (pc := 40) (y := mX6_cueAhead) dX6_cueAhead_40 (Nat.le_of_ble_eq_true rfl) rfl ?_
        change WA _ _ _ _ (List.set _ 2 _) _ _ _
        simp only [List.set_cons_zero, List.set_cons_succ]
        first | with_reducible refine wa_iincN (pc := 41) (y := mX6_cueAhead) dX6_cueAhead_41 rfl (Nat.le_of_ble_eq_true rfl) rfl ?_ | refine wa_iinc (pc := 41) (y := mX6_cueAhead) (1) dX6_cueAhead_41 rfl rfl (Nat.le_of_ble_eq_true rfl) rfl ?_
        simp only [List.set_cons_zero, List.set_cons_succ]
        refine wa_goto (pc := 44) (y := mX6_cueAhead) 4 dX6_cueAhead_44 rfl ?_
        exact ih (k + 1) (by omega)
  show WA _ _ _ 0 [.ref m, .int cue, .retAddr 0, .retAddr 0] [] _ _
  refine wa_iconst (pc := 0) (y := mX6_cueAhead) (Int32.ofNat 0) dX6_cueAhead_0 rfl ?_
  refine wa_istore_n (pc := 1) (y := mX6_cueAhead) dX6_cueAhead_1 (Nat.le_of_ble_eq_true rfl) rfl ?_
  change WA _ _ _ _ (List.set _ 2 _) _ _ _
  simp only [List.set_cons_zero, List.set_cons_succ]
  refine wa_iconst (pc := 2) (y := mX6_cueAhead) (Int32.ofNat 0) dX6_cueAhead_2 rfl ?_
  refine wa_istore_n (pc := 3) (y := mX6_cueAhead) dX6_cueAhead_3 (Nat.le_of_ble_eq_true rfl) rfl ?_
  change WA _ _ _ _ (List.set _ 3 _) _ _ _
  simp only [List.set_cons_zero, List.set_cons_succ]
  exact key (u (f 0)) 0 (by omega)
theorem s_X6_nowOf {c : Nat} (hd : 1 ≤ d) (hc : c < 12) : MA G d mX6_nowOf [.ref m, .int (Int32.ofNat c)] (mH h m f σ) (fun r h' => r = .inl (some (.int (nowF f c))) ∧ h' = mH h m f σ) := by
  show WA _ _ _ 0 [.ref m, .int _, .retAddr 0, .retAddr 0, .retAddr 0, .retAddr 0, .retAddr 0, .retAddr 0] [] _ _
  refine wa_iload_n (pc := 0) (y := mX6_nowOf) dX6_nowOf_0 rfl ?_
  refine wa_callS (pc := 1) (s_X6_fade (d := d - 1)) dX6_nowOf_1 okX6_fade q2922 q2923 rfl rfl (Nat.le_of_ble_eq_true rfl) (Nat.le_of_ble_eq_true rfl) (by omega) ?_
  rintro _ _ - - ⟨rfl, rfl⟩
  refine aft_v (pc2 := 4) ?_ rfl
  refine wa_istore_n (pc := 4) (y := mX6_nowOf) dX6_nowOf_4 (Nat.le_of_ble_eq_true rfl) rfl ?_
  change WA _ _ _ _ (List.set _ 2 _) _ _ _
  simp only [List.set_cons_zero, List.set_cons_succ]
  first | refine wa_aload_n (pc := 5) (y := mX6_nowOf) dX6_nowOf_5 rfl ?_ | refine wa_aload_nN (pc := 5) (y := mX6_nowOf) dX6_nowOf_5 rfl ?_ | refine wa_aload_nq (pc := 5) (y := mX6_nowOf) dX6_nowOf_5 rfl ?_
  refine wa_getf (pc := 6) (y := mX6_nowOf) (k := 5) 0 dX6_nowOf_6 mH_o rfl q2643 (Or.inl rfl) (Nat.le_of_ble_eq_true rfl) (by rfl) ?_
  refine wa_iload_n (pc := 9) (y := mX6_nowOf) dX6_nowOf_9 rfl ?_
  refine wa_ialoadN (pc := 10) (y := mX6_nowOf) dX6_nowOf_10 mH_1 (by omega) ?_
  refine wa_istore_n (pc := 11) (y := mX6_nowOf) dX6_nowOf_11 (Nat.le_of_ble_eq_true rfl) rfl ?_
  change WA _ _ _ _ (List.set _ 3 _) _ _ _
  simp only [List.set_cons_zero, List.set_cons_succ]
  first | refine wa_aload_n (pc := 12) (y := mX6_nowOf) dX6_nowOf_12 rfl ?_ | refine wa_aload_nN (pc := 12) (y := mX6_nowOf) dX6_nowOf_12 rfl ?_ | refine wa_aload_nq (pc := 12) (y := mX6_nowOf) dX6_nowOf_12 rfl ?_
  refine wa_getf (pc := 13) (y := mX6_nowOf) (k := 5) 0 dX6_nowOf_13 mH_o rfl q2643 (Or.inl rfl) (Nat.le_of_ble_eq_true rfl) (by rfl) ?_
  refine wa_iload_n (pc := 16) (y := mX6_nowOf) dX6_nowOf_16 rfl ?_
  refine wa_iconst (pc := 17) (y := mX6_nowOf) (Int32.ofNat 1) dX6_nowOf_17 rfl ?_
  first | with_reducible refine wa_iaddN (pc := 18) (y := mX6_nowOf) dX6_nowOf_18 ?_ | refine wa_iadd (pc := 18) (y := mX6_nowOf) dX6_nowOf_18 ?_
  refine wa_ialoadN (pc := 19) (y := mX6_nowOf) dX6_nowOf_19 mH_1 (by omega) ?_
  refine wa_istore (pc := 20) (y := mX6_nowOf) dX6_nowOf_20 (Nat.le_of_ble_eq_true rfl) rfl ?_
  simp only [List.set_cons_zero, List.set_cons_succ]
  first | refine wa_aload_n (pc := 22) (y := mX6_nowOf) dX6_nowOf_22 rfl ?_ | refine wa_aload_nN (pc := 22) (y := mX6_nowOf) dX6_nowOf_22 rfl ?_ | refine wa_aload_nq (pc := 22) (y := mX6_nowOf) dX6_nowOf_22 rfl ?_
  refine wa_getf (pc := 23) (y := mX6_nowOf) (k := 5) 0 dX6_nowOf_23 mH_o rfl q2643 (Or.inl rfl) (Nat.le_of_ble_eq_true rfl) (by rfl) ?_
  refine wa_iload_n (pc := 26) (y := mX6_nowOf) dX6_nowOf_26 rfl ?_
  refine wa_iconst (pc := 27) (y := mX6_nowOf) (Int32.ofNat 2) dX6_nowOf_27 rfl ?_
  first | with_reducible refine wa_iaddN (pc := 28) (y := mX6_nowOf) dX6_nowOf_28 ?_ | refine wa_iadd (pc := 28) (y := mX6_nowOf) dX6_nowOf_28 ?_
  refine wa_ialoadN (pc := 29) (y := mX6_nowOf) dX6_nowOf_29 mH_1 (by omega) ?_
  refine wa_istore (pc := 30) (y := mX6_nowOf) dX6_nowOf_30 (Nat.le_of_ble_eq_true rfl) rfl ?_
  simp only [List.set_cons_zero, List.set_cons_succ]
  first | refine wa_aload_n (pc := 32) (y := mX6_nowOf) dX6_nowOf_32 rfl ?_ | refine wa_aload_nN (pc := 32) (y := mX6_nowOf) dX6_nowOf_32 rfl ?_ | refine wa_aload_nq (pc := 32) (y := mX6_nowOf) dX6_nowOf_32 rfl ?_
  refine wa_getf (pc := 33) (y := mX6_nowOf) (k := 5) 0 dX6_nowOf_33 mH_o rfl q2643 (Or.inl rfl) (Nat.le_of_ble_eq_true rfl) (by rfl) ?_
  refine wa_iload_n (pc := 36) (y := mX6_nowOf) dX6_nowOf_36 rfl ?_
  refine wa_iconst (pc := 37) (y := mX6_nowOf) (Int32.ofNat 3) dX6_nowOf_37 rfl ?_
  first | with_reducible refine wa_iaddN (pc := 38) (y := mX6_nowOf) dX6_nowOf_38 ?_ | refine wa_iadd (pc := 38) (y := mX6_nowOf) dX6_nowOf_38 ?_
  refine wa_ialoadN (pc := 39) (y := mX6_nowOf) dX6_nowOf_39 mH_1 (by omega) ?_
  refine wa_istore (pc := 40) (y := mX6_nowOf) dX6_nowOf_40 (Nat.le_of_ble_eq_true rfl) rfl ?_
  simp only [List.set_cons_zero, List.set_cons_succ]
  first | refine wa_aload_n (pc := 42) (y := mX6_nowOf) dX6_nowOf_42 rfl ?_ | refine wa_aload_nN (pc := 42) (y := mX6_nowOf) dX6_nowOf_42 rfl ?_ | refine wa_aload_nq (pc := 42) (y := mX6_nowOf) dX6_nowOf_42 rfl ?_
  refine wa_getf (pc := 43) (y := mX6_nowOf) (k := 5) 0 dX6_nowOf_43 mH_o rfl q2643 (Or.inl rfl) (Nat.le_of_ble_eq_true rfl) (by rfl) ?_
  refine wa_iload_n (pc := 46) (y := mX6_nowOf) dX6_nowOf_46 rfl ?_
  refine wa_iconst (pc := 47) (y := mX6_nowOf) (Int32.ofNat 4) dX6_nowOf_47 rfl ?_
  first | with_reducible refine wa_iaddN (pc := 48) (y := mX6_nowOf) dX6_nowOf_48 ?_ | refine wa_iadd (pc := 48) (y := mX6_nowOf) dX6_nowOf_48 ?_
  refine wa_ialoadN (pc := 49) (y := mX6_nowOf) dX6_nowOf_49 mH_1 (by omega) ?_
  refine wa_istore (pc := 50) (y := mX6_nowOf) dX6_nowOf_50 (Nat.le_of_ble_eq_true rfl) rfl ?_
  simp only [List.set_cons_zero, List.set_cons_succ]
  refine wa_iload (pc := 52) (y := mX6_nowOf) dX6_nowOf_52 rfl ?_
  refine wa_iload (pc := 54) (y := mX6_nowOf) dX6_nowOf_54 rfl ?_
  refine wa_iload (pc := 56) (y := mX6_nowOf) dX6_nowOf_56 rfl ?_
  first | with_reducible refine wa_iaddN (pc := 58) (y := mX6_nowOf) dX6_nowOf_58 ?_ | refine wa_iadd (pc := 58) (y := mX6_nowOf) dX6_nowOf_58 ?_
  refine wa_icmp_lt (pc := 59) 65 dX6_nowOf_59 rfl (fun hb59 => ?_) (fun hb59 => ?_)
  · refine wa_iload (pc := 65) (y := mX6_nowOf) dX6_nowOf_65 rfl ?_
    refine wa_iload (pc := 67) (y := mX6_nowOf) dX6_nowOf_67 rfl ?_
    refine wa_icmp_gt (pc := 69) 76 dX6_nowOf_69 rfl (fun hb69 => ?_) (fun hb69 => ?_)
    · have e1 : nowF f c = f (402 + 5 * c) + (f (402 + 5 * c + 1) - f (402 + 5 * c)) * (f (402 + 5 * c + 2) - f (402 + 5 * c + 3)) / f (402 + 5 * c + 4) := by unfold nowF nowV; rw [if_pos hb59, if_pos hb69]
      refine wa_iload_n (pc := 76) (y := mX6_nowOf) dX6_nowOf_76 rfl ?_
      refine wa_iload (pc := 77) (y := mX6_nowOf) dX6_nowOf_77 rfl ?_
      refine wa_iload_n (pc := 79) (y := mX6_nowOf) dX6_nowOf_79 rfl ?_
      refine wa_isub (pc := 80) (y := mX6_nowOf) dX6_nowOf_80 ?_
      refine wa_iload (pc := 81) (y := mX6_nowOf) dX6_nowOf_81 rfl ?_
      refine wa_iload (pc := 83) (y := mX6_nowOf) dX6_nowOf_83 rfl ?_
      refine wa_isub (pc := 85) (y := mX6_nowOf) dX6_nowOf_85 ?_
      first | with_reducible refine wa_imulN (pc := 86) (y := mX6_nowOf) dX6_nowOf_86 ?_ | refine wa_imul (pc := 86) (y := mX6_nowOf) dX6_nowOf_86 ?_
      refine wa_iload (pc := 87) (y := mX6_nowOf) dX6_nowOf_87 rfl ?_
      refine wa_idiv (pc := 89) dX6_nowOf_89 (fun e => ?_) ?_
      · rw [e, Int32.add_zero] at hb59; exact absurd hb59 (Int32.not_lt.mpr (Int32.le_of_lt hb69))
      first | with_reducible refine wa_iaddN (pc := 90) (y := mX6_nowOf) dX6_nowOf_90 ?_ | refine wa_iadd (pc := 90) (y := mX6_nowOf) dX6_nowOf_90 ?_
      exact wa_ireturn (pc := 91) (y := mX6_nowOf) .int dX6_nowOf_91 rfl rfl ⟨by rw [e1], rfl⟩
    · have e1 : nowF f c = f (402 + 5 * c) := by unfold nowF nowV; rw [if_pos hb59, if_neg hb69]
      refine wa_iload_n (pc := 72) (y := mX6_nowOf) dX6_nowOf_72 rfl ?_
      refine wa_goto (pc := 73) (y := mX6_nowOf) 91 dX6_nowOf_73 rfl ?_
      exact wa_ireturn (pc := 91) (y := mX6_nowOf) .int dX6_nowOf_91 rfl rfl ⟨by rw [e1], rfl⟩
  · refine wa_iload (pc := 62) (y := mX6_nowOf) dX6_nowOf_62 rfl ?_
    exact wa_ireturn (pc := 64) (y := mX6_nowOf) .int dX6_nowOf_64 rfl rfl ⟨by unfold nowF nowV; rw [if_neg (Int32.not_lt.mpr (Int32.not_lt.mp hb59))], rfl⟩
theorem s_X6_isFading {c : Nat} (hd : 1 ≤ d) (hc : c < 12) : MA G d mX6_isFading [.ref m, .int (Int32.ofNat c)] (mH h m f σ) (fun r h' => r = .inl (some (.int (bI (isF f c)))) ∧ h' = mH h m f σ) := by
  show WA _ _ _ 0 [.ref m, .int _, .retAddr 0] [] _ _
  refine wa_iload_n (pc := 0) (y := mX6_isFading) dX6_isFading_0 rfl ?_
  refine wa_callS (pc := 1) (s_X6_fade (d := d - 1)) dX6_isFading_1 okX6_fade q2922 q2923 rfl rfl (Nat.le_of_ble_eq_true rfl) (Nat.le_of_ble_eq_true rfl) (by omega) ?_
  rintro _ _ - - ⟨rfl, rfl⟩
  refine aft_v (pc2 := 4) ?_ rfl
  refine wa_istore_n (pc := 4) (y := mX6_isFading) dX6_isFading_4 (Nat.le_of_ble_eq_true rfl) rfl ?_
  change WA _ _ _ _ (List.set _ 2 _) _ _ _
  simp only [List.set_cons_zero, List.set_cons_succ]
  first | refine wa_aload_n (pc := 5) (y := mX6_isFading) dX6_isFading_5 rfl ?_ | refine wa_aload_nN (pc := 5) (y := mX6_isFading) dX6_isFading_5 rfl ?_ | refine wa_aload_nq (pc := 5) (y := mX6_isFading) dX6_isFading_5 rfl ?_
  refine wa_getf (pc := 6) (y := mX6_isFading) (k := 5) 0 dX6_isFading_6 mH_o rfl q2643 (Or.inl rfl) (Nat.le_of_ble_eq_true rfl) (by rfl) ?_
  refine wa_iload_n (pc := 9) (y := mX6_isFading) dX6_isFading_9 rfl ?_
  refine wa_iconst (pc := 10) (y := mX6_isFading) (Int32.ofNat 2) dX6_isFading_10 rfl ?_
  first | with_reducible refine wa_iaddN (pc := 11) (y := mX6_isFading) dX6_isFading_11 ?_ | refine wa_iadd (pc := 11) (y := mX6_isFading) dX6_isFading_11 ?_
  refine wa_ialoadN (pc := 12) (y := mX6_isFading) dX6_isFading_12 mH_1 (by omega) ?_
  first | refine wa_aload_n (pc := 13) (y := mX6_isFading) dX6_isFading_13 rfl ?_ | refine wa_aload_nN (pc := 13) (y := mX6_isFading) dX6_isFading_13 rfl ?_ | refine wa_aload_nq (pc := 13) (y := mX6_isFading) dX6_isFading_13 rfl ?_
  refine wa_getf (pc := 14) (y := mX6_isFading) (k := 5) 0 dX6_isFading_14 mH_o rfl q2643 (Or.inl rfl) (Nat.le_of_ble_eq_true rfl) (by rfl) ?_
  refine wa_iload_n (pc := 17) (y := mX6_isFading) dX6_isFading_17 rfl ?_
  refine wa_iconst (pc := 18) (y := mX6_isFading) (Int32.ofNat 3) dX6_isFading_18 rfl ?_
  first | with_reducible refine wa_iaddN (pc := 19) (y := mX6_isFading) dX6_isFading_19 ?_ | refine wa_iadd (pc := 19) (y := mX6_isFading) dX6_isFading_19 ?_
  refine wa_ialoadN (pc := 20) (y := mX6_isFading) dX6_isFading_20 mH_1 (by omega) ?_
  first | refine wa_aload_n (pc := 21) (y := mX6_isFading) dX6_isFading_21 rfl ?_ | refine wa_aload_nN (pc := 21) (y := mX6_isFading) dX6_isFading_21 rfl ?_ | refine wa_aload_nq (pc := 21) (y := mX6_isFading) dX6_isFading_21 rfl ?_
  refine wa_getf (pc := 22) (y := mX6_isFading) (k := 5) 0 dX6_isFading_22 mH_o rfl q2643 (Or.inl rfl) (Nat.le_of_ble_eq_true rfl) (by rfl) ?_
  refine wa_iload_n (pc := 25) (y := mX6_isFading) dX6_isFading_25 rfl ?_
  refine wa_iconst (pc := 26) (y := mX6_isFading) (Int32.ofNat 4) dX6_isFading_26 rfl ?_
  first | with_reducible refine wa_iaddN (pc := 27) (y := mX6_isFading) dX6_isFading_27 ?_ | refine wa_iadd (pc := 27) (y := mX6_isFading) dX6_isFading_27 ?_
  refine wa_ialoadN (pc := 28) (y := mX6_isFading) dX6_isFading_28 mH_1 (by omega) ?_
  first | with_reducible refine wa_iaddN (pc := 29) (y := mX6_isFading) dX6_isFading_29 ?_ | refine wa_iadd (pc := 29) (y := mX6_isFading) dX6_isFading_29 ?_
  refine wa_icmp_ge (pc := 30) 37 dX6_isFading_30 rfl (fun hb30 => ?_) (fun hb30 => ?_)
  · have e : isF f c = false := decide_eq_false (Int32.not_lt.mpr hb30)
    refine wa_iconst (pc := 37) (y := mX6_isFading) (Int32.ofNat 0) dX6_isFading_37 rfl ?_
    exact wa_ireturn (pc := 38) (y := mX6_isFading) .boolean dX6_isFading_38 rfl rfl ⟨by rw [e]; rfl, rfl⟩
  · have e : isF f c = true := decide_eq_true (Int32.not_le.mp hb30)
    refine wa_iconst (pc := 33) (y := mX6_isFading) (Int32.ofNat 1) dX6_isFading_33 rfl ?_
    refine wa_goto (pc := 34) (y := mX6_isFading) 38 dX6_isFading_34 rfl ?_
    exact wa_ireturn (pc := 38) (y := mX6_isFading) .boolean dX6_isFading_38 rfl rfl ⟨by rw [e]; rfl, rfl⟩
theorem s_X6_fading (hd : 2 ≤ d) : MA G d mX6_fading [.ref m] (mH h m f σ) (fun r h' => r = .inl (some (.int (orN (isF f) 12))) ∧ h' = mH h m f σ) := by
  have key : ∀ t k, k + t = 12 → WA G d mX6_fading 4 [.ref m, .int (orN (isF f) k), .int (Int32.ofNat k)] [] (mH h m f σ) (fun r h' => r = .inl (some (.int (orN (isF f) 12))) ∧ h' = mH h m f σ) := by
    intro t
    induction t with
    | zero =>
      intro k hk
      refine wa_iload_n (pc := 4) (y := mX6_fading) dX6_fading_4 rfl ?_
      refine wa_bipush (pc := 5) (y := mX6_fading) (Int32.ofNat 12) dX6_fading_5 rfl ?_
      refine wa_icmp_ge (pc := 7) 34 dX6_fading_7 rfl (fun hb7 => ?_) (fun hb7 => absurd ((iN_le (by omega) (by omega)).mpr (by omega)) hb7)
      refine wa_iload_n (pc := 34) (y := mX6_fading) dX6_fading_34 rfl ?_
      exact wa_ireturn (pc := 35) (y := mX6_fading) .int dX6_fading_35 rfl rfl ⟨by rw [show k = 12 by omega], rfl⟩
    | succ t ih =>
      intro k hk
      refine wa_iload_n (pc := 4) (y := mX6_fading) dX6_fading_4 rfl ?_
      refine wa_bipush (pc := 5) (y := mX6_fading) (Int32.ofNat 12) dX6_fading_5 rfl ?_
      refine wa_icmp_ge (pc := 7) 34 dX6_fading_7 rfl (fun hb7 => absurd ((iN_le (by omega) (by omega)).mp hb7) (by omega)) (fun hb7 => ?_)
      refine wa_iload_n (pc := 10) (y := mX6_fading) dX6_fading_10 rfl ?_
      first | refine wa_aload_n (pc := 11) (y := mX6_fading) dX6_fading_11 rfl ?_ | refine wa_aload_nN (pc := 11) (y := mX6_fading) dX6_fading_11 rfl ?_ | refine wa_aload_nq (pc := 11) (y := mX6_fading) dX6_fading_11 rfl ?_
      refine wa_iload_n (pc := 12) (y := mX6_fading) dX6_fading_12 rfl ?_
      refine wa_callV (pc := 13) (s_X6_isFading (d := d - 1) (by omega) (by omega)) dX6_fading_13 okX6_isFading q2966 q2968 qs73 mH_o rfl rfl rfl (Nat.le_of_ble_eq_true rfl) (Nat.le_of_ble_eq_true rfl) (by omega) ?_
      rintro _ _ - - ⟨rfl, rfl⟩
      refine aft_v (pc2 := 16) ?_ rfl
      refine wa_if_eq (pc := 16) 25 dX6_fading_16 rfl (fun hb16 => ?_) (fun hb16 => ?_)
      · have e : orN (isF f) k ||| Int32.ofNat 0 = orN (isF f) (k + 1) := by rw [orN, bI_0.mp hb16]; rfl
        refine wa_iconst (pc := 25) (y := mX6_fading) (Int32.ofNat 0) dX6_fading_25 rfl ?_
        refine wa_ior (pc := 26) (y := mX6_fading) dX6_fading_26 ?_
        rw [e]
        refine wa_istore_n (pc := 27) (y := mX6_fading) dX6_fading_27 (Nat.le_of_ble_eq_true rfl) rfl ?_
        change WA _ _ _ _ (List.set _ 1 _) _ _ _
        simp only [List.set_cons_zero, List.set_cons_succ]
        first | with_reducible refine wa_iincN (pc := 28) (y := mX6_fading) dX6_fading_28 rfl (Nat.le_of_ble_eq_true rfl) rfl ?_ | refine wa_iinc (pc := 28) (y := mX6_fading) (1) dX6_fading_28 rfl rfl (Nat.le_of_ble_eq_true rfl) rfl ?_
        simp only [List.set_cons_zero, List.set_cons_succ]
        refine wa_goto (pc := 31) (y := mX6_fading) 4 dX6_fading_31 rfl ?_
        exact ih (k + 1) (by omega)
      · have e : orN (isF f) k ||| (Int32.ofNat 1 <<< (Int32.ofNat k &&& 31)) = orN (isF f) (k + 1) := by rw [orN, bI_n0 hb16]; rfl
        refine wa_iconst (pc := 19) (y := mX6_fading) (Int32.ofNat 1) dX6_fading_19 rfl ?_
        refine wa_iload_n (pc := 20) (y := mX6_fading) dX6_fading_20 rfl ?_
        refine wa_ishl (pc := 21) (y := mX6_fading) dX6_fading_21 ?_
        refine wa_goto (pc := 22) (y := mX6_fading) 26 dX6_fading_22 rfl ?_
        refine wa_ior (pc := 26) (y := mX6_fading) dX6_fading_26 ?_
        rw [e]
        refine wa_istore_n (pc := 27) (y := mX6_fading) dX6_fading_27 (Nat.le_of_ble_eq_true rfl) rfl ?_
        change WA _ _ _ _ (List.set _ 1 _) _ _ _
        simp only [List.set_cons_zero, List.set_cons_succ]
        first | with_reducible refine wa_iincN (pc := 28) (y := mX6_fading) dX6_fading_28 rfl (Nat.le_of_ble_eq_true rfl) rfl ?_ | refine wa_iinc (pc := 28) (y := mX6_fading) (1) dX6_fading_28 rfl rfl (Nat.le_of_ble_eq_true rfl) rfl ?_
        simp only [List.set_cons_zero, List.set_cons_succ]
        refine wa_goto (pc := 31) (y := mX6_fading) 4 dX6_fading_31 rfl ?_
        exact ih (k + 1) (by omega)
  show WA _ _ _ 0 [.ref m, .retAddr 0, .retAddr 0] [] _ _
  refine wa_iconst (pc := 0) (y := mX6_fading) (Int32.ofNat 0) dX6_fading_0 rfl ?_
  refine wa_istore_n (pc := 1) (y := mX6_fading) dX6_fading_1 (Nat.le_of_ble_eq_true rfl) rfl ?_
  change WA _ _ _ _ (List.set _ 1 _) _ _ _
  simp only [List.set_cons_zero, List.set_cons_succ]
  refine wa_iconst (pc := 2) (y := mX6_fading) (Int32.ofNat 0) dX6_fading_2 rfl ?_
  refine wa_istore_n (pc := 3) (y := mX6_fading) dX6_fading_3 (Nat.le_of_ble_eq_true rfl) rfl ?_
  change WA _ _ _ _ (List.set _ 2 _) _ _ _
  simp only [List.set_cons_zero, List.set_cons_succ]
  exact key 12 0 (by omega)
theorem s_X6_overChannels {w : Int32} (hd : 2 ≤ d) : MA G d mX6_overChannels [.ref m, .int w] (mH h m f σ) (fun r h' => r = .inl (some (.int (smN (ovcG f w) 12))) ∧ h' = mH h m f σ) := by
  have key : ∀ t k, k + t = 12 → WA G d mX6_overChannels 4 [.ref m, .int w, .int (smN (ovcG f w) k), .int (Int32.ofNat k)] [] (mH h m f σ) (fun r h' => r = .inl (some (.int (smN (ovcG f w) 12))) ∧ h' = mH h m f σ) := by
    intro t
    induction t with
    | zero =>
      intro k hk
      refine wa_iload_n (pc := 4) (y := mX6_overChannels) dX6_overChannels_4 rfl ?_
      refine wa_bipush (pc := 5) (y := mX6_overChannels) (Int32.ofNat 12) dX6_overChannels_5 rfl ?_
      refine wa_icmp_ge (pc := 7) 64 dX6_overChannels_7 rfl (fun hb7 => ?_) (fun hb7 => absurd ((iN_le (by omega) (by omega)).mpr (by omega)) hb7)
      refine wa_iload_n (pc := 64) (y := mX6_overChannels) dX6_overChannels_64 rfl ?_
      exact wa_ireturn (pc := 65) (y := mX6_overChannels) .int dX6_overChannels_65 rfl rfl ⟨by rw [show k = 12 by omega], rfl⟩
    | succ t ih =>
      intro k hk
      refine wa_iload_n (pc := 4) (y := mX6_overChannels) dX6_overChannels_4 rfl ?_
      refine wa_bipush (pc := 5) (y := mX6_overChannels) (Int32.ofNat 12) dX6_overChannels_5 rfl ?_
      refine wa_icmp_ge (pc := 7) 64 dX6_overChannels_7 rfl (fun hb7 => absurd ((iN_le (by omega) (by omega)).mp hb7) (by omega)) (fun hb7 => ?_)
      refine wa_iload_n (pc := 10) (y := mX6_overChannels) dX6_overChannels_10 rfl ?_
      refine wa_iload_n (pc := 11) (y := mX6_overChannels) dX6_overChannels_11 rfl ?_
      refine wa_iconst (pc := 12) (y := mX6_overChannels) (Int32.ofNat 2) dX6_overChannels_12 rfl ?_
      refine wa_icmp_ne (pc := 13) 24 dX6_overChannels_13 rfl (fun hb13 => ?_) (fun hb13 => ?_)
      · refine wa_iload_n (pc := 24) (y := mX6_overChannels) dX6_overChannels_24 rfl ?_
        refine wa_iconst (pc := 25) (y := mX6_overChannels) (Int32.ofNat 3) dX6_overChannels_25 rfl ?_
        refine wa_icmp_ne (pc := 26) 43 dX6_overChannels_26 rfl (fun hb26 => ?_) (fun hb26 => ?_)
        · first | refine wa_aload_n (pc := 43) (y := mX6_overChannels) dX6_overChannels_43 rfl ?_ | refine wa_aload_nN (pc := 43) (y := mX6_overChannels) dX6_overChannels_43 rfl ?_ | refine wa_aload_nq (pc := 43) (y := mX6_overChannels) dX6_overChannels_43 rfl ?_
          refine wa_iload_n (pc := 44) (y := mX6_overChannels) dX6_overChannels_44 rfl ?_
          refine wa_callV (pc := 45) (s_X6_isFading (d := d - 1) (by omega) (by omega)) dX6_overChannels_45 okX6_isFading q2966 q2968 qs73 mH_o rfl rfl rfl (Nat.le_of_ble_eq_true rfl) (Nat.le_of_ble_eq_true rfl) (by omega) ?_
          rintro _ _ - - ⟨rfl, rfl⟩
          refine aft_v (pc2 := 48) ?_ rfl
          refine wa_if_eq (pc := 48) 55 dX6_overChannels_48 rfl (fun hb48 => ?_) (fun hb48 => ?_)
          · have e : ovcG f w k = Int32.ofNat 0 := (if_neg hb13).trans ((if_neg hb26).trans (by rw [bI_0.mp hb48]; rfl))
            refine wa_iconst (pc := 55) (y := mX6_overChannels) (Int32.ofNat 0) dX6_overChannels_55 rfl ?_
            first | with_reducible refine wa_iaddN (pc := 56) (y := mX6_overChannels) dX6_overChannels_56 ?_ | refine wa_iadd (pc := 56) (y := mX6_overChannels) dX6_overChannels_56 ?_
            rw [smN_s e]
            refine wa_istore_n (pc := 57) (y := mX6_overChannels) dX6_overChannels_57 (Nat.le_of_ble_eq_true rfl) rfl ?_
            change WA _ _ _ _ (List.set _ 2 _) _ _ _
            simp only [List.set_cons_zero, List.set_cons_succ]
            first | with_reducible refine wa_iincN (pc := 58) (y := mX6_overChannels) dX6_overChannels_58 rfl (Nat.le_of_ble_eq_true rfl) rfl ?_ | refine wa_iinc (pc := 58) (y := mX6_overChannels) (1) dX6_overChannels_58 rfl rfl (Nat.le_of_ble_eq_true rfl) rfl ?_
            simp only [List.set_cons_zero, List.set_cons_succ]
            refine wa_goto (pc := 61) (y := mX6_overChannels) 4 dX6_overChannels_61 rfl ?_
            exact ih (k + 1) (by omega)
          · have e : ovcG f w k = Int32.ofNat 1 := (if_neg hb13).trans ((if_neg hb26).trans (by rw [bI_n0 hb48]; rfl))
            refine wa_iconst (pc := 51) (y := mX6_overChannels) (Int32.ofNat 1) dX6_overChannels_51 rfl ?_
            refine wa_goto (pc := 52) (y := mX6_overChannels) 56 dX6_overChannels_52 rfl ?_
            first | with_reducible refine wa_iaddN (pc := 56) (y := mX6_overChannels) dX6_overChannels_56 ?_ | refine wa_iadd (pc := 56) (y := mX6_overChannels) dX6_overChannels_56 ?_
            rw [smN_s e]
            refine wa_istore_n (pc := 57) (y := mX6_overChannels) dX6_overChannels_57 (Nat.le_of_ble_eq_true rfl) rfl ?_
            change WA _ _ _ _ (List.set _ 2 _) _ _ _
            simp only [List.set_cons_zero, List.set_cons_succ]
            first | with_reducible refine wa_iincN (pc := 58) (y := mX6_overChannels) dX6_overChannels_58 rfl (Nat.le_of_ble_eq_true rfl) rfl ?_ | refine wa_iinc (pc := 58) (y := mX6_overChannels) (1) dX6_overChannels_58 rfl rfl (Nat.le_of_ble_eq_true rfl) rfl ?_
            simp only [List.set_cons_zero, List.set_cons_succ]
            refine wa_goto (pc := 61) (y := mX6_overChannels) 4 dX6_overChannels_61 rfl ?_
            exact ih (k + 1) (by omega)
        · have e : ovcG f w k = f (402 + 5 * k + 1) := (if_neg hb13).trans (if_pos hb26)
          first | refine wa_aload_n (pc := 29) (y := mX6_overChannels) dX6_overChannels_29 rfl ?_ | refine wa_aload_nN (pc := 29) (y := mX6_overChannels) dX6_overChannels_29 rfl ?_ | refine wa_aload_nq (pc := 29) (y := mX6_overChannels) dX6_overChannels_29 rfl ?_
          refine wa_getf (pc := 30) (y := mX6_overChannels) (k := 5) 0 dX6_overChannels_30 mH_o rfl q2643 (Or.inl rfl) (Nat.le_of_ble_eq_true rfl) (by rfl) ?_
          refine wa_iload_n (pc := 33) (y := mX6_overChannels) dX6_overChannels_33 rfl ?_
          refine wa_callS (pc := 34) (s_X6_fade (d := d - 1)) dX6_overChannels_34 okX6_fade q2922 q2923 rfl rfl (Nat.le_of_ble_eq_true rfl) (Nat.le_of_ble_eq_true rfl) (by omega) ?_
          rintro _ _ - - ⟨rfl, rfl⟩
          refine aft_v (pc2 := 37) ?_ rfl
          refine wa_iconst (pc := 37) (y := mX6_overChannels) (Int32.ofNat 1) dX6_overChannels_37 rfl ?_
          first | with_reducible refine wa_iaddN (pc := 38) (y := mX6_overChannels) dX6_overChannels_38 ?_ | refine wa_iadd (pc := 38) (y := mX6_overChannels) dX6_overChannels_38 ?_
          refine wa_ialoadN (pc := 39) (y := mX6_overChannels) dX6_overChannels_39 mH_1 (by omega) ?_
          refine wa_goto (pc := 40) (y := mX6_overChannels) 56 dX6_overChannels_40 rfl ?_
          first | with_reducible refine wa_iaddN (pc := 56) (y := mX6_overChannels) dX6_overChannels_56 ?_ | refine wa_iadd (pc := 56) (y := mX6_overChannels) dX6_overChannels_56 ?_
          rw [smN_s e]
          refine wa_istore_n (pc := 57) (y := mX6_overChannels) dX6_overChannels_57 (Nat.le_of_ble_eq_true rfl) rfl ?_
          change WA _ _ _ _ (List.set _ 2 _) _ _ _
          simp only [List.set_cons_zero, List.set_cons_succ]
          first | with_reducible refine wa_iincN (pc := 58) (y := mX6_overChannels) dX6_overChannels_58 rfl (Nat.le_of_ble_eq_true rfl) rfl ?_ | refine wa_iinc (pc := 58) (y := mX6_overChannels) (1) dX6_overChannels_58 rfl rfl (Nat.le_of_ble_eq_true rfl) rfl ?_
          simp only [List.set_cons_zero, List.set_cons_succ]
          refine wa_goto (pc := 61) (y := mX6_overChannels) 4 dX6_overChannels_61 rfl ?_
          exact ih (k + 1) (by omega)
      · have e : ovcG f w k = nowF f k := if_pos hb13
        first | refine wa_aload_n (pc := 16) (y := mX6_overChannels) dX6_overChannels_16 rfl ?_ | refine wa_aload_nN (pc := 16) (y := mX6_overChannels) dX6_overChannels_16 rfl ?_ | refine wa_aload_nq (pc := 16) (y := mX6_overChannels) dX6_overChannels_16 rfl ?_
        refine wa_iload_n (pc := 17) (y := mX6_overChannels) dX6_overChannels_17 rfl ?_
        refine wa_callV (pc := 18) (s_X6_nowOf (d := d - 1) (by omega) (by omega)) dX6_overChannels_18 okX6_nowOf q2925 q2927 qs69 mH_o rfl rfl rfl (Nat.le_of_ble_eq_true rfl) (Nat.le_of_ble_eq_true rfl) (by omega) ?_
        rintro _ _ - - ⟨rfl, rfl⟩
        refine aft_v (pc2 := 21) ?_ rfl
        refine wa_goto (pc := 21) (y := mX6_overChannels) 56 dX6_overChannels_21 rfl ?_
        first | with_reducible refine wa_iaddN (pc := 56) (y := mX6_overChannels) dX6_overChannels_56 ?_ | refine wa_iadd (pc := 56) (y := mX6_overChannels) dX6_overChannels_56 ?_
        rw [smN_s e]
        refine wa_istore_n (pc := 57) (y := mX6_overChannels) dX6_overChannels_57 (Nat.le_of_ble_eq_true rfl) rfl ?_
        change WA _ _ _ _ (List.set _ 2 _) _ _ _
        simp only [List.set_cons_zero, List.set_cons_succ]
        first | with_reducible refine wa_iincN (pc := 58) (y := mX6_overChannels) dX6_overChannels_58 rfl (Nat.le_of_ble_eq_true rfl) rfl ?_ | refine wa_iinc (pc := 58) (y := mX6_overChannels) (1) dX6_overChannels_58 rfl rfl (Nat.le_of_ble_eq_true rfl) rfl ?_
        simp only [List.set_cons_zero, List.set_cons_succ]
        refine wa_goto (pc := 61) (y := mX6_overChannels) 4 dX6_overChannels_61 rfl ?_
        exact ih (k + 1) (by omega)
  show WA _ _ _ 0 [.ref m, .int _, .retAddr 0, .retAddr 0] [] _ _
  refine wa_iconst (pc := 0) (y := mX6_overChannels) (Int32.ofNat 0) dX6_overChannels_0 rfl ?_
  refine wa_istore_n (pc := 1) (y := mX6_overChannels) dX6_overChannels_1 (Nat.le_of_ble_eq_true rfl) rfl ?_
  change WA _ _ _ _ (List.set _ 2 _) _ _ _
  simp only [List.set_cons_zero, List.set_cons_succ]
  refine wa_iconst (pc := 2) (y := mX6_overChannels) (Int32.ofNat 0) dX6_overChannels_2 rfl ?_
  refine wa_istore_n (pc := 3) (y := mX6_overChannels) dX6_overChannels_3 (Nat.le_of_ble_eq_true rfl) rfl ?_
  change WA _ _ _ _ (List.set _ 3 _) _ _ _
  simp only [List.set_cons_zero, List.set_cons_succ]
  exact key 12 0 (by omega)
theorem s_X6_overCues {w : Int32} (hd : 4 ≤ d) (hI : Inv f) : MA G d mX6_overCues [.ref m, .int w] (mH h m f σ) (fun r h' => r = .inl (some (.int (ovkN f w (u (f 0))))) ∧ h' = mH h m f σ) := by
  have hn := hI.1
  have key : ∀ t k q, k + t = u (f 0) → WA G d mX6_overCues 4 [.ref m, .int w, .int (ovkN f w k), .int (Int32.ofNat k), q] [] (mH h m f σ) (fun r h' => r = .inl (some (.int (ovkN f w (u (f 0))))) ∧ h' = mH h m f σ) := by
    intro t
    induction t with
    | zero =>
      intro k q hk
      refine wa_iload_n (pc := 4) (y := mX6_overCues) dX6_overCues_4 rfl ?_
      first | refine wa_aload_n (pc := 5) (y := mX6_overCues) dX6_overCues_5 rfl ?_ | refine wa_aload_nN (pc := 5) (y := mX6_overCues) dX6_overCues_5 rfl ?_ | refine wa_aload_nq (pc := 5) (y := mX6_overCues) dX6_overCues_5 rfl ?_
      refine wa_getf (pc := 6) (y := mX6_overCues) (k := 5) 0 dX6_overCues_6 mH_o rfl q2643 (Or.inl rfl) (Nat.le_of_ble_eq_true rfl) (by rfl) ?_
      refine wa_iconst (pc := 9) (y := mX6_overCues) (Int32.ofNat 0) dX6_overCues_9 rfl ?_
      refine wa_ialoadU (pc := 10) (y := mX6_overCues) dX6_overCues_10 mH_1 (by omega) ?_
      refine wa_icmp_ge (pc := 11) 104 dX6_overCues_11 rfl (fun hb11 => ?_) (fun hb11 => absurd ((iN_le (by omega) (by omega)).mpr (by omega)) hb11)
      refine wa_iload_n (pc := 104) (y := mX6_overCues) dX6_overCues_104 rfl ?_
      exact wa_ireturn (pc := 105) (y := mX6_overCues) .int dX6_overCues_105 rfl rfl ⟨by rw [show k = u (f 0) by omega], rfl⟩
    | succ t ih =>
      intro k q hk
      have fin : ∀ q a, (if w = 7 then Nat.rec (motive := fun _ => Int32) (ovkN f w k) (fun c a => a + mvG f k c) 12 else ovkN f w k) = a → WA G d mX6_overCues 54 [.ref m, .int w, .int a, .int (Int32.ofNat k), q] [] (mH h m f σ) (fun r h' => r = .inl (some (.int (ovkN f w (u (f 0))))) ∧ h' = mH h m f σ) := by
        intro q a ea
        refine wa_iload_n (pc := 54) (y := mX6_overCues) dX6_overCues_54 rfl ?_
        refine wa_iload_n (pc := 55) (y := mX6_overCues) dX6_overCues_55 rfl ?_
        refine wa_bipush (pc := 56) (y := mX6_overCues) (Int32.ofNat 8) dX6_overCues_56 rfl ?_
        refine wa_icmp_ne (pc := 58) 75 dX6_overCues_58 rfl (fun hb58 => ?_) (fun hb58 => ?_)
        · refine wa_iload_n (pc := 75) (y := mX6_overCues) dX6_overCues_75 rfl ?_
          refine wa_bipush (pc := 76) (y := mX6_overCues) (Int32.ofNat 9) dX6_overCues_76 rfl ?_
          refine wa_icmp_ne (pc := 78) 95 dX6_overCues_78 rfl (fun hb78 => ?_) (fun hb78 => ?_)
          · have e : ovkG f w k = Int32.ofNat 0 := (if_neg hb58).trans (if_neg hb78)
            refine wa_iconst (pc := 95) (y := mX6_overCues) (Int32.ofNat 0) dX6_overCues_95 rfl ?_
            first | with_reducible refine wa_iaddN (pc := 96) (y := mX6_overCues) dX6_overCues_96 ?_ | refine wa_iadd (pc := 96) (y := mX6_overCues) dX6_overCues_96 ?_
            rw [← ea, ← e, show _ + ovkG f w k = ovkN f w (k + 1) from rfl]
            refine wa_istore_n (pc := 97) (y := mX6_overCues) dX6_overCues_97 (Nat.le_of_ble_eq_true rfl) rfl ?_
            change WA _ _ _ _ (List.set _ 2 _) _ _ _
            simp only [List.set_cons_zero, List.set_cons_succ]
            first | with_reducible refine wa_iincN (pc := 98) (y := mX6_overCues) dX6_overCues_98 rfl (Nat.le_of_ble_eq_true rfl) rfl ?_ | refine wa_iinc (pc := 98) (y := mX6_overCues) (1) dX6_overCues_98 rfl rfl (Nat.le_of_ble_eq_true rfl) rfl ?_
            simp only [List.set_cons_zero, List.set_cons_succ]
            refine wa_goto (pc := 101) (y := mX6_overCues) 4 dX6_overCues_101 rfl ?_
            exact ih (k + 1) _ (by omega)
          · have e : ovkG f w k = f (18 + 12 * k + 2) := (if_neg hb58).trans (if_pos hb78)
            first | refine wa_aload_n (pc := 81) (y := mX6_overCues) dX6_overCues_81 rfl ?_ | refine wa_aload_nN (pc := 81) (y := mX6_overCues) dX6_overCues_81 rfl ?_ | refine wa_aload_nq (pc := 81) (y := mX6_overCues) dX6_overCues_81 rfl ?_
            refine wa_getf (pc := 82) (y := mX6_overCues) (k := 5) 0 dX6_overCues_82 mH_o rfl q2643 (Or.inl rfl) (Nat.le_of_ble_eq_true rfl) (by rfl) ?_
            refine wa_iload_n (pc := 85) (y := mX6_overCues) dX6_overCues_85 rfl ?_
            refine wa_callS (pc := 86) (s_X6_at (d := d - 1)) dX6_overCues_86 okX6_at q2727 q2728 rfl rfl (Nat.le_of_ble_eq_true rfl) (Nat.le_of_ble_eq_true rfl) (by omega) ?_
            rintro _ _ - - ⟨rfl, rfl⟩
            refine aft_v (pc2 := 89) ?_ rfl
            refine wa_iconst (pc := 89) (y := mX6_overCues) (Int32.ofNat 2) dX6_overCues_89 rfl ?_
            first | with_reducible refine wa_iaddN (pc := 90) (y := mX6_overCues) dX6_overCues_90 ?_ | refine wa_iadd (pc := 90) (y := mX6_overCues) dX6_overCues_90 ?_
            refine wa_ialoadN (pc := 91) (y := mX6_overCues) dX6_overCues_91 mH_1 (by omega) ?_
            refine wa_goto (pc := 92) (y := mX6_overCues) 96 dX6_overCues_92 rfl ?_
            first | with_reducible refine wa_iaddN (pc := 96) (y := mX6_overCues) dX6_overCues_96 ?_ | refine wa_iadd (pc := 96) (y := mX6_overCues) dX6_overCues_96 ?_
            rw [← ea, ← e, show _ + ovkG f w k = ovkN f w (k + 1) from rfl]
            refine wa_istore_n (pc := 97) (y := mX6_overCues) dX6_overCues_97 (Nat.le_of_ble_eq_true rfl) rfl ?_
            change WA _ _ _ _ (List.set _ 2 _) _ _ _
            simp only [List.set_cons_zero, List.set_cons_succ]
            first | with_reducible refine wa_iincN (pc := 98) (y := mX6_overCues) dX6_overCues_98 rfl (Nat.le_of_ble_eq_true rfl) rfl ?_ | refine wa_iinc (pc := 98) (y := mX6_overCues) (1) dX6_overCues_98 rfl rfl (Nat.le_of_ble_eq_true rfl) rfl ?_
            simp only [List.set_cons_zero, List.set_cons_succ]
            refine wa_goto (pc := 101) (y := mX6_overCues) 4 dX6_overCues_101 rfl ?_
            exact ih (k + 1) _ (by omega)
        · have e : ovkG f w k = f (18 + 12 * k + 3) := if_pos hb58
          first | refine wa_aload_n (pc := 61) (y := mX6_overCues) dX6_overCues_61 rfl ?_ | refine wa_aload_nN (pc := 61) (y := mX6_overCues) dX6_overCues_61 rfl ?_ | refine wa_aload_nq (pc := 61) (y := mX6_overCues) dX6_overCues_61 rfl ?_
          refine wa_getf (pc := 62) (y := mX6_overCues) (k := 5) 0 dX6_overCues_62 mH_o rfl q2643 (Or.inl rfl) (Nat.le_of_ble_eq_true rfl) (by rfl) ?_
          refine wa_iload_n (pc := 65) (y := mX6_overCues) dX6_overCues_65 rfl ?_
          refine wa_callS (pc := 66) (s_X6_at (d := d - 1)) dX6_overCues_66 okX6_at q2727 q2728 rfl rfl (Nat.le_of_ble_eq_true rfl) (Nat.le_of_ble_eq_true rfl) (by omega) ?_
          rintro _ _ - - ⟨rfl, rfl⟩
          refine aft_v (pc2 := 69) ?_ rfl
          refine wa_iconst (pc := 69) (y := mX6_overCues) (Int32.ofNat 3) dX6_overCues_69 rfl ?_
          first | with_reducible refine wa_iaddN (pc := 70) (y := mX6_overCues) dX6_overCues_70 ?_ | refine wa_iadd (pc := 70) (y := mX6_overCues) dX6_overCues_70 ?_
          refine wa_ialoadN (pc := 71) (y := mX6_overCues) dX6_overCues_71 mH_1 (by omega) ?_
          refine wa_goto (pc := 72) (y := mX6_overCues) 96 dX6_overCues_72 rfl ?_
          first | with_reducible refine wa_iaddN (pc := 96) (y := mX6_overCues) dX6_overCues_96 ?_ | refine wa_iadd (pc := 96) (y := mX6_overCues) dX6_overCues_96 ?_
          rw [← ea, ← e, show _ + ovkG f w k = ovkN f w (k + 1) from rfl]
          refine wa_istore_n (pc := 97) (y := mX6_overCues) dX6_overCues_97 (Nat.le_of_ble_eq_true rfl) rfl ?_
          change WA _ _ _ _ (List.set _ 2 _) _ _ _
          simp only [List.set_cons_zero, List.set_cons_succ]
          first | with_reducible refine wa_iincN (pc := 98) (y := mX6_overCues) dX6_overCues_98 rfl (Nat.le_of_ble_eq_true rfl) rfl ?_ | refine wa_iinc (pc := 98) (y := mX6_overCues) (1) dX6_overCues_98 rfl rfl (Nat.le_of_ble_eq_true rfl) rfl ?_
          simp only [List.set_cons_zero, List.set_cons_succ]
          refine wa_goto (pc := 101) (y := mX6_overCues) 4 dX6_overCues_101 rfl ?_
          exact ih (k + 1) _ (by omega)
      have inn : w = 7 → ∀ t2 c, c + t2 = 12 → WA G d mX6_overCues 17 [.ref m, .int w, .int (Nat.rec (motive := fun _ => Int32) (ovkN f w k) (fun c a => a + mvG f k c) c), .int (Int32.ofNat k), .int (Int32.ofNat c)] [] (mH h m f σ) (fun r h' => r = .inl (some (.int (ovkN f w (u (f 0))))) ∧ h' = mH h m f σ) := by
        intro hw t2
        induction t2 with
        | zero =>
          intro c hc
          refine wa_iload (pc := 17) (y := mX6_overCues) dX6_overCues_17 rfl ?_
          refine wa_bipush (pc := 19) (y := mX6_overCues) (Int32.ofNat 12) dX6_overCues_19 rfl ?_
          refine wa_icmp_ge (pc := 21) 54 dX6_overCues_21 rfl (fun hb21 => ?_) (fun hb21 => absurd ((iN_le (by omega) (by omega)).mpr (by omega)) hb21)
          exact fin _ _ (by rw [if_pos hw, show c = 12 by omega])
        | succ t2 ih2 =>
          intro c hc
          refine wa_iload (pc := 17) (y := mX6_overCues) dX6_overCues_17 rfl ?_
          refine wa_bipush (pc := 19) (y := mX6_overCues) (Int32.ofNat 12) dX6_overCues_19 rfl ?_
          refine wa_icmp_ge (pc := 21) 54 dX6_overCues_21 rfl (fun hb21 => absurd ((iN_le (by omega) (by omega)).mp hb21) (by omega)) (fun hb21 => ?_)
          refine wa_iload_n (pc := 24) (y := mX6_overCues) dX6_overCues_24 rfl ?_
          refine wa_bipush (pc := 25) (y := mX6_overCues) (Int32.ofNat 7) dX6_overCues_25 rfl ?_
          refine wa_icmp_ne (pc := 27) 54 dX6_overCues_27 rfl (fun hb27 => absurd hw hb27) (fun hb27 => ?_)
          refine wa_iload_n (pc := 30) (y := mX6_overCues) dX6_overCues_30 rfl ?_
          first | refine wa_aload_n (pc := 31) (y := mX6_overCues) dX6_overCues_31 rfl ?_ | refine wa_aload_nN (pc := 31) (y := mX6_overCues) dX6_overCues_31 rfl ?_ | refine wa_aload_nq (pc := 31) (y := mX6_overCues) dX6_overCues_31 rfl ?_
          refine wa_iload_n (pc := 32) (y := mX6_overCues) dX6_overCues_32 rfl ?_
          refine wa_iload (pc := 33) (y := mX6_overCues) dX6_overCues_33 rfl ?_
          refine wa_callV (pc := 35) (s_X6_moves (d := d - 1) (by omega) hI (by omega) (by omega)) dX6_overCues_35 okX6_moves q2793 q2795 qs51 mH_o rfl rfl rfl (Nat.le_of_ble_eq_true rfl) (Nat.le_of_ble_eq_true rfl) (by omega) ?_
          rintro _ _ - - ⟨rfl, rfl⟩
          refine aft_v (pc2 := 38) ?_ rfl
          refine wa_if_eq (pc := 38) 45 dX6_overCues_38 rfl (fun hb38 => ?_) (fun hb38 => ?_)
          · have e : mvG f k c = Int32.ofNat 0 := by unfold mvG; rw [bI_0.mp hb38]; rfl
            refine wa_iconst (pc := 45) (y := mX6_overCues) (Int32.ofNat 0) dX6_overCues_45 rfl ?_
            first | with_reducible refine wa_iaddN (pc := 46) (y := mX6_overCues) dX6_overCues_46 ?_ | refine wa_iadd (pc := 46) (y := mX6_overCues) dX6_overCues_46 ?_
            rw [← e]
            refine wa_istore_n (pc := 47) (y := mX6_overCues) dX6_overCues_47 (Nat.le_of_ble_eq_true rfl) rfl ?_
            change WA _ _ _ _ (List.set _ 2 _) _ _ _
            simp only [List.set_cons_zero, List.set_cons_succ]
            first | with_reducible refine wa_iincN (pc := 48) (y := mX6_overCues) dX6_overCues_48 rfl (Nat.le_of_ble_eq_true rfl) rfl ?_ | refine wa_iinc (pc := 48) (y := mX6_overCues) (1) dX6_overCues_48 rfl rfl (Nat.le_of_ble_eq_true rfl) rfl ?_
            simp only [List.set_cons_zero, List.set_cons_succ]
            refine wa_goto (pc := 51) (y := mX6_overCues) 17 dX6_overCues_51 rfl ?_
            exact ih2 (c + 1) (by omega)
          · have e : mvG f k c = Int32.ofNat 1 := by unfold mvG; rw [bI_n0 hb38]; rfl
            refine wa_iconst (pc := 41) (y := mX6_overCues) (Int32.ofNat 1) dX6_overCues_41 rfl ?_
            refine wa_goto (pc := 42) (y := mX6_overCues) 46 dX6_overCues_42 rfl ?_
            first | with_reducible refine wa_iaddN (pc := 46) (y := mX6_overCues) dX6_overCues_46 ?_ | refine wa_iadd (pc := 46) (y := mX6_overCues) dX6_overCues_46 ?_
            rw [← e]
            refine wa_istore_n (pc := 47) (y := mX6_overCues) dX6_overCues_47 (Nat.le_of_ble_eq_true rfl) rfl ?_
            change WA _ _ _ _ (List.set _ 2 _) _ _ _
            simp only [List.set_cons_zero, List.set_cons_succ]
            first | with_reducible refine wa_iincN (pc := 48) (y := mX6_overCues) dX6_overCues_48 rfl (Nat.le_of_ble_eq_true rfl) rfl ?_ | refine wa_iinc (pc := 48) (y := mX6_overCues) (1) dX6_overCues_48 rfl rfl (Nat.le_of_ble_eq_true rfl) rfl ?_
            simp only [List.set_cons_zero, List.set_cons_succ]
            refine wa_goto (pc := 51) (y := mX6_overCues) 17 dX6_overCues_51 rfl ?_
            exact ih2 (c + 1) (by omega)
      by_cases hw : w = 7
      · refine wa_iload_n (pc := 4) (y := mX6_overCues) dX6_overCues_4 rfl ?_
        first | refine wa_aload_n (pc := 5) (y := mX6_overCues) dX6_overCues_5 rfl ?_ | refine wa_aload_nN (pc := 5) (y := mX6_overCues) dX6_overCues_5 rfl ?_ | refine wa_aload_nq (pc := 5) (y := mX6_overCues) dX6_overCues_5 rfl ?_
        refine wa_getf (pc := 6) (y := mX6_overCues) (k := 5) 0 dX6_overCues_6 mH_o rfl q2643 (Or.inl rfl) (Nat.le_of_ble_eq_true rfl) (by rfl) ?_
        refine wa_iconst (pc := 9) (y := mX6_overCues) (Int32.ofNat 0) dX6_overCues_9 rfl ?_
        refine wa_ialoadU (pc := 10) (y := mX6_overCues) dX6_overCues_10 mH_1 (by omega) ?_
        refine wa_icmp_ge (pc := 11) 104 dX6_overCues_11 rfl (fun hb11 => absurd ((iN_le (by omega) (by omega)).mp hb11) (by omega)) (fun hb11 => ?_)
        refine wa_iconst (pc := 14) (y := mX6_overCues) (Int32.ofNat 0) dX6_overCues_14 rfl ?_
        refine wa_istore (pc := 15) (y := mX6_overCues) dX6_overCues_15 (Nat.le_of_ble_eq_true rfl) rfl ?_
        simp only [List.set_cons_zero, List.set_cons_succ]
        exact inn hw 12 0 (by omega)
      · refine wa_iload_n (pc := 4) (y := mX6_overCues) dX6_overCues_4 rfl ?_
        first | refine wa_aload_n (pc := 5) (y := mX6_overCues) dX6_overCues_5 rfl ?_ | refine wa_aload_nN (pc := 5) (y := mX6_overCues) dX6_overCues_5 rfl ?_ | refine wa_aload_nq (pc := 5) (y := mX6_overCues) dX6_overCues_5 rfl ?_
        refine wa_getf (pc := 6) (y := mX6_overCues) (k := 5) 0 dX6_overCues_6 mH_o rfl q2643 (Or.inl rfl) (Nat.le_of_ble_eq_true rfl) (by rfl) ?_
        refine wa_iconst (pc := 9) (y := mX6_overCues) (Int32.ofNat 0) dX6_overCues_9 rfl ?_
        refine wa_ialoadU (pc := 10) (y := mX6_overCues) dX6_overCues_10 mH_1 (by omega) ?_
        refine wa_icmp_ge (pc := 11) 104 dX6_overCues_11 rfl (fun hb11 => absurd ((iN_le (by omega) (by omega)).mp hb11) (by omega)) (fun hb11 => ?_)
        refine wa_iconst (pc := 14) (y := mX6_overCues) (Int32.ofNat 0) dX6_overCues_14 rfl ?_
        refine wa_istore (pc := 15) (y := mX6_overCues) dX6_overCues_15 (Nat.le_of_ble_eq_true rfl) rfl ?_
        simp only [List.set_cons_zero, List.set_cons_succ]
        refine wa_iload (pc := 17) (y := mX6_overCues) dX6_overCues_17 rfl ?_
        refine wa_bipush (pc := 19) (y := mX6_overCues) (Int32.ofNat 12) dX6_overCues_19 rfl ?_
        refine wa_icmp_ge (pc := 21) 54 dX6_overCues_21 rfl (fun hb21 => absurd hb21 (by decide)) (fun hb21 => ?_)
        refine wa_iload_n (pc := 24) (y := mX6_overCues) dX6_overCues_24 rfl ?_
        refine wa_bipush (pc := 25) (y := mX6_overCues) (Int32.ofNat 7) dX6_overCues_25 rfl ?_
        refine wa_icmp_ne (pc := 27) 54 dX6_overCues_27 rfl (fun hb27 => ?_) (fun hb27 => absurd hb27 hw)
        exact fin _ _ (by rw [if_neg hw])
  show WA _ _ _ 0 [.ref m, .int w, .retAddr 0, .retAddr 0, .retAddr 0] [] _ _
  refine wa_iconst (pc := 0) (y := mX6_overCues) (Int32.ofNat 0) dX6_overCues_0 rfl ?_
  refine wa_istore_n (pc := 1) (y := mX6_overCues) dX6_overCues_1 (Nat.le_of_ble_eq_true rfl) rfl ?_
  change WA _ _ _ _ (List.set _ 2 _) _ _ _
  simp only [List.set_cons_zero, List.set_cons_succ]
  refine wa_iconst (pc := 2) (y := mX6_overCues) (Int32.ofNat 0) dX6_overCues_2 rfl ?_
  refine wa_istore_n (pc := 3) (y := mX6_overCues) dX6_overCues_3 (Nat.le_of_ble_eq_true rfl) rfl ?_
  change WA _ _ _ _ (List.set _ 3 _) _ _ _
  simp only [List.set_cons_zero, List.set_cons_succ]
  exact key (u (f 0)) 0 _ (by omega)
theorem s_X6_changed {c : Nat} (hd : 3 ≤ d) (hI : Inv f) (hc : c < 12) : MA G d mX6_changed [.ref m, .int (Int32.ofNat c)] (mH h m f σ) (fun r h' => r = .inl (some (.int (smN (chgG f (σ.1 8) c) (u (f 0))))) ∧ h' = mH h m f σ) := by
  have hn := hI.1
  have key : ∀ t k, k + t = u (f 0) → WA G d mX6_changed 4 [.ref m, .int (Int32.ofNat c), .int (smN (chgG f (σ.1 8) c) k), .int (Int32.ofNat k)] [] (mH h m f σ) (fun r h' => r = .inl (some (.int (smN (chgG f (σ.1 8) c) (u (f 0))))) ∧ h' = mH h m f σ) := by
    intro t
    induction t with
    | zero =>
      intro k hk
      refine wa_iload_n (pc := 4) (y := mX6_changed) dX6_changed_4 rfl ?_
      first | refine wa_aload_n (pc := 5) (y := mX6_changed) dX6_changed_5 rfl ?_ | refine wa_aload_nN (pc := 5) (y := mX6_changed) dX6_changed_5 rfl ?_ | refine wa_aload_nq (pc := 5) (y := mX6_changed) dX6_changed_5 rfl ?_
      refine wa_getf (pc := 6) (y := mX6_changed) (k := 5) 0 dX6_changed_6 mH_o rfl q2643 (Or.inl rfl) (Nat.le_of_ble_eq_true rfl) (by rfl) ?_
      refine wa_iconst (pc := 9) (y := mX6_changed) (Int32.ofNat 0) dX6_changed_9 rfl ?_
      refine wa_ialoadU (pc := 10) (y := mX6_changed) dX6_changed_10 mH_1 (by omega) ?_
      refine wa_icmp_ge (pc := 11) 48 dX6_changed_11 rfl (fun hb11 => ?_) (fun hb11 => absurd ((iN_le (by omega) (by omega)).mpr (by omega)) hb11)
      refine wa_iload_n (pc := 48) (y := mX6_changed) dX6_changed_48 rfl ?_
      exact wa_ireturn (pc := 49) (y := mX6_changed) .int dX6_changed_49 rfl rfl ⟨by rw [show k = u (f 0) by omega], rfl⟩
    | succ t ih =>
      intro k hk
      refine wa_iload_n (pc := 4) (y := mX6_changed) dX6_changed_4 rfl ?_
      first | refine wa_aload_n (pc := 5) (y := mX6_changed) dX6_changed_5 rfl ?_ | refine wa_aload_nN (pc := 5) (y := mX6_changed) dX6_changed_5 rfl ?_ | refine wa_aload_nq (pc := 5) (y := mX6_changed) dX6_changed_5 rfl ?_
      refine wa_getf (pc := 6) (y := mX6_changed) (k := 5) 0 dX6_changed_6 mH_o rfl q2643 (Or.inl rfl) (Nat.le_of_ble_eq_true rfl) (by rfl) ?_
      refine wa_iconst (pc := 9) (y := mX6_changed) (Int32.ofNat 0) dX6_changed_9 rfl ?_
      refine wa_ialoadU (pc := 10) (y := mX6_changed) dX6_changed_10 mH_1 (by omega) ?_
      refine wa_icmp_ge (pc := 11) 48 dX6_changed_11 rfl (fun hb11 => absurd ((iN_le (by omega) (by omega)).mp hb11) (by omega)) (fun hb11 => ?_)
      refine wa_iload_n (pc := 14) (y := mX6_changed) dX6_changed_14 rfl ?_
      first | refine wa_aload_n (pc := 15) (y := mX6_changed) dX6_changed_15 rfl ?_ | refine wa_aload_nN (pc := 15) (y := mX6_changed) dX6_changed_15 rfl ?_ | refine wa_aload_nq (pc := 15) (y := mX6_changed) dX6_changed_15 rfl ?_
      refine wa_iload_n (pc := 16) (y := mX6_changed) dX6_changed_16 rfl ?_
      refine wa_iload_n (pc := 17) (y := mX6_changed) dX6_changed_17 rfl ?_
      refine wa_callV (pc := 18) (s_X6_levelIn (d := d - 1) (by omega) hI (by omega) hc) dX6_changed_18 okX6_levelIn q2754 q2756 qs46 mH_o rfl rfl rfl (Nat.le_of_ble_eq_true rfl) (Nat.le_of_ble_eq_true rfl) (by omega) ?_
      rintro _ _ - - ⟨rfl, rfl⟩
      refine aft_v (pc2 := 21) ?_ rfl
      first | refine wa_aload_n (pc := 21) (y := mX6_changed) dX6_changed_21 rfl ?_ | refine wa_aload_nN (pc := 21) (y := mX6_changed) dX6_changed_21 rfl ?_ | refine wa_aload_nq (pc := 21) (y := mX6_changed) dX6_changed_21 rfl ?_
      refine wa_getf (pc := 22) (y := mX6_changed) (k := 5) 8 dX6_changed_22 mH_o rfl q2651 (Or.inl rfl) (Nat.le_of_ble_eq_true rfl) (by rfl) ?_
      refine wa_bipush (pc := 25) (y := mX6_changed) (Int32.ofNat 12) dX6_changed_25 rfl ?_
      refine wa_iload_n (pc := 27) (y := mX6_changed) dX6_changed_27 rfl ?_
      first | with_reducible refine wa_imulN (pc := 28) (y := mX6_changed) dX6_changed_28 ?_ | refine wa_imul (pc := 28) (y := mX6_changed) dX6_changed_28 ?_
      refine wa_iload_n (pc := 29) (y := mX6_changed) dX6_changed_29 rfl ?_
      first | with_reducible refine wa_iaddN (pc := 30) (y := mX6_changed) dX6_changed_30 ?_ | refine wa_iadd (pc := 30) (y := mX6_changed) dX6_changed_30 ?_
      refine wa_ialoadN (pc := 31) (y := mX6_changed) dX6_changed_31 mH_5 (by omega) ?_
      refine wa_icmp_eq (pc := 32) 39 dX6_changed_32 rfl (fun hb32 => ?_) (fun hb32 => ?_)
      · have e : chgG f (σ.1 8) c k = Int32.ofNat 0 := if_pos hb32
        refine wa_iconst (pc := 39) (y := mX6_changed) (Int32.ofNat 0) dX6_changed_39 rfl ?_
        first | with_reducible refine wa_iaddN (pc := 40) (y := mX6_changed) dX6_changed_40 ?_ | refine wa_iadd (pc := 40) (y := mX6_changed) dX6_changed_40 ?_
        rw [smN_s e]
        refine wa_istore_n (pc := 41) (y := mX6_changed) dX6_changed_41 (Nat.le_of_ble_eq_true rfl) rfl ?_
        change WA _ _ _ _ (List.set _ 2 _) _ _ _
        simp only [List.set_cons_zero, List.set_cons_succ]
        first | with_reducible refine wa_iincN (pc := 42) (y := mX6_changed) dX6_changed_42 rfl (Nat.le_of_ble_eq_true rfl) rfl ?_ | refine wa_iinc (pc := 42) (y := mX6_changed) (1) dX6_changed_42 rfl rfl (Nat.le_of_ble_eq_true rfl) rfl ?_
        simp only [List.set_cons_zero, List.set_cons_succ]
        refine wa_goto (pc := 45) (y := mX6_changed) 4 dX6_changed_45 rfl ?_
        exact ih (k + 1) (by omega)
      · have e : chgG f (σ.1 8) c k = Int32.ofNat 1 := if_neg hb32
        refine wa_iconst (pc := 35) (y := mX6_changed) (Int32.ofNat 1) dX6_changed_35 rfl ?_
        refine wa_goto (pc := 36) (y := mX6_changed) 40 dX6_changed_36 rfl ?_
        first | with_reducible refine wa_iaddN (pc := 40) (y := mX6_changed) dX6_changed_40 ?_ | refine wa_iadd (pc := 40) (y := mX6_changed) dX6_changed_40 ?_
        rw [smN_s e]
        refine wa_istore_n (pc := 41) (y := mX6_changed) dX6_changed_41 (Nat.le_of_ble_eq_true rfl) rfl ?_
        change WA _ _ _ _ (List.set _ 2 _) _ _ _
        simp only [List.set_cons_zero, List.set_cons_succ]
        first | with_reducible refine wa_iincN (pc := 42) (y := mX6_changed) dX6_changed_42 rfl (Nat.le_of_ble_eq_true rfl) rfl ?_ | refine wa_iinc (pc := 42) (y := mX6_changed) (1) dX6_changed_42 rfl rfl (Nat.le_of_ble_eq_true rfl) rfl ?_
        simp only [List.set_cons_zero, List.set_cons_succ]
        refine wa_goto (pc := 45) (y := mX6_changed) 4 dX6_changed_45 rfl ?_
        exact ih (k + 1) (by omega)
  show WA _ _ _ 0 [.ref m, .int _, .retAddr 0, .retAddr 0] [] _ _
  refine wa_iconst (pc := 0) (y := mX6_changed) (Int32.ofNat 0) dX6_changed_0 rfl ?_
  refine wa_istore_n (pc := 1) (y := mX6_changed) dX6_changed_1 (Nat.le_of_ble_eq_true rfl) rfl ?_
  change WA _ _ _ _ (List.set _ 2 _) _ _ _
  simp only [List.set_cons_zero, List.set_cons_succ]
  refine wa_iconst (pc := 2) (y := mX6_changed) (Int32.ofNat 0) dX6_changed_2 rfl ?_
  refine wa_istore_n (pc := 3) (y := mX6_changed) dX6_changed_3 (Nat.le_of_ble_eq_true rfl) rfl ?_
  change WA _ _ _ _ (List.set _ 3 _) _ _ _
  simp only [List.set_cons_zero, List.set_cons_succ]
  exact key (u (f 0)) 0 (by omega)
end MREAD
