/-! ===== CueStackModel: its calls, second part ===== -/
def mxN (f : Nat → Int32) (cue : Int32) (p : Nat) : Nat → Int32
  | 0 => 0
  | c + 1 => if mvs f p c then (if mxN f cue p c < lenF f cue p c then lenF f cue p c else mxN f cue p c) else mxN f cue p c
def cueV (f : Nat → Int32) (cue : Int32) (p : Nat) : Nat → Int32
  | 0 => Int32.ofNat p
  | 1 => f (18 + 12 * p + 1)
  | 2 => f (18 + 12 * p + 2)
  | 3 => f (18 + 12 * p + 3)
  | 4 => smN (cntG f cue) (u (f 1))
  | 5 => orN (mvs f p) 12
  | _ => mxN f cue p 12
def O_cue (f : Nat → Int32) (σ : MS) (cue w : Int32) : OO := match pl f cue with
  | none => oX f σ 1
  | some p => if ¬ u w ≤ 6 then oX f σ 2 else oR f σ (cueV f cue p (u w))
/-- behind a give or take: kept, done, refused -/
def oG (f : Nat → Int32) (σ : MS) (c k : Nat) (g : Nat × (Nat → Int32) × MS) : OO :=
  if 0 < g.1 then (k, 0, g.2.1, mV g.2.2 7 (Int32.ofNat k)) else (0, smN (chgG g.2.1 (g.2.2.1 8) c) (u (g.2.1 0)), g.2.1, chg g.2.2)
def O_set (f : Nat → Int32) (σ : MS) (cue c l q : Int32) (b : Bool) : OO := match pl f cue with
  | none => oX f σ 1
  | some p => if ¬ u c < 12 then oX f σ 1 else if ¬ u q < 4 then oX f σ 1 else if ¬ u l ≤ 100 then oX f σ 2 else oG f σ (u c) 3 (dGi f (mA (mV σ 7 (Int32.ofNat 0)) 1 f) cue p (u c) l q b)
def O_release (f : Nat → Int32) (σ : MS) (cue c q : Int32) (b : Bool) : OO := match pl f cue with
  | none => oX f σ 1
  | some p => if ¬ u c < 12 then oX f σ 1 else if ¬ u q < 4 then oX f σ 1 else oG f σ (u c) 2 (dGi f (mA (mV σ 7 (Int32.ofNat 0)) 1 f) cue p (u c) (-1) q b)
/-- unset's taking, and its refusal -/
def dTk (f : Nat → Int32) (σ : MS) (cue : Int32) (p c : Nat) (b : Bool) : Nat × (Nat → Int32) × MS :=
  if 0 < (tkH f (σ.1 8) cue p c b).1 then ((tkH f (σ.1 8) cue p c b).1, σ.1 1, mV (mA σ 8 (tkH f (σ.1 8) cue p c b).2.2) 6 (Int32.ofNat (tkH f (σ.1 8) cue p c b).1))
  else (0, (tkH f (σ.1 8) cue p c b).2.1, mA σ 8 (tkH f (σ.1 8) cue p c b).2.2)
def O_unset (f : Nat → Int32) (σ : MS) (cue c : Int32) (b : Bool) : OO := match pl f cue with
  | none => oX f σ 1
  | some p => if ¬ u c < 12 then oX f σ 1 else oG f σ (u c) 2 (dTk f (mA (mV σ 7 (Int32.ofNat 0)) 1 f) cue p (u c) b)
def O_removeCue (f : Nat → Int32) (σ : MS) (cue : Int32) (b : Bool) : OO :=
  if 0 < (dRm f (mA σ 1 f) cue b).1 then ((dRm f (mA σ 1 f) cue b).1, 0, (dRm f (mA σ 1 f) cue b).2.1, mV (dRm f (mA σ 1 f) cue b).2.2 7 (Int32.ofNat (dRm f (mA σ 1 f) cue b).1))
  else (0, smN (cntG f cue) (u (f 1)), (dRm f (mA σ 1 f) cue b).2.1, chg (mV (dRm f (mA σ 1 f) cue b).2.2 7 (Int32.ofNat 0)))
theorem bI_d0 {P : Prop} [Decidable P] : bI (decide P) = 0 ↔ ¬ P := by rw [bI_0]; exact decide_eq_false_iff_not
theorem bI_dn {P : Prop} [Decidable P] (h : ¬ bI (decide P) = 0) : P := of_decide_eq_true (bI_n0 h)
theorem dRm_le {f : Nat → Int32} {σ : MS} {cue : Int32} {b : Bool} : (dRm f σ cue b).1 ≤ 2 := by
  unfold dRm
  split
  · exact Nat.le_succ _
  · split
    · exact Nat.le_refl _
    · split
      · split
        · exact Nat.le_refl _
        · exact Nat.zero_le _
      · exact Nat.zero_le _
theorem dGi_le {f : Nat → Int32} {σ : MS} {cue lev part : Int32} {p c : Nat} {b : Bool} : (dGi f σ cue p c lev part b).1 ≤ 2 := by
  unfold dGi
  split
  · exact gvH_le
  · exact Nat.zero_le _
section MTOP2
variable {G : GG} {d : Nat} {h : AH} {m : Nat} {f : Nat → Int32} {σ : MS}
theorem s_X6_setPart {cue q t : Int32} {b : Bool} (hd : 3 ≤ d) (hI : Inv f) (hpm : u (σ.2 5) ≤ 6) : MA G d mX6_setPart [.ref m, .int cue, .int q, .int (bI b), .int t] (mH h m f σ) (fun r h' => r = .inl (some (.int (O_setPart f σ cue q b t).2.1)) ∧ h' = mH h m (O_setPart f σ cue q b t).2.2.1 (O_setPart f σ cue q b t).2.2.2) := by
  have hn := hI.1
  show WA _ _ _ 0 [.ref m, .int _, .int _, .int _, .int _, .retAddr 0, .retAddr 0] [] _ _
  cases hp : pl f cue with
  | none =>
    rw [show O_setPart f σ cue q b t = oX f σ 1 by unfold O_setPart; rw [hp]]
    first | refine wa_aload_n (pc := 0) (y := mX6_setPart) dX6_setPart_0 rfl ?_ | refine wa_aload_nN (pc := 0) (y := mX6_setPart) dX6_setPart_0 rfl ?_ | refine wa_aload_nq (pc := 0) (y := mX6_setPart) dX6_setPart_0 rfl ?_
    first | refine wa_aload_n (pc := 1) (y := mX6_setPart) dX6_setPart_1 rfl ?_ | refine wa_aload_nN (pc := 1) (y := mX6_setPart) dX6_setPart_1 rfl ?_ | refine wa_aload_nq (pc := 1) (y := mX6_setPart) dX6_setPart_1 rfl ?_
    refine wa_iload_n (pc := 2) (y := mX6_setPart) dX6_setPart_2 rfl ?_
    refine wa_callV (pc := 3) (s_X6_isCue (d := d - 1) (by omega) hI) dX6_setPart_3 okX6_isCue q2719 q2721 qs41 mH_o rfl rfl rfl (Nat.le_of_ble_eq_true rfl) (Nat.le_of_ble_eq_true rfl) (by omega) ?_
    rintro _ _ - - ⟨rfl, rfl⟩
    refine aft_v (pc2 := 6) ?_ rfl
    rw [isC_none hp]
    refine wa_if_eq (pc := 6) 16 dX6_setPart_6 rfl (fun hb6 => ?_) (fun hb6 => absurd rfl hb6)
    refine wa_iconst (pc := 16) (y := mX6_setPart) (Int32.ofNat 1) dX6_setPart_16 rfl ?_
    refine wa_goto (pc := 17) (y := mX6_setPart) 37 dX6_setPart_17 rfl ?_
    refine wa_putf (pc := 37) (y := mX6_setPart) (k := 5) 7 .int dX6_setPart_37 mH_o rfl q2650 (Or.inl rfl) (Nat.le_of_ble_eq_true rfl) rfl (by decide +kernel) rfl rfl ?_
    rw [mW_o7]
    first | refine wa_aload_n (pc := 40) (y := mX6_setPart) dX6_setPart_40 rfl ?_ | refine wa_aload_nN (pc := 40) (y := mX6_setPart) dX6_setPart_40 rfl ?_ | refine wa_aload_nq (pc := 40) (y := mX6_setPart) dX6_setPart_40 rfl ?_
    refine wa_getf (pc := 41) (y := mX6_setPart) (k := 5) 7 dX6_setPart_41 mH_o rfl q2650 (Or.inl rfl) (Nat.le_of_ble_eq_true rfl) (by rfl) ?_
    show WA _ _ _ _ _ (.int (Int32.ofNat 1) :: _) _ _
    refine wa_if_le (pc := 44) 49 dX6_setPart_44 rfl (fun hb44 => absurd hb44 (by decide)) (fun hb44 => ?_)
    clear hb44
    refine wa_iconst (pc := 47) (y := mX6_setPart) (Int32.ofNat 0) dX6_setPart_47 rfl ?_
    exact wa_ireturn (pc := 48) (y := mX6_setPart) .int dX6_setPart_48 rfl rfl ⟨rfl, rfl⟩
  | some p =>
    have hps := pl_some hp
    by_cases e1 : u q < 4
    · by_cases e2 : u t ≤ 600
      · rw [show O_setPart f σ cue q b t = (0, f (18 + 12 * p + 4 + 2 * u q + if b then 0 else 1), upd f (18 + 12 * p + 4 + 2 * u q + if b then 0 else 1) t, oC f σ) by unfold O_setPart; rw [hp]; exact (if_neg (fun x => x e1)).trans (if_neg (fun x => x e2))]
        have hx : 18 + 12 * p + 4 + 2 * u q + (if b then 0 else 1) < 462 := by cases b <;> simp <;> omega
        first | refine wa_aload_n (pc := 0) (y := mX6_setPart) dX6_setPart_0 rfl ?_ | refine wa_aload_nN (pc := 0) (y := mX6_setPart) dX6_setPart_0 rfl ?_ | refine wa_aload_nq (pc := 0) (y := mX6_setPart) dX6_setPart_0 rfl ?_
        first | refine wa_aload_n (pc := 1) (y := mX6_setPart) dX6_setPart_1 rfl ?_ | refine wa_aload_nN (pc := 1) (y := mX6_setPart) dX6_setPart_1 rfl ?_ | refine wa_aload_nq (pc := 1) (y := mX6_setPart) dX6_setPart_1 rfl ?_
        refine wa_iload_n (pc := 2) (y := mX6_setPart) dX6_setPart_2 rfl ?_
        refine wa_callV (pc := 3) (s_X6_isCue (d := d - 1) (by omega) hI) dX6_setPart_3 okX6_isCue q2719 q2721 qs41 mH_o rfl rfl rfl (Nat.le_of_ble_eq_true rfl) (Nat.le_of_ble_eq_true rfl) (by omega) ?_
        rintro _ _ - - ⟨rfl, rfl⟩
        refine aft_v (pc2 := 6) ?_ rfl
        rw [isC_some hp]
        refine wa_if_eq (pc := 6) 16 dX6_setPart_6 rfl (fun hb6 => absurd hb6 (by decide)) (fun hb6 => ?_)
        refine wa_iload_n (pc := 9) (y := mX6_setPart) dX6_setPart_9 rfl ?_
        refine wa_callS (pc := 10) (s_X6_isPart (d := d - 1) (by omega)) dX6_setPart_10 okX6_isPart q2774 q2775 rfl rfl (Nat.le_of_ble_eq_true rfl) (Nat.le_of_ble_eq_true rfl) (by omega) ?_
        rintro _ _ - - ⟨rfl, rfl⟩
        refine aft_v (pc2 := 13) ?_ rfl
        rw [inb3, decide_eq_true e1]
        refine wa_if_ne (pc := 13) 20 dX6_setPart_13 rfl (fun hb13 => ?_) (fun hb13 => absurd hb13 (by decide))
        refine wa_iload (pc := 20) (y := mX6_setPart) dX6_setPart_20 rfl ?_
        refine wa_iconst (pc := 22) (y := mX6_setPart) (Int32.ofNat 0) dX6_setPart_22 rfl ?_
        refine wa_sipush (pc := 23) (y := mX6_setPart) (Int32.ofNat 600) dX6_setPart_23 rfl ?_
        refine wa_callS (pc := 26) (s_X6_in (d := d - 1)) dX6_setPart_26 okX6_in q2716 q2717 rfl rfl (Nat.le_of_ble_eq_true rfl) (Nat.le_of_ble_eq_true rfl) (by omega) ?_
        rintro _ _ - - ⟨rfl, rfl⟩
        refine aft_v (pc2 := 29) ?_ rfl
        rw [show inb t (Int32.ofNat 0) (Int32.ofNat 600) = true from (inb_le (by omega)).trans (decide_eq_true e2)]
        refine wa_if_ne (pc := 29) 36 dX6_setPart_29 rfl (fun hb29 => ?_) (fun hb29 => absurd hb29 (by decide))
        refine wa_iconst (pc := 36) (y := mX6_setPart) (Int32.ofNat 0) dX6_setPart_36 rfl ?_
        refine wa_putf (pc := 37) (y := mX6_setPart) (k := 5) 7 .int dX6_setPart_37 mH_o rfl q2650 (Or.inl rfl) (Nat.le_of_ble_eq_true rfl) rfl (by decide +kernel) rfl rfl ?_
        rw [mW_o7]
        first | refine wa_aload_n (pc := 40) (y := mX6_setPart) dX6_setPart_40 rfl ?_ | refine wa_aload_nN (pc := 40) (y := mX6_setPart) dX6_setPart_40 rfl ?_ | refine wa_aload_nq (pc := 40) (y := mX6_setPart) dX6_setPart_40 rfl ?_
        refine wa_getf (pc := 41) (y := mX6_setPart) (k := 5) 7 dX6_setPart_41 mH_o rfl q2650 (Or.inl rfl) (Nat.le_of_ble_eq_true rfl) (by rfl) ?_
        show WA _ _ _ _ _ (.int (Int32.ofNat 0) :: _) _ _
        refine wa_if_le (pc := 44) 49 dX6_setPart_44 rfl (fun hb44 => ?_) (fun hb44 => absurd hb44 (by decide))
        clear hb44
        first | refine wa_aload_n (pc := 49) (y := mX6_setPart) dX6_setPart_49 rfl ?_ | refine wa_aload_nN (pc := 49) (y := mX6_setPart) dX6_setPart_49 rfl ?_ | refine wa_aload_nq (pc := 49) (y := mX6_setPart) dX6_setPart_49 rfl ?_
        refine wa_callV (pc := 50) (s_X6_changes (d := d - 1) (by omega) hpm) dX6_setPart_50 okX6_changes q2742 q2744 qs44 mH_o rfl rfl rfl (Nat.le_of_ble_eq_true rfl) (Nat.le_of_ble_eq_true rfl) (by omega) ?_
        rintro _ _ - - ⟨rfl, rfl⟩
        refine aft_0 (pc2 := 53) ?_ rfl
        first | refine wa_aload_n (pc := 53) (y := mX6_setPart) dX6_setPart_53 rfl ?_ | refine wa_aload_nN (pc := 53) (y := mX6_setPart) dX6_setPart_53 rfl ?_ | refine wa_aload_nq (pc := 53) (y := mX6_setPart) dX6_setPart_53 rfl ?_
        refine wa_iload_n (pc := 54) (y := mX6_setPart) dX6_setPart_54 rfl ?_
        refine wa_iload_n (pc := 55) (y := mX6_setPart) dX6_setPart_55 rfl ?_
        rw [← u_self q]
        refine wa_iload_n (pc := 56) (y := mX6_setPart) dX6_setPart_56 rfl ?_
        refine wa_callV (pc := 57) (s_X6_partAt (d := d - 1) (by omega) hI hp) dX6_setPart_57 okX6_partAt q2777 q2779 qs49 mH_o rfl rfl rfl (Nat.le_of_ble_eq_true rfl) (Nat.le_of_ble_eq_true rfl) (by omega) ?_
        rintro _ _ - - ⟨rfl, rfl⟩
        refine aft_v (pc2 := 60) ?_ rfl
        refine wa_istore (pc := 60) (y := mX6_setPart) dX6_setPart_60 (Nat.le_of_ble_eq_true rfl) rfl ?_
        simp only [List.set_cons_zero, List.set_cons_succ]
        first | refine wa_aload_n (pc := 62) (y := mX6_setPart) dX6_setPart_62 rfl ?_ | refine wa_aload_nN (pc := 62) (y := mX6_setPart) dX6_setPart_62 rfl ?_ | refine wa_aload_nq (pc := 62) (y := mX6_setPart) dX6_setPart_62 rfl ?_
        refine wa_getf (pc := 63) (y := mX6_setPart) (k := 5) 0 dX6_setPart_63 mH_o rfl q2643 (Or.inl rfl) (Nat.le_of_ble_eq_true rfl) (by rfl) ?_
        refine wa_iload (pc := 66) (y := mX6_setPart) dX6_setPart_66 rfl ?_
        refine wa_ialoadN (pc := 68) (y := mX6_setPart) dX6_setPart_68 mH_1 (by omega) ?_
        refine wa_istore (pc := 69) (y := mX6_setPart) dX6_setPart_69 (Nat.le_of_ble_eq_true rfl) rfl ?_
        simp only [List.set_cons_zero, List.set_cons_succ]
        first | refine wa_aload_n (pc := 71) (y := mX6_setPart) dX6_setPart_71 rfl ?_ | refine wa_aload_nN (pc := 71) (y := mX6_setPart) dX6_setPart_71 rfl ?_ | refine wa_aload_nq (pc := 71) (y := mX6_setPart) dX6_setPart_71 rfl ?_
        refine wa_getf (pc := 72) (y := mX6_setPart) (k := 5) 0 dX6_setPart_72 mH_o rfl q2643 (Or.inl rfl) (Nat.le_of_ble_eq_true rfl) (by rfl) ?_
        refine wa_iload (pc := 75) (y := mX6_setPart) dX6_setPart_75 rfl ?_
        refine wa_iload (pc := 77) (y := mX6_setPart) dX6_setPart_77 rfl ?_
        refine wa_iastoreN (pc := 79) (y := mX6_setPart) dX6_setPart_79 mH_1 (by omega) ?_
        rw [mW_1]
        refine wa_iload (pc := 80) (y := mX6_setPart) dX6_setPart_80 rfl ?_
        exact wa_ireturn (pc := 82) (y := mX6_setPart) .int dX6_setPart_82 rfl rfl ⟨by rw [u_self], by rw [u_self]; rfl⟩
      · rw [show O_setPart f σ cue q b t = oX f σ 2 by unfold O_setPart; rw [hp]; exact (if_neg (fun x => x e1)).trans (if_pos e2)]
        first | refine wa_aload_n (pc := 0) (y := mX6_setPart) dX6_setPart_0 rfl ?_ | refine wa_aload_nN (pc := 0) (y := mX6_setPart) dX6_setPart_0 rfl ?_ | refine wa_aload_nq (pc := 0) (y := mX6_setPart) dX6_setPart_0 rfl ?_
        first | refine wa_aload_n (pc := 1) (y := mX6_setPart) dX6_setPart_1 rfl ?_ | refine wa_aload_nN (pc := 1) (y := mX6_setPart) dX6_setPart_1 rfl ?_ | refine wa_aload_nq (pc := 1) (y := mX6_setPart) dX6_setPart_1 rfl ?_
        refine wa_iload_n (pc := 2) (y := mX6_setPart) dX6_setPart_2 rfl ?_
        refine wa_callV (pc := 3) (s_X6_isCue (d := d - 1) (by omega) hI) dX6_setPart_3 okX6_isCue q2719 q2721 qs41 mH_o rfl rfl rfl (Nat.le_of_ble_eq_true rfl) (Nat.le_of_ble_eq_true rfl) (by omega) ?_
        rintro _ _ - - ⟨rfl, rfl⟩
        refine aft_v (pc2 := 6) ?_ rfl
        rw [isC_some hp]
        refine wa_if_eq (pc := 6) 16 dX6_setPart_6 rfl (fun hb6 => absurd hb6 (by decide)) (fun hb6 => ?_)
        refine wa_iload_n (pc := 9) (y := mX6_setPart) dX6_setPart_9 rfl ?_
        refine wa_callS (pc := 10) (s_X6_isPart (d := d - 1) (by omega)) dX6_setPart_10 okX6_isPart q2774 q2775 rfl rfl (Nat.le_of_ble_eq_true rfl) (Nat.le_of_ble_eq_true rfl) (by omega) ?_
        rintro _ _ - - ⟨rfl, rfl⟩
        refine aft_v (pc2 := 13) ?_ rfl
        rw [inb3, decide_eq_true e1]
        refine wa_if_ne (pc := 13) 20 dX6_setPart_13 rfl (fun hb13 => ?_) (fun hb13 => absurd hb13 (by decide))
        refine wa_iload (pc := 20) (y := mX6_setPart) dX6_setPart_20 rfl ?_
        refine wa_iconst (pc := 22) (y := mX6_setPart) (Int32.ofNat 0) dX6_setPart_22 rfl ?_
        refine wa_sipush (pc := 23) (y := mX6_setPart) (Int32.ofNat 600) dX6_setPart_23 rfl ?_
        refine wa_callS (pc := 26) (s_X6_in (d := d - 1)) dX6_setPart_26 okX6_in q2716 q2717 rfl rfl (Nat.le_of_ble_eq_true rfl) (Nat.le_of_ble_eq_true rfl) (by omega) ?_
        rintro _ _ - - ⟨rfl, rfl⟩
        refine aft_v (pc2 := 29) ?_ rfl
        rw [show inb t (Int32.ofNat 0) (Int32.ofNat 600) = false from (inb_le (by omega)).trans (decide_eq_false e2)]
        refine wa_if_ne (pc := 29) 36 dX6_setPart_29 rfl (fun hb29 => absurd rfl hb29) (fun hb29 => ?_)
        refine wa_iconst (pc := 32) (y := mX6_setPart) (Int32.ofNat 2) dX6_setPart_32 rfl ?_
        refine wa_goto (pc := 33) (y := mX6_setPart) 37 dX6_setPart_33 rfl ?_
        refine wa_putf (pc := 37) (y := mX6_setPart) (k := 5) 7 .int dX6_setPart_37 mH_o rfl q2650 (Or.inl rfl) (Nat.le_of_ble_eq_true rfl) rfl (by decide +kernel) rfl rfl ?_
        rw [mW_o7]
        first | refine wa_aload_n (pc := 40) (y := mX6_setPart) dX6_setPart_40 rfl ?_ | refine wa_aload_nN (pc := 40) (y := mX6_setPart) dX6_setPart_40 rfl ?_ | refine wa_aload_nq (pc := 40) (y := mX6_setPart) dX6_setPart_40 rfl ?_
        refine wa_getf (pc := 41) (y := mX6_setPart) (k := 5) 7 dX6_setPart_41 mH_o rfl q2650 (Or.inl rfl) (Nat.le_of_ble_eq_true rfl) (by rfl) ?_
        show WA _ _ _ _ _ (.int (Int32.ofNat 2) :: _) _ _
        refine wa_if_le (pc := 44) 49 dX6_setPart_44 rfl (fun hb44 => absurd hb44 (by decide)) (fun hb44 => ?_)
        clear hb44
        refine wa_iconst (pc := 47) (y := mX6_setPart) (Int32.ofNat 0) dX6_setPart_47 rfl ?_
        exact wa_ireturn (pc := 48) (y := mX6_setPart) .int dX6_setPart_48 rfl rfl ⟨rfl, rfl⟩
    · rw [show O_setPart f σ cue q b t = oX f σ 1 by unfold O_setPart; rw [hp]; exact if_pos e1]
      first | refine wa_aload_n (pc := 0) (y := mX6_setPart) dX6_setPart_0 rfl ?_ | refine wa_aload_nN (pc := 0) (y := mX6_setPart) dX6_setPart_0 rfl ?_ | refine wa_aload_nq (pc := 0) (y := mX6_setPart) dX6_setPart_0 rfl ?_
      first | refine wa_aload_n (pc := 1) (y := mX6_setPart) dX6_setPart_1 rfl ?_ | refine wa_aload_nN (pc := 1) (y := mX6_setPart) dX6_setPart_1 rfl ?_ | refine wa_aload_nq (pc := 1) (y := mX6_setPart) dX6_setPart_1 rfl ?_
      refine wa_iload_n (pc := 2) (y := mX6_setPart) dX6_setPart_2 rfl ?_
      refine wa_callV (pc := 3) (s_X6_isCue (d := d - 1) (by omega) hI) dX6_setPart_3 okX6_isCue q2719 q2721 qs41 mH_o rfl rfl rfl (Nat.le_of_ble_eq_true rfl) (Nat.le_of_ble_eq_true rfl) (by omega) ?_
      rintro _ _ - - ⟨rfl, rfl⟩
      refine aft_v (pc2 := 6) ?_ rfl
      rw [isC_some hp]
      refine wa_if_eq (pc := 6) 16 dX6_setPart_6 rfl (fun hb6 => absurd hb6 (by decide)) (fun hb6 => ?_)
      refine wa_iload_n (pc := 9) (y := mX6_setPart) dX6_setPart_9 rfl ?_
      refine wa_callS (pc := 10) (s_X6_isPart (d := d - 1) (by omega)) dX6_setPart_10 okX6_isPart q2774 q2775 rfl rfl (Nat.le_of_ble_eq_true rfl) (Nat.le_of_ble_eq_true rfl) (by omega) ?_
      rintro _ _ - - ⟨rfl, rfl⟩
      refine aft_v (pc2 := 13) ?_ rfl
      rw [inb3, decide_eq_false e1]
      refine wa_if_ne (pc := 13) 20 dX6_setPart_13 rfl (fun hb13 => absurd rfl hb13) (fun hb13 => ?_)
      refine wa_iconst (pc := 16) (y := mX6_setPart) (Int32.ofNat 1) dX6_setPart_16 rfl ?_
      refine wa_goto (pc := 17) (y := mX6_setPart) 37 dX6_setPart_17 rfl ?_
      refine wa_putf (pc := 37) (y := mX6_setPart) (k := 5) 7 .int dX6_setPart_37 mH_o rfl q2650 (Or.inl rfl) (Nat.le_of_ble_eq_true rfl) rfl (by decide +kernel) rfl rfl ?_
      rw [mW_o7]
      first | refine wa_aload_n (pc := 40) (y := mX6_setPart) dX6_setPart_40 rfl ?_ | refine wa_aload_nN (pc := 40) (y := mX6_setPart) dX6_setPart_40 rfl ?_ | refine wa_aload_nq (pc := 40) (y := mX6_setPart) dX6_setPart_40 rfl ?_
      refine wa_getf (pc := 41) (y := mX6_setPart) (k := 5) 7 dX6_setPart_41 mH_o rfl q2650 (Or.inl rfl) (Nat.le_of_ble_eq_true rfl) (by rfl) ?_
      show WA _ _ _ _ _ (.int (Int32.ofNat 1) :: _) _ _
      refine wa_if_le (pc := 44) 49 dX6_setPart_44 rfl (fun hb44 => absurd hb44 (by decide)) (fun hb44 => ?_)
      clear hb44
      refine wa_iconst (pc := 47) (y := mX6_setPart) (Int32.ofNat 0) dX6_setPart_47 rfl ?_
      exact wa_ireturn (pc := 48) (y := mX6_setPart) .int dX6_setPart_48 rfl rfl ⟨rfl, rfl⟩
theorem s_X6_part {cue q : Int32} {b : Bool} (hd : 3 ≤ d) (hI : Inv f) : MA G d mX6_part [.ref m, .int cue, .int q, .int (bI b)] (mH h m f σ) (fun r h' => r = .inl (some (.int (O_part f σ cue q b).2.1)) ∧ h' = mH h m (O_part f σ cue q b).2.2.1 (O_part f σ cue q b).2.2.2) := by
  have hn := hI.1
  show WA _ _ _ 0 [.ref m, .int _, .int _, .int _] [] _ _
  cases hp : pl f cue with
  | none =>
    rw [show O_part f σ cue q b = oX f σ 1 by unfold O_part; rw [hp]]
    first | refine wa_aload_n (pc := 0) (y := mX6_part) dX6_part_0 rfl ?_ | refine wa_aload_nN (pc := 0) (y := mX6_part) dX6_part_0 rfl ?_ | refine wa_aload_nq (pc := 0) (y := mX6_part) dX6_part_0 rfl ?_
    first | refine wa_aload_n (pc := 1) (y := mX6_part) dX6_part_1 rfl ?_ | refine wa_aload_nN (pc := 1) (y := mX6_part) dX6_part_1 rfl ?_ | refine wa_aload_nq (pc := 1) (y := mX6_part) dX6_part_1 rfl ?_
    refine wa_iload_n (pc := 2) (y := mX6_part) dX6_part_2 rfl ?_
    refine wa_callV (pc := 3) (s_X6_isCue (d := d - 1) (by omega) hI) dX6_part_3 okX6_isCue q2719 q2721 qs41 mH_o rfl rfl rfl (Nat.le_of_ble_eq_true rfl) (Nat.le_of_ble_eq_true rfl) (by omega) ?_
    rintro _ _ - - ⟨rfl, rfl⟩
    refine aft_v (pc2 := 6) ?_ rfl
    rw [isC_none hp]
    refine wa_if_eq (pc := 6) 20 dX6_part_6 rfl (fun hb6 => ?_) (fun hb6 => absurd rfl hb6)
    refine wa_iconst (pc := 20) (y := mX6_part) (Int32.ofNat 1) dX6_part_20 rfl ?_
    refine wa_putf (pc := 21) (y := mX6_part) (k := 5) 7 .int dX6_part_21 mH_o rfl q2650 (Or.inl rfl) (Nat.le_of_ble_eq_true rfl) rfl (by decide +kernel) rfl rfl ?_
    rw [mW_o7]
    first | refine wa_aload_n (pc := 24) (y := mX6_part) dX6_part_24 rfl ?_ | refine wa_aload_nN (pc := 24) (y := mX6_part) dX6_part_24 rfl ?_ | refine wa_aload_nq (pc := 24) (y := mX6_part) dX6_part_24 rfl ?_
    refine wa_getf (pc := 25) (y := mX6_part) (k := 5) 7 dX6_part_25 mH_o rfl q2650 (Or.inl rfl) (Nat.le_of_ble_eq_true rfl) (by rfl) ?_
    show WA _ _ _ _ _ (.int (Int32.ofNat 1) :: _) _ _
    refine wa_if_le (pc := 28) 35 dX6_part_28 rfl (fun hb28 => absurd hb28 (by decide)) (fun hb28 => ?_)
    clear hb28
    refine wa_iconst (pc := 31) (y := mX6_part) (Int32.ofNat 0) dX6_part_31 rfl ?_
    refine wa_goto (pc := 32) (y := mX6_part) 47 dX6_part_32 rfl ?_
    exact wa_ireturn (pc := 47) (y := mX6_part) .int dX6_part_47 rfl rfl ⟨rfl, rfl⟩
  | some p =>
    have hps := pl_some hp
    by_cases e1 : u q < 4
    · rw [show O_part f σ cue q b = oR f σ (f (18 + 12 * p + 4 + 2 * u q + if b then 0 else 1)) by unfold O_part; rw [hp]; exact if_neg (fun x => x e1)]
      have hx : 18 + 12 * p + 4 + 2 * u q + (if b then 0 else 1) < 462 := by cases b <;> simp <;> omega
      first | refine wa_aload_n (pc := 0) (y := mX6_part) dX6_part_0 rfl ?_ | refine wa_aload_nN (pc := 0) (y := mX6_part) dX6_part_0 rfl ?_ | refine wa_aload_nq (pc := 0) (y := mX6_part) dX6_part_0 rfl ?_
      first | refine wa_aload_n (pc := 1) (y := mX6_part) dX6_part_1 rfl ?_ | refine wa_aload_nN (pc := 1) (y := mX6_part) dX6_part_1 rfl ?_ | refine wa_aload_nq (pc := 1) (y := mX6_part) dX6_part_1 rfl ?_
      refine wa_iload_n (pc := 2) (y := mX6_part) dX6_part_2 rfl ?_
      refine wa_callV (pc := 3) (s_X6_isCue (d := d - 1) (by omega) hI) dX6_part_3 okX6_isCue q2719 q2721 qs41 mH_o rfl rfl rfl (Nat.le_of_ble_eq_true rfl) (Nat.le_of_ble_eq_true rfl) (by omega) ?_
      rintro _ _ - - ⟨rfl, rfl⟩
      refine aft_v (pc2 := 6) ?_ rfl
      rw [isC_some hp]
      refine wa_if_eq (pc := 6) 20 dX6_part_6 rfl (fun hb6 => absurd hb6 (by decide)) (fun hb6 => ?_)
      refine wa_iload_n (pc := 9) (y := mX6_part) dX6_part_9 rfl ?_
      refine wa_callS (pc := 10) (s_X6_isPart (d := d - 1) (by omega)) dX6_part_10 okX6_isPart q2774 q2775 rfl rfl (Nat.le_of_ble_eq_true rfl) (Nat.le_of_ble_eq_true rfl) (by omega) ?_
      rintro _ _ - - ⟨rfl, rfl⟩
      refine aft_v (pc2 := 13) ?_ rfl
      rw [inb3, decide_eq_true e1]
      refine wa_if_eq (pc := 13) 20 dX6_part_13 rfl (fun hb13 => absurd hb13 (by decide)) (fun hb13 => ?_)
      refine wa_iconst (pc := 16) (y := mX6_part) (Int32.ofNat 0) dX6_part_16 rfl ?_
      refine wa_goto (pc := 17) (y := mX6_part) 21 dX6_part_17 rfl ?_
      refine wa_putf (pc := 21) (y := mX6_part) (k := 5) 7 .int dX6_part_21 mH_o rfl q2650 (Or.inl rfl) (Nat.le_of_ble_eq_true rfl) rfl (by decide +kernel) rfl rfl ?_
      rw [mW_o7]
      first | refine wa_aload_n (pc := 24) (y := mX6_part) dX6_part_24 rfl ?_ | refine wa_aload_nN (pc := 24) (y := mX6_part) dX6_part_24 rfl ?_ | refine wa_aload_nq (pc := 24) (y := mX6_part) dX6_part_24 rfl ?_
      refine wa_getf (pc := 25) (y := mX6_part) (k := 5) 7 dX6_part_25 mH_o rfl q2650 (Or.inl rfl) (Nat.le_of_ble_eq_true rfl) (by rfl) ?_
      show WA _ _ _ _ _ (.int (Int32.ofNat 0) :: _) _ _
      refine wa_if_le (pc := 28) 35 dX6_part_28 rfl (fun hb28 => ?_) (fun hb28 => absurd hb28 (by decide))
      clear hb28
      first | refine wa_aload_n (pc := 35) (y := mX6_part) dX6_part_35 rfl ?_ | refine wa_aload_nN (pc := 35) (y := mX6_part) dX6_part_35 rfl ?_ | refine wa_aload_nq (pc := 35) (y := mX6_part) dX6_part_35 rfl ?_
      refine wa_getf (pc := 36) (y := mX6_part) (k := 5) 0 dX6_part_36 mH_o rfl q2643 (Or.inl rfl) (Nat.le_of_ble_eq_true rfl) (by rfl) ?_
      first | refine wa_aload_n (pc := 39) (y := mX6_part) dX6_part_39 rfl ?_ | refine wa_aload_nN (pc := 39) (y := mX6_part) dX6_part_39 rfl ?_ | refine wa_aload_nq (pc := 39) (y := mX6_part) dX6_part_39 rfl ?_
      refine wa_iload_n (pc := 40) (y := mX6_part) dX6_part_40 rfl ?_
      refine wa_iload_n (pc := 41) (y := mX6_part) dX6_part_41 rfl ?_
      rw [← u_self q]
      refine wa_iload_n (pc := 42) (y := mX6_part) dX6_part_42 rfl ?_
      refine wa_callV (pc := 43) (s_X6_partAt (d := d - 1) (by omega) hI hp) dX6_part_43 okX6_partAt q2777 q2779 qs49 mH_o rfl rfl rfl (Nat.le_of_ble_eq_true rfl) (Nat.le_of_ble_eq_true rfl) (by omega) ?_
      rintro _ _ - - ⟨rfl, rfl⟩
      refine aft_v (pc2 := 46) ?_ rfl
      refine wa_ialoadN (pc := 46) (y := mX6_part) dX6_part_46 mH_1 (by omega) ?_
      exact wa_ireturn (pc := 47) (y := mX6_part) .int dX6_part_47 rfl rfl ⟨by rw [u_self]; rfl, rfl⟩
    · rw [show O_part f σ cue q b = oX f σ 1 by unfold O_part; rw [hp]; exact if_pos e1]
      first | refine wa_aload_n (pc := 0) (y := mX6_part) dX6_part_0 rfl ?_ | refine wa_aload_nN (pc := 0) (y := mX6_part) dX6_part_0 rfl ?_ | refine wa_aload_nq (pc := 0) (y := mX6_part) dX6_part_0 rfl ?_
      first | refine wa_aload_n (pc := 1) (y := mX6_part) dX6_part_1 rfl ?_ | refine wa_aload_nN (pc := 1) (y := mX6_part) dX6_part_1 rfl ?_ | refine wa_aload_nq (pc := 1) (y := mX6_part) dX6_part_1 rfl ?_
      refine wa_iload_n (pc := 2) (y := mX6_part) dX6_part_2 rfl ?_
      refine wa_callV (pc := 3) (s_X6_isCue (d := d - 1) (by omega) hI) dX6_part_3 okX6_isCue q2719 q2721 qs41 mH_o rfl rfl rfl (Nat.le_of_ble_eq_true rfl) (Nat.le_of_ble_eq_true rfl) (by omega) ?_
      rintro _ _ - - ⟨rfl, rfl⟩
      refine aft_v (pc2 := 6) ?_ rfl
      rw [isC_some hp]
      refine wa_if_eq (pc := 6) 20 dX6_part_6 rfl (fun hb6 => absurd hb6 (by decide)) (fun hb6 => ?_)
      refine wa_iload_n (pc := 9) (y := mX6_part) dX6_part_9 rfl ?_
      refine wa_callS (pc := 10) (s_X6_isPart (d := d - 1) (by omega)) dX6_part_10 okX6_isPart q2774 q2775 rfl rfl (Nat.le_of_ble_eq_true rfl) (Nat.le_of_ble_eq_true rfl) (by omega) ?_
      rintro _ _ - - ⟨rfl, rfl⟩
      refine aft_v (pc2 := 13) ?_ rfl
      rw [inb3, decide_eq_false e1]
      refine wa_if_eq (pc := 13) 20 dX6_part_13 rfl (fun hb13 => ?_) (fun hb13 => absurd rfl hb13)
      refine wa_iconst (pc := 20) (y := mX6_part) (Int32.ofNat 1) dX6_part_20 rfl ?_
      refine wa_putf (pc := 21) (y := mX6_part) (k := 5) 7 .int dX6_part_21 mH_o rfl q2650 (Or.inl rfl) (Nat.le_of_ble_eq_true rfl) rfl (by decide +kernel) rfl rfl ?_
      rw [mW_o7]
      first | refine wa_aload_n (pc := 24) (y := mX6_part) dX6_part_24 rfl ?_ | refine wa_aload_nN (pc := 24) (y := mX6_part) dX6_part_24 rfl ?_ | refine wa_aload_nq (pc := 24) (y := mX6_part) dX6_part_24 rfl ?_
      refine wa_getf (pc := 25) (y := mX6_part) (k := 5) 7 dX6_part_25 mH_o rfl q2650 (Or.inl rfl) (Nat.le_of_ble_eq_true rfl) (by rfl) ?_
      show WA _ _ _ _ _ (.int (Int32.ofNat 1) :: _) _ _
      refine wa_if_le (pc := 28) 35 dX6_part_28 rfl (fun hb28 => absurd hb28 (by decide)) (fun hb28 => ?_)
      clear hb28
      refine wa_iconst (pc := 31) (y := mX6_part) (Int32.ofNat 0) dX6_part_31 rfl ?_
      refine wa_goto (pc := 32) (y := mX6_part) 47 dX6_part_32 rfl ?_
      exact wa_ireturn (pc := 47) (y := mX6_part) .int dX6_part_47 rfl rfl ⟨rfl, rfl⟩
theorem s_X6_setHome {c l : Int32} (hd : 3 ≤ d) (hI : Inv f) (hpm : u (σ.2 5) ≤ 6) : MA G d mX6_setHome [.ref m, .int c, .int l] (mH h m f σ) (fun r h' => r = .inl (some (.int (O_setHome f σ c l).2.1)) ∧ h' = mH h m (O_setHome f σ c l).2.2.1 (O_setHome f σ c l).2.2.2) := by
  show WA _ _ _ 0 [.ref m, .int _, .int _, .retAddr 0] [] _ _
  by_cases e1 : u c < 12
  · by_cases e2 : u l ≤ 100
    · rw [show O_setHome f σ c l = (0, f (6 + u c), upd f (6 + u c) l, oC f σ) from (if_neg (fun x => x e1)).trans (if_neg (fun x => x e2))]
      first | refine wa_aload_n (pc := 0) (y := mX6_setHome) dX6_setHome_0 rfl ?_ | refine wa_aload_nN (pc := 0) (y := mX6_setHome) dX6_setHome_0 rfl ?_ | refine wa_aload_nq (pc := 0) (y := mX6_setHome) dX6_setHome_0 rfl ?_
      refine wa_iload_n (pc := 1) (y := mX6_setHome) dX6_setHome_1 rfl ?_
      refine wa_callS (pc := 2) (s_X6_isChannel (d := d - 1) (by omega)) dX6_setHome_2 okX6_isChannel q2810 q2811 rfl rfl (Nat.le_of_ble_eq_true rfl) (Nat.le_of_ble_eq_true rfl) (by omega) ?_
      rintro _ _ - - ⟨rfl, rfl⟩
      refine aft_v (pc2 := 5) ?_ rfl
      rw [inb11, decide_eq_true e1]
      refine wa_if_ne (pc := 5) 12 dX6_setHome_5 rfl (fun hb5 => ?_) (fun hb5 => absurd hb5 (by decide))
      refine wa_iload_n (pc := 12) (y := mX6_setHome) dX6_setHome_12 rfl ?_
      refine wa_iconst (pc := 13) (y := mX6_setHome) (Int32.ofNat 0) dX6_setHome_13 rfl ?_
      refine wa_bipush (pc := 14) (y := mX6_setHome) (Int32.ofNat 100) dX6_setHome_14 rfl ?_
      refine wa_callS (pc := 16) (s_X6_in (d := d - 1)) dX6_setHome_16 okX6_in q2716 q2717 rfl rfl (Nat.le_of_ble_eq_true rfl) (Nat.le_of_ble_eq_true rfl) (by omega) ?_
      rintro _ _ - - ⟨rfl, rfl⟩
      refine aft_v (pc2 := 19) ?_ rfl
      rw [show inb l (Int32.ofNat 0) (Int32.ofNat 100) = true from (inb_le (by omega)).trans (decide_eq_true e2)]
      refine wa_if_ne (pc := 19) 26 dX6_setHome_19 rfl (fun hb19 => ?_) (fun hb19 => absurd hb19 (by decide))
      refine wa_iconst (pc := 26) (y := mX6_setHome) (Int32.ofNat 0) dX6_setHome_26 rfl ?_
      refine wa_putf (pc := 27) (y := mX6_setHome) (k := 5) 7 .int dX6_setHome_27 mH_o rfl q2650 (Or.inl rfl) (Nat.le_of_ble_eq_true rfl) rfl (by decide +kernel) rfl rfl ?_
      rw [mW_o7]
      first | refine wa_aload_n (pc := 30) (y := mX6_setHome) dX6_setHome_30 rfl ?_ | refine wa_aload_nN (pc := 30) (y := mX6_setHome) dX6_setHome_30 rfl ?_ | refine wa_aload_nq (pc := 30) (y := mX6_setHome) dX6_setHome_30 rfl ?_
      refine wa_getf (pc := 31) (y := mX6_setHome) (k := 5) 7 dX6_setHome_31 mH_o rfl q2650 (Or.inl rfl) (Nat.le_of_ble_eq_true rfl) (by rfl) ?_
      show WA _ _ _ _ _ (.int (Int32.ofNat 0) :: _) _ _
      refine wa_if_le (pc := 34) 39 dX6_setHome_34 rfl (fun hb34 => ?_) (fun hb34 => absurd hb34 (by decide))
      clear hb34
      first | refine wa_aload_n (pc := 39) (y := mX6_setHome) dX6_setHome_39 rfl ?_ | refine wa_aload_nN (pc := 39) (y := mX6_setHome) dX6_setHome_39 rfl ?_ | refine wa_aload_nq (pc := 39) (y := mX6_setHome) dX6_setHome_39 rfl ?_
      refine wa_callV (pc := 40) (s_X6_changes (d := d - 1) (by omega) hpm) dX6_setHome_40 okX6_changes q2742 q2744 qs44 mH_o rfl rfl rfl (Nat.le_of_ble_eq_true rfl) (Nat.le_of_ble_eq_true rfl) (by omega) ?_
      rintro _ _ - - ⟨rfl, rfl⟩
      refine aft_0 (pc2 := 43) ?_ rfl
      first | refine wa_aload_n (pc := 43) (y := mX6_setHome) dX6_setHome_43 rfl ?_ | refine wa_aload_nN (pc := 43) (y := mX6_setHome) dX6_setHome_43 rfl ?_ | refine wa_aload_nq (pc := 43) (y := mX6_setHome) dX6_setHome_43 rfl ?_
      refine wa_getf (pc := 44) (y := mX6_setHome) (k := 5) 0 dX6_setHome_44 mH_o rfl q2643 (Or.inl rfl) (Nat.le_of_ble_eq_true rfl) (by rfl) ?_
      refine wa_bipush (pc := 47) (y := mX6_setHome) (Int32.ofNat 6) dX6_setHome_47 rfl ?_
      refine wa_iload_n (pc := 49) (y := mX6_setHome) dX6_setHome_49 rfl ?_
      rw [← u_self c]
      first | with_reducible refine wa_iaddN (pc := 50) (y := mX6_setHome) dX6_setHome_50 ?_ | refine wa_iadd (pc := 50) (y := mX6_setHome) dX6_setHome_50 ?_
      refine wa_ialoadN (pc := 51) (y := mX6_setHome) dX6_setHome_51 mH_1 (by omega) ?_
      rw [u_self]
      refine wa_istore_n (pc := 52) (y := mX6_setHome) dX6_setHome_52 (Nat.le_of_ble_eq_true rfl) rfl ?_
      change WA _ _ _ _ (List.set _ 3 _) _ _ _
      simp only [List.set_cons_zero, List.set_cons_succ]
      first | refine wa_aload_n (pc := 53) (y := mX6_setHome) dX6_setHome_53 rfl ?_ | refine wa_aload_nN (pc := 53) (y := mX6_setHome) dX6_setHome_53 rfl ?_ | refine wa_aload_nq (pc := 53) (y := mX6_setHome) dX6_setHome_53 rfl ?_
      refine wa_getf (pc := 54) (y := mX6_setHome) (k := 5) 0 dX6_setHome_54 mH_o rfl q2643 (Or.inl rfl) (Nat.le_of_ble_eq_true rfl) (by rfl) ?_
      refine wa_bipush (pc := 57) (y := mX6_setHome) (Int32.ofNat 6) dX6_setHome_57 rfl ?_
      refine wa_iload_n (pc := 59) (y := mX6_setHome) dX6_setHome_59 rfl ?_
      rw [← u_self c]
      first | with_reducible refine wa_iaddN (pc := 60) (y := mX6_setHome) dX6_setHome_60 ?_ | refine wa_iadd (pc := 60) (y := mX6_setHome) dX6_setHome_60 ?_
      refine wa_iload_n (pc := 61) (y := mX6_setHome) dX6_setHome_61 rfl ?_
      refine wa_iastoreN (pc := 62) (y := mX6_setHome) dX6_setHome_62 mH_1 (by omega) ?_
      rw [mW_1]
      rw [u_self]
      refine wa_iload_n (pc := 63) (y := mX6_setHome) dX6_setHome_63 rfl ?_
      exact wa_ireturn (pc := 64) (y := mX6_setHome) .int dX6_setHome_64 rfl rfl ⟨rfl, rfl⟩
    · rw [show O_setHome f σ c l = oX f σ 2 from (if_neg (fun x => x e1)).trans (if_pos e2)]
      first | refine wa_aload_n (pc := 0) (y := mX6_setHome) dX6_setHome_0 rfl ?_ | refine wa_aload_nN (pc := 0) (y := mX6_setHome) dX6_setHome_0 rfl ?_ | refine wa_aload_nq (pc := 0) (y := mX6_setHome) dX6_setHome_0 rfl ?_
      refine wa_iload_n (pc := 1) (y := mX6_setHome) dX6_setHome_1 rfl ?_
      refine wa_callS (pc := 2) (s_X6_isChannel (d := d - 1) (by omega)) dX6_setHome_2 okX6_isChannel q2810 q2811 rfl rfl (Nat.le_of_ble_eq_true rfl) (Nat.le_of_ble_eq_true rfl) (by omega) ?_
      rintro _ _ - - ⟨rfl, rfl⟩
      refine aft_v (pc2 := 5) ?_ rfl
      rw [inb11, decide_eq_true e1]
      refine wa_if_ne (pc := 5) 12 dX6_setHome_5 rfl (fun hb5 => ?_) (fun hb5 => absurd hb5 (by decide))
      refine wa_iload_n (pc := 12) (y := mX6_setHome) dX6_setHome_12 rfl ?_
      refine wa_iconst (pc := 13) (y := mX6_setHome) (Int32.ofNat 0) dX6_setHome_13 rfl ?_
      refine wa_bipush (pc := 14) (y := mX6_setHome) (Int32.ofNat 100) dX6_setHome_14 rfl ?_
      refine wa_callS (pc := 16) (s_X6_in (d := d - 1)) dX6_setHome_16 okX6_in q2716 q2717 rfl rfl (Nat.le_of_ble_eq_true rfl) (Nat.le_of_ble_eq_true rfl) (by omega) ?_
      rintro _ _ - - ⟨rfl, rfl⟩
      refine aft_v (pc2 := 19) ?_ rfl
      rw [show inb l (Int32.ofNat 0) (Int32.ofNat 100) = false from (inb_le (by omega)).trans (decide_eq_false e2)]
      refine wa_if_ne (pc := 19) 26 dX6_setHome_19 rfl (fun hb19 => absurd rfl hb19) (fun hb19 => ?_)
      refine wa_iconst (pc := 22) (y := mX6_setHome) (Int32.ofNat 2) dX6_setHome_22 rfl ?_
      refine wa_goto (pc := 23) (y := mX6_setHome) 27 dX6_setHome_23 rfl ?_
      refine wa_putf (pc := 27) (y := mX6_setHome) (k := 5) 7 .int dX6_setHome_27 mH_o rfl q2650 (Or.inl rfl) (Nat.le_of_ble_eq_true rfl) rfl (by decide +kernel) rfl rfl ?_
      rw [mW_o7]
      first | refine wa_aload_n (pc := 30) (y := mX6_setHome) dX6_setHome_30 rfl ?_ | refine wa_aload_nN (pc := 30) (y := mX6_setHome) dX6_setHome_30 rfl ?_ | refine wa_aload_nq (pc := 30) (y := mX6_setHome) dX6_setHome_30 rfl ?_
      refine wa_getf (pc := 31) (y := mX6_setHome) (k := 5) 7 dX6_setHome_31 mH_o rfl q2650 (Or.inl rfl) (Nat.le_of_ble_eq_true rfl) (by rfl) ?_
      show WA _ _ _ _ _ (.int (Int32.ofNat 2) :: _) _ _
      refine wa_if_le (pc := 34) 39 dX6_setHome_34 rfl (fun hb34 => absurd hb34 (by decide)) (fun hb34 => ?_)
      clear hb34
      refine wa_iconst (pc := 37) (y := mX6_setHome) (Int32.ofNat 0) dX6_setHome_37 rfl ?_
      exact wa_ireturn (pc := 38) (y := mX6_setHome) .int dX6_setHome_38 rfl rfl ⟨rfl, rfl⟩
  · rw [show O_setHome f σ c l = oX f σ 1 from if_pos e1]
    first | refine wa_aload_n (pc := 0) (y := mX6_setHome) dX6_setHome_0 rfl ?_ | refine wa_aload_nN (pc := 0) (y := mX6_setHome) dX6_setHome_0 rfl ?_ | refine wa_aload_nq (pc := 0) (y := mX6_setHome) dX6_setHome_0 rfl ?_
    refine wa_iload_n (pc := 1) (y := mX6_setHome) dX6_setHome_1 rfl ?_
    refine wa_callS (pc := 2) (s_X6_isChannel (d := d - 1) (by omega)) dX6_setHome_2 okX6_isChannel q2810 q2811 rfl rfl (Nat.le_of_ble_eq_true rfl) (Nat.le_of_ble_eq_true rfl) (by omega) ?_
    rintro _ _ - - ⟨rfl, rfl⟩
    refine aft_v (pc2 := 5) ?_ rfl
    rw [inb11, decide_eq_false e1]
    refine wa_if_ne (pc := 5) 12 dX6_setHome_5 rfl (fun hb5 => absurd rfl hb5) (fun hb5 => ?_)
    refine wa_iconst (pc := 8) (y := mX6_setHome) (Int32.ofNat 1) dX6_setHome_8 rfl ?_
    refine wa_goto (pc := 9) (y := mX6_setHome) 27 dX6_setHome_9 rfl ?_
    refine wa_putf (pc := 27) (y := mX6_setHome) (k := 5) 7 .int dX6_setHome_27 mH_o rfl q2650 (Or.inl rfl) (Nat.le_of_ble_eq_true rfl) rfl (by decide +kernel) rfl rfl ?_
    rw [mW_o7]
    first | refine wa_aload_n (pc := 30) (y := mX6_setHome) dX6_setHome_30 rfl ?_ | refine wa_aload_nN (pc := 30) (y := mX6_setHome) dX6_setHome_30 rfl ?_ | refine wa_aload_nq (pc := 30) (y := mX6_setHome) dX6_setHome_30 rfl ?_
    refine wa_getf (pc := 31) (y := mX6_setHome) (k := 5) 7 dX6_setHome_31 mH_o rfl q2650 (Or.inl rfl) (Nat.le_of_ble_eq_true rfl) (by rfl) ?_
    show WA _ _ _ _ _ (.int (Int32.ofNat 1) :: _) _ _
    refine wa_if_le (pc := 34) 39 dX6_setHome_34 rfl (fun hb34 => absurd hb34 (by decide)) (fun hb34 => ?_)
    clear hb34
    refine wa_iconst (pc := 37) (y := mX6_setHome) (Int32.ofNat 0) dX6_setHome_37 rfl ?_
    exact wa_ireturn (pc := 38) (y := mX6_setHome) .int dX6_setHome_38 rfl rfl ⟨rfl, rfl⟩
theorem s_X6_set {cue c l q : Int32} {b : Bool} (hd : 6 ≤ d) (hI : Inv f) (hpm : u (σ.2 5) ≤ 6) : MA G d mX6_set [.ref m, .int cue, .int c, .int l, .int q, .int (bI b)] (mH h m f σ) (fun r h' => r = .inl (some (.int (O_set f σ cue c l q b).2.1)) ∧ h' = mH h m (O_set f σ cue c l q b).2.2.1 (O_set f σ cue c l q b).2.2.2) := by
  have hn := hI.1
  show WA _ _ _ 0 [.ref m, .int _, .int _, .int _, .int _, .int _] [] _ _
  cases hp : pl f cue with
  | none =>
    rw [show O_set f σ cue c l q b = oX f σ 1 by unfold O_set; rw [hp]]
    first | refine wa_aload_n (pc := 0) (y := mX6_set) dX6_set_0 rfl ?_ | refine wa_aload_nN (pc := 0) (y := mX6_set) dX6_set_0 rfl ?_ | refine wa_aload_nq (pc := 0) (y := mX6_set) dX6_set_0 rfl ?_
    first | refine wa_aload_n (pc := 1) (y := mX6_set) dX6_set_1 rfl ?_ | refine wa_aload_nN (pc := 1) (y := mX6_set) dX6_set_1 rfl ?_ | refine wa_aload_nq (pc := 1) (y := mX6_set) dX6_set_1 rfl ?_
    refine wa_iload_n (pc := 2) (y := mX6_set) dX6_set_2 rfl ?_
    refine wa_callV (pc := 3) (s_X6_isCue (d := d - 1) (by omega) hI) dX6_set_3 okX6_isCue q2719 q2721 qs41 mH_o rfl rfl rfl (Nat.le_of_ble_eq_true rfl) (Nat.le_of_ble_eq_true rfl) (by omega) ?_
    rintro _ _ - - ⟨rfl, rfl⟩
    refine aft_v (pc2 := 6) ?_ rfl
    rw [isC_none hp]
    refine wa_if_eq (pc := 6) 24 dX6_set_6 rfl (fun hb6 => ?_) (fun hb6 => absurd rfl hb6)
    refine wa_iconst (pc := 24) (y := mX6_set) (Int32.ofNat 1) dX6_set_24 rfl ?_
    refine wa_goto (pc := 25) (y := mX6_set) 43 dX6_set_25 rfl ?_
    refine wa_putf (pc := 43) (y := mX6_set) (k := 5) 7 .int dX6_set_43 mH_o rfl q2650 (Or.inl rfl) (Nat.le_of_ble_eq_true rfl) rfl (by decide +kernel) rfl rfl ?_
    rw [mW_o7]
    first | refine wa_aload_n (pc := 46) (y := mX6_set) dX6_set_46 rfl ?_ | refine wa_aload_nN (pc := 46) (y := mX6_set) dX6_set_46 rfl ?_ | refine wa_aload_nq (pc := 46) (y := mX6_set) dX6_set_46 rfl ?_
    refine wa_getf (pc := 47) (y := mX6_set) (k := 5) 7 dX6_set_47 mH_o rfl q2650 (Or.inl rfl) (Nat.le_of_ble_eq_true rfl) (by rfl) ?_
    show WA _ _ _ _ _ (.int (Int32.ofNat 1) :: _) _ _
    refine wa_if_le (pc := 50) 55 dX6_set_50 rfl (fun hb50 => absurd hb50 (by decide)) (fun hb50 => ?_)
    clear hb50
    refine wa_iconst (pc := 53) (y := mX6_set) (Int32.ofNat 0) dX6_set_53 rfl ?_
    exact wa_ireturn (pc := 54) (y := mX6_set) .int dX6_set_54 rfl rfl ⟨rfl, rfl⟩
  | some p =>
    have hps := pl_some hp
    by_cases e0 : u c < 12
    · by_cases e1 : u q < 4
      · by_cases e2 : u l ≤ 100
        · rw [show O_set f σ cue c l q b = oG f σ (u c) 3 (dGi f (mA (mV σ 7 (Int32.ofNat 0)) 1 f) cue p (u c) l q b) by unfold O_set; rw [hp]; exact (if_neg (fun x => x e0)).trans ((if_neg (fun x => x e1)).trans (if_neg (fun x => x e2)))]
          have hle := dGi_le (f := f) (σ := mA (mV σ 7 (Int32.ofNat 0)) 1 f) (cue := cue) (p := p) (c := u c) (lev := l) (part := q) (b := b)
          have hgI : Inv (dGi f (mA (mV σ 7 (Int32.ofNat 0)) 1 f) cue p (u c) l q b).2.1 := by
            unfold dGi
            split
            · exact hI
            · exact gvH_inv hI hp e0 e1
          have hpm2 : u ((dGi f (mA (mV σ 7 (Int32.ofNat 0)) 1 f) cue p (u c) l q b).2.2.2 5) ≤ 6 := by
            unfold dGi
            split
            · exact hpm
            · exact hpm
          by_cases e3 : 0 < (dGi f (mA (mV σ 7 (Int32.ofNat 0)) 1 f) cue p (u c) l q b).1
          · rw [show oG f σ (u c) 3 (dGi f (mA (mV σ 7 (Int32.ofNat 0)) 1 f) cue p (u c) l q b) = _ from if_pos e3]
            first | refine wa_aload_n (pc := 0) (y := mX6_set) dX6_set_0 rfl ?_ | refine wa_aload_nN (pc := 0) (y := mX6_set) dX6_set_0 rfl ?_ | refine wa_aload_nq (pc := 0) (y := mX6_set) dX6_set_0 rfl ?_
            first | refine wa_aload_n (pc := 1) (y := mX6_set) dX6_set_1 rfl ?_ | refine wa_aload_nN (pc := 1) (y := mX6_set) dX6_set_1 rfl ?_ | refine wa_aload_nq (pc := 1) (y := mX6_set) dX6_set_1 rfl ?_
            refine wa_iload_n (pc := 2) (y := mX6_set) dX6_set_2 rfl ?_
            refine wa_callV (pc := 3) (s_X6_isCue (d := d - 1) (by omega) hI) dX6_set_3 okX6_isCue q2719 q2721 qs41 mH_o rfl rfl rfl (Nat.le_of_ble_eq_true rfl) (Nat.le_of_ble_eq_true rfl) (by omega) ?_
            rintro _ _ - - ⟨rfl, rfl⟩
            refine aft_v (pc2 := 6) ?_ rfl
            rw [isC_some hp]
            refine wa_if_eq (pc := 6) 24 dX6_set_6 rfl (fun hb6 => absurd hb6 (by decide)) (fun hb6 => ?_)
            refine wa_iload_n (pc := 9) (y := mX6_set) dX6_set_9 rfl ?_
            refine wa_callS (pc := 10) (s_X6_isChannel (d := d - 1) (by omega)) dX6_set_10 okX6_isChannel q2810 q2811 rfl rfl (Nat.le_of_ble_eq_true rfl) (Nat.le_of_ble_eq_true rfl) (by omega) ?_
            rintro _ _ - - ⟨rfl, rfl⟩
            refine aft_v (pc2 := 13) ?_ rfl
            rw [inb11, decide_eq_true e0]
            refine wa_if_eq (pc := 13) 24 dX6_set_13 rfl (fun hb13 => absurd hb13 (by decide)) (fun hb13 => ?_)
            refine wa_iload (pc := 16) (y := mX6_set) dX6_set_16 rfl ?_
            refine wa_callS (pc := 18) (s_X6_isPart (d := d - 1) (by omega)) dX6_set_18 okX6_isPart q2774 q2775 rfl rfl (Nat.le_of_ble_eq_true rfl) (Nat.le_of_ble_eq_true rfl) (by omega) ?_
            rintro _ _ - - ⟨rfl, rfl⟩
            refine aft_v (pc2 := 21) ?_ rfl
            rw [inb3, decide_eq_true e1]
            refine wa_if_ne (pc := 21) 28 dX6_set_21 rfl (fun hb21 => ?_) (fun hb21 => absurd hb21 (by decide))
            refine wa_iload_n (pc := 28) (y := mX6_set) dX6_set_28 rfl ?_
            refine wa_iconst (pc := 29) (y := mX6_set) (Int32.ofNat 0) dX6_set_29 rfl ?_
            refine wa_bipush (pc := 30) (y := mX6_set) (Int32.ofNat 100) dX6_set_30 rfl ?_
            refine wa_callS (pc := 32) (s_X6_in (d := d - 1)) dX6_set_32 okX6_in q2716 q2717 rfl rfl (Nat.le_of_ble_eq_true rfl) (Nat.le_of_ble_eq_true rfl) (by omega) ?_
            rintro _ _ - - ⟨rfl, rfl⟩
            refine aft_v (pc2 := 35) ?_ rfl
            rw [show inb l (Int32.ofNat 0) (Int32.ofNat 100) = true from (inb_le (by omega)).trans (decide_eq_true e2)]
            refine wa_if_ne (pc := 35) 42 dX6_set_35 rfl (fun hb35 => ?_) (fun hb35 => absurd hb35 (by decide))
            refine wa_iconst (pc := 42) (y := mX6_set) (Int32.ofNat 0) dX6_set_42 rfl ?_
            refine wa_putf (pc := 43) (y := mX6_set) (k := 5) 7 .int dX6_set_43 mH_o rfl q2650 (Or.inl rfl) (Nat.le_of_ble_eq_true rfl) rfl (by decide +kernel) rfl rfl ?_
            rw [mW_o7]
            first | refine wa_aload_n (pc := 46) (y := mX6_set) dX6_set_46 rfl ?_ | refine wa_aload_nN (pc := 46) (y := mX6_set) dX6_set_46 rfl ?_ | refine wa_aload_nq (pc := 46) (y := mX6_set) dX6_set_46 rfl ?_
            refine wa_getf (pc := 47) (y := mX6_set) (k := 5) 7 dX6_set_47 mH_o rfl q2650 (Or.inl rfl) (Nat.le_of_ble_eq_true rfl) (by rfl) ?_
            show WA _ _ _ _ _ (.int (Int32.ofNat 0) :: _) _ _
            refine wa_if_le (pc := 50) 55 dX6_set_50 rfl (fun hb50 => ?_) (fun hb50 => absurd hb50 (by decide))
            clear hb50
            first | refine wa_aload_n (pc := 55) (y := mX6_set) dX6_set_55 rfl ?_ | refine wa_aload_nN (pc := 55) (y := mX6_set) dX6_set_55 rfl ?_ | refine wa_aload_nq (pc := 55) (y := mX6_set) dX6_set_55 rfl ?_
            refine wa_callV (pc := 56) (s_X6_keepState (d := d - 1) (by omega)) dX6_set_56 okX6_keepState q2707 q2709 qs39 mH_o rfl rfl rfl (Nat.le_of_ble_eq_true rfl) (Nat.le_of_ble_eq_true rfl) (by omega) ?_
            rintro _ _ - - ⟨rfl, rfl⟩
            refine aft_0 (pc2 := 59) ?_ rfl
            first | refine wa_aload_n (pc := 59) (y := mX6_set) dX6_set_59 rfl ?_ | refine wa_aload_nN (pc := 59) (y := mX6_set) dX6_set_59 rfl ?_ | refine wa_aload_nq (pc := 59) (y := mX6_set) dX6_set_59 rfl ?_
            refine wa_iload_n (pc := 60) (y := mX6_set) dX6_set_60 rfl ?_
            refine wa_iload_n (pc := 61) (y := mX6_set) dX6_set_61 (x := Int32.ofNat (u c)) (by rw [u_self]; rfl) ?_
            refine wa_iload_n (pc := 62) (y := mX6_set) dX6_set_62 rfl ?_
            refine wa_iload (pc := 63) (y := mX6_set) dX6_set_63 rfl ?_
            refine wa_iload (pc := 65) (y := mX6_set) dX6_set_65 rfl ?_
            refine wa_callV (pc := 67) (s_X6_doGive (d := d - 1) (by omega) hI hp e0 e1) dX6_set_67 okX6_doGive q2817 q2819 qs54 mH_o rfl rfl rfl (Nat.le_of_ble_eq_true rfl) (Nat.le_of_ble_eq_true rfl) (by omega) ?_
            rintro _ _ - - ⟨rfl, rfl⟩
            refine aft_v (pc2 := 70) ?_ rfl
            refine wa_if_le (pc := 70) 80 dX6_set_70 rfl (fun hb70 => absurd ((iN_pos (by omega)).mp hb70) (by omega)) (fun hb70 => ?_)
            first | refine wa_aload_n (pc := 73) (y := mX6_set) dX6_set_73 rfl ?_ | refine wa_aload_nN (pc := 73) (y := mX6_set) dX6_set_73 rfl ?_ | refine wa_aload_nq (pc := 73) (y := mX6_set) dX6_set_73 rfl ?_
            refine wa_iconst (pc := 74) (y := mX6_set) (Int32.ofNat 3) dX6_set_74 rfl ?_
            refine wa_putf (pc := 75) (y := mX6_set) (k := 5) 7 .int dX6_set_75 mH_o rfl q2650 (Or.inl rfl) (Nat.le_of_ble_eq_true rfl) rfl (by decide +kernel) rfl rfl ?_
            rw [mW_o7]
            refine wa_iconst (pc := 78) (y := mX6_set) (Int32.ofNat 0) dX6_set_78 rfl ?_
            exact wa_ireturn (pc := 79) (y := mX6_set) .int dX6_set_79 rfl rfl ⟨rfl, rfl⟩
          · rw [show oG f σ (u c) 3 (dGi f (mA (mV σ 7 (Int32.ofNat 0)) 1 f) cue p (u c) l q b) = _ from if_neg e3]
            first | refine wa_aload_n (pc := 0) (y := mX6_set) dX6_set_0 rfl ?_ | refine wa_aload_nN (pc := 0) (y := mX6_set) dX6_set_0 rfl ?_ | refine wa_aload_nq (pc := 0) (y := mX6_set) dX6_set_0 rfl ?_
            first | refine wa_aload_n (pc := 1) (y := mX6_set) dX6_set_1 rfl ?_ | refine wa_aload_nN (pc := 1) (y := mX6_set) dX6_set_1 rfl ?_ | refine wa_aload_nq (pc := 1) (y := mX6_set) dX6_set_1 rfl ?_
            refine wa_iload_n (pc := 2) (y := mX6_set) dX6_set_2 rfl ?_
            refine wa_callV (pc := 3) (s_X6_isCue (d := d - 1) (by omega) hI) dX6_set_3 okX6_isCue q2719 q2721 qs41 mH_o rfl rfl rfl (Nat.le_of_ble_eq_true rfl) (Nat.le_of_ble_eq_true rfl) (by omega) ?_
            rintro _ _ - - ⟨rfl, rfl⟩
            refine aft_v (pc2 := 6) ?_ rfl
            rw [isC_some hp]
            refine wa_if_eq (pc := 6) 24 dX6_set_6 rfl (fun hb6 => absurd hb6 (by decide)) (fun hb6 => ?_)
            refine wa_iload_n (pc := 9) (y := mX6_set) dX6_set_9 rfl ?_
            refine wa_callS (pc := 10) (s_X6_isChannel (d := d - 1) (by omega)) dX6_set_10 okX6_isChannel q2810 q2811 rfl rfl (Nat.le_of_ble_eq_true rfl) (Nat.le_of_ble_eq_true rfl) (by omega) ?_
            rintro _ _ - - ⟨rfl, rfl⟩
            refine aft_v (pc2 := 13) ?_ rfl
            rw [inb11, decide_eq_true e0]
            refine wa_if_eq (pc := 13) 24 dX6_set_13 rfl (fun hb13 => absurd hb13 (by decide)) (fun hb13 => ?_)
            refine wa_iload (pc := 16) (y := mX6_set) dX6_set_16 rfl ?_
            refine wa_callS (pc := 18) (s_X6_isPart (d := d - 1) (by omega)) dX6_set_18 okX6_isPart q2774 q2775 rfl rfl (Nat.le_of_ble_eq_true rfl) (Nat.le_of_ble_eq_true rfl) (by omega) ?_
            rintro _ _ - - ⟨rfl, rfl⟩
            refine aft_v (pc2 := 21) ?_ rfl
            rw [inb3, decide_eq_true e1]
            refine wa_if_ne (pc := 21) 28 dX6_set_21 rfl (fun hb21 => ?_) (fun hb21 => absurd hb21 (by decide))
            refine wa_iload_n (pc := 28) (y := mX6_set) dX6_set_28 rfl ?_
            refine wa_iconst (pc := 29) (y := mX6_set) (Int32.ofNat 0) dX6_set_29 rfl ?_
            refine wa_bipush (pc := 30) (y := mX6_set) (Int32.ofNat 100) dX6_set_30 rfl ?_
            refine wa_callS (pc := 32) (s_X6_in (d := d - 1)) dX6_set_32 okX6_in q2716 q2717 rfl rfl (Nat.le_of_ble_eq_true rfl) (Nat.le_of_ble_eq_true rfl) (by omega) ?_
            rintro _ _ - - ⟨rfl, rfl⟩
            refine aft_v (pc2 := 35) ?_ rfl
            rw [show inb l (Int32.ofNat 0) (Int32.ofNat 100) = true from (inb_le (by omega)).trans (decide_eq_true e2)]
            refine wa_if_ne (pc := 35) 42 dX6_set_35 rfl (fun hb35 => ?_) (fun hb35 => absurd hb35 (by decide))
            refine wa_iconst (pc := 42) (y := mX6_set) (Int32.ofNat 0) dX6_set_42 rfl ?_
            refine wa_putf (pc := 43) (y := mX6_set) (k := 5) 7 .int dX6_set_43 mH_o rfl q2650 (Or.inl rfl) (Nat.le_of_ble_eq_true rfl) rfl (by decide +kernel) rfl rfl ?_
            rw [mW_o7]
            first | refine wa_aload_n (pc := 46) (y := mX6_set) dX6_set_46 rfl ?_ | refine wa_aload_nN (pc := 46) (y := mX6_set) dX6_set_46 rfl ?_ | refine wa_aload_nq (pc := 46) (y := mX6_set) dX6_set_46 rfl ?_
            refine wa_getf (pc := 47) (y := mX6_set) (k := 5) 7 dX6_set_47 mH_o rfl q2650 (Or.inl rfl) (Nat.le_of_ble_eq_true rfl) (by rfl) ?_
            show WA _ _ _ _ _ (.int (Int32.ofNat 0) :: _) _ _
            refine wa_if_le (pc := 50) 55 dX6_set_50 rfl (fun hb50 => ?_) (fun hb50 => absurd hb50 (by decide))
            clear hb50
            first | refine wa_aload_n (pc := 55) (y := mX6_set) dX6_set_55 rfl ?_ | refine wa_aload_nN (pc := 55) (y := mX6_set) dX6_set_55 rfl ?_ | refine wa_aload_nq (pc := 55) (y := mX6_set) dX6_set_55 rfl ?_
            refine wa_callV (pc := 56) (s_X6_keepState (d := d - 1) (by omega)) dX6_set_56 okX6_keepState q2707 q2709 qs39 mH_o rfl rfl rfl (Nat.le_of_ble_eq_true rfl) (Nat.le_of_ble_eq_true rfl) (by omega) ?_
            rintro _ _ - - ⟨rfl, rfl⟩
            refine aft_0 (pc2 := 59) ?_ rfl
            first | refine wa_aload_n (pc := 59) (y := mX6_set) dX6_set_59 rfl ?_ | refine wa_aload_nN (pc := 59) (y := mX6_set) dX6_set_59 rfl ?_ | refine wa_aload_nq (pc := 59) (y := mX6_set) dX6_set_59 rfl ?_
            refine wa_iload_n (pc := 60) (y := mX6_set) dX6_set_60 rfl ?_
            refine wa_iload_n (pc := 61) (y := mX6_set) dX6_set_61 (x := Int32.ofNat (u c)) (by rw [u_self]; rfl) ?_
            refine wa_iload_n (pc := 62) (y := mX6_set) dX6_set_62 rfl ?_
            refine wa_iload (pc := 63) (y := mX6_set) dX6_set_63 rfl ?_
            refine wa_iload (pc := 65) (y := mX6_set) dX6_set_65 rfl ?_
            refine wa_callV (pc := 67) (s_X6_doGive (d := d - 1) (by omega) hI hp e0 e1) dX6_set_67 okX6_doGive q2817 q2819 qs54 mH_o rfl rfl rfl (Nat.le_of_ble_eq_true rfl) (Nat.le_of_ble_eq_true rfl) (by omega) ?_
            rintro _ _ - - ⟨rfl, rfl⟩
            refine aft_v (pc2 := 70) ?_ rfl
            refine wa_if_le (pc := 70) 80 dX6_set_70 rfl (fun hb70 => ?_) (fun hb70 => absurd ((iN_pos (by omega)).mpr (by omega)) hb70)
            first | refine wa_aload_n (pc := 80) (y := mX6_set) dX6_set_80 rfl ?_ | refine wa_aload_nN (pc := 80) (y := mX6_set) dX6_set_80 rfl ?_ | refine wa_aload_nq (pc := 80) (y := mX6_set) dX6_set_80 rfl ?_
            refine wa_callV (pc := 81) (s_X6_change (d := d - 1) (by omega) hpm2) dX6_set_81 okX6_change q2730 q2732 qs43 mH_o rfl rfl rfl (Nat.le_of_ble_eq_true rfl) (Nat.le_of_ble_eq_true rfl) (by omega) ?_
            rintro _ _ - - ⟨rfl, rfl⟩
            refine aft_0 (pc2 := 84) ?_ rfl
            first | refine wa_aload_n (pc := 84) (y := mX6_set) dX6_set_84 rfl ?_ | refine wa_aload_nN (pc := 84) (y := mX6_set) dX6_set_84 rfl ?_ | refine wa_aload_nq (pc := 84) (y := mX6_set) dX6_set_84 rfl ?_
            refine wa_iload_n (pc := 85) (y := mX6_set) dX6_set_85 (x := Int32.ofNat (u c)) (by rw [u_self]; rfl) ?_
            refine wa_callV (pc := 86) (s_X6_changed (d := d - 1) (by omega) hgI e0) dX6_set_86 okX6_changed q2841 q2843 qs60 mH_o rfl rfl rfl (Nat.le_of_ble_eq_true rfl) (Nat.le_of_ble_eq_true rfl) (by omega) ?_
            rintro _ _ - - ⟨rfl, rfl⟩
            refine aft_v (pc2 := 89) ?_ rfl
            exact wa_ireturn (pc := 89) (y := mX6_set) .int dX6_set_89 rfl rfl ⟨rfl, rfl⟩
        · rw [show O_set f σ cue c l q b = oX f σ 2 by unfold O_set; rw [hp]; exact (if_neg (fun x => x e0)).trans ((if_neg (fun x => x e1)).trans (if_pos e2))]
          first | refine wa_aload_n (pc := 0) (y := mX6_set) dX6_set_0 rfl ?_ | refine wa_aload_nN (pc := 0) (y := mX6_set) dX6_set_0 rfl ?_ | refine wa_aload_nq (pc := 0) (y := mX6_set) dX6_set_0 rfl ?_
          first | refine wa_aload_n (pc := 1) (y := mX6_set) dX6_set_1 rfl ?_ | refine wa_aload_nN (pc := 1) (y := mX6_set) dX6_set_1 rfl ?_ | refine wa_aload_nq (pc := 1) (y := mX6_set) dX6_set_1 rfl ?_
          refine wa_iload_n (pc := 2) (y := mX6_set) dX6_set_2 rfl ?_
          refine wa_callV (pc := 3) (s_X6_isCue (d := d - 1) (by omega) hI) dX6_set_3 okX6_isCue q2719 q2721 qs41 mH_o rfl rfl rfl (Nat.le_of_ble_eq_true rfl) (Nat.le_of_ble_eq_true rfl) (by omega) ?_
          rintro _ _ - - ⟨rfl, rfl⟩
          refine aft_v (pc2 := 6) ?_ rfl
          rw [isC_some hp]
          refine wa_if_eq (pc := 6) 24 dX6_set_6 rfl (fun hb6 => absurd hb6 (by decide)) (fun hb6 => ?_)
          refine wa_iload_n (pc := 9) (y := mX6_set) dX6_set_9 rfl ?_
          refine wa_callS (pc := 10) (s_X6_isChannel (d := d - 1) (by omega)) dX6_set_10 okX6_isChannel q2810 q2811 rfl rfl (Nat.le_of_ble_eq_true rfl) (Nat.le_of_ble_eq_true rfl) (by omega) ?_
          rintro _ _ - - ⟨rfl, rfl⟩
          refine aft_v (pc2 := 13) ?_ rfl
          rw [inb11, decide_eq_true e0]
          refine wa_if_eq (pc := 13) 24 dX6_set_13 rfl (fun hb13 => absurd hb13 (by decide)) (fun hb13 => ?_)
          refine wa_iload (pc := 16) (y := mX6_set) dX6_set_16 rfl ?_
          refine wa_callS (pc := 18) (s_X6_isPart (d := d - 1) (by omega)) dX6_set_18 okX6_isPart q2774 q2775 rfl rfl (Nat.le_of_ble_eq_true rfl) (Nat.le_of_ble_eq_true rfl) (by omega) ?_
          rintro _ _ - - ⟨rfl, rfl⟩
          refine aft_v (pc2 := 21) ?_ rfl
          rw [inb3, decide_eq_true e1]
          refine wa_if_ne (pc := 21) 28 dX6_set_21 rfl (fun hb21 => ?_) (fun hb21 => absurd hb21 (by decide))
          refine wa_iload_n (pc := 28) (y := mX6_set) dX6_set_28 rfl ?_
          refine wa_iconst (pc := 29) (y := mX6_set) (Int32.ofNat 0) dX6_set_29 rfl ?_
          refine wa_bipush (pc := 30) (y := mX6_set) (Int32.ofNat 100) dX6_set_30 rfl ?_
          refine wa_callS (pc := 32) (s_X6_in (d := d - 1)) dX6_set_32 okX6_in q2716 q2717 rfl rfl (Nat.le_of_ble_eq_true rfl) (Nat.le_of_ble_eq_true rfl) (by omega) ?_
          rintro _ _ - - ⟨rfl, rfl⟩
          refine aft_v (pc2 := 35) ?_ rfl
          rw [show inb l (Int32.ofNat 0) (Int32.ofNat 100) = false from (inb_le (by omega)).trans (decide_eq_false e2)]
          refine wa_if_ne (pc := 35) 42 dX6_set_35 rfl (fun hb35 => absurd rfl hb35) (fun hb35 => ?_)
          refine wa_iconst (pc := 38) (y := mX6_set) (Int32.ofNat 2) dX6_set_38 rfl ?_
          refine wa_goto (pc := 39) (y := mX6_set) 43 dX6_set_39 rfl ?_
          refine wa_putf (pc := 43) (y := mX6_set) (k := 5) 7 .int dX6_set_43 mH_o rfl q2650 (Or.inl rfl) (Nat.le_of_ble_eq_true rfl) rfl (by decide +kernel) rfl rfl ?_
          rw [mW_o7]
          first | refine wa_aload_n (pc := 46) (y := mX6_set) dX6_set_46 rfl ?_ | refine wa_aload_nN (pc := 46) (y := mX6_set) dX6_set_46 rfl ?_ | refine wa_aload_nq (pc := 46) (y := mX6_set) dX6_set_46 rfl ?_
          refine wa_getf (pc := 47) (y := mX6_set) (k := 5) 7 dX6_set_47 mH_o rfl q2650 (Or.inl rfl) (Nat.le_of_ble_eq_true rfl) (by rfl) ?_
          show WA _ _ _ _ _ (.int (Int32.ofNat 2) :: _) _ _
          refine wa_if_le (pc := 50) 55 dX6_set_50 rfl (fun hb50 => absurd hb50 (by decide)) (fun hb50 => ?_)
          clear hb50
          refine wa_iconst (pc := 53) (y := mX6_set) (Int32.ofNat 0) dX6_set_53 rfl ?_
          exact wa_ireturn (pc := 54) (y := mX6_set) .int dX6_set_54 rfl rfl ⟨rfl, rfl⟩
      · rw [show O_set f σ cue c l q b = oX f σ 1 by unfold O_set; rw [hp]; exact (if_neg (fun x => x e0)).trans (if_pos e1)]
        first | refine wa_aload_n (pc := 0) (y := mX6_set) dX6_set_0 rfl ?_ | refine wa_aload_nN (pc := 0) (y := mX6_set) dX6_set_0 rfl ?_ | refine wa_aload_nq (pc := 0) (y := mX6_set) dX6_set_0 rfl ?_
        first | refine wa_aload_n (pc := 1) (y := mX6_set) dX6_set_1 rfl ?_ | refine wa_aload_nN (pc := 1) (y := mX6_set) dX6_set_1 rfl ?_ | refine wa_aload_nq (pc := 1) (y := mX6_set) dX6_set_1 rfl ?_
        refine wa_iload_n (pc := 2) (y := mX6_set) dX6_set_2 rfl ?_
        refine wa_callV (pc := 3) (s_X6_isCue (d := d - 1) (by omega) hI) dX6_set_3 okX6_isCue q2719 q2721 qs41 mH_o rfl rfl rfl (Nat.le_of_ble_eq_true rfl) (Nat.le_of_ble_eq_true rfl) (by omega) ?_
        rintro _ _ - - ⟨rfl, rfl⟩
        refine aft_v (pc2 := 6) ?_ rfl
        rw [isC_some hp]
        refine wa_if_eq (pc := 6) 24 dX6_set_6 rfl (fun hb6 => absurd hb6 (by decide)) (fun hb6 => ?_)
        refine wa_iload_n (pc := 9) (y := mX6_set) dX6_set_9 rfl ?_
        refine wa_callS (pc := 10) (s_X6_isChannel (d := d - 1) (by omega)) dX6_set_10 okX6_isChannel q2810 q2811 rfl rfl (Nat.le_of_ble_eq_true rfl) (Nat.le_of_ble_eq_true rfl) (by omega) ?_
        rintro _ _ - - ⟨rfl, rfl⟩
        refine aft_v (pc2 := 13) ?_ rfl
        rw [inb11, decide_eq_true e0]
        refine wa_if_eq (pc := 13) 24 dX6_set_13 rfl (fun hb13 => absurd hb13 (by decide)) (fun hb13 => ?_)
        refine wa_iload (pc := 16) (y := mX6_set) dX6_set_16 rfl ?_
        refine wa_callS (pc := 18) (s_X6_isPart (d := d - 1) (by omega)) dX6_set_18 okX6_isPart q2774 q2775 rfl rfl (Nat.le_of_ble_eq_true rfl) (Nat.le_of_ble_eq_true rfl) (by omega) ?_
        rintro _ _ - - ⟨rfl, rfl⟩
        refine aft_v (pc2 := 21) ?_ rfl
        rw [inb3, decide_eq_false e1]
        refine wa_if_ne (pc := 21) 28 dX6_set_21 rfl (fun hb21 => absurd rfl hb21) (fun hb21 => ?_)
        refine wa_iconst (pc := 24) (y := mX6_set) (Int32.ofNat 1) dX6_set_24 rfl ?_
        refine wa_goto (pc := 25) (y := mX6_set) 43 dX6_set_25 rfl ?_
        refine wa_putf (pc := 43) (y := mX6_set) (k := 5) 7 .int dX6_set_43 mH_o rfl q2650 (Or.inl rfl) (Nat.le_of_ble_eq_true rfl) rfl (by decide +kernel) rfl rfl ?_
        rw [mW_o7]
        first | refine wa_aload_n (pc := 46) (y := mX6_set) dX6_set_46 rfl ?_ | refine wa_aload_nN (pc := 46) (y := mX6_set) dX6_set_46 rfl ?_ | refine wa_aload_nq (pc := 46) (y := mX6_set) dX6_set_46 rfl ?_
        refine wa_getf (pc := 47) (y := mX6_set) (k := 5) 7 dX6_set_47 mH_o rfl q2650 (Or.inl rfl) (Nat.le_of_ble_eq_true rfl) (by rfl) ?_
        show WA _ _ _ _ _ (.int (Int32.ofNat 1) :: _) _ _
        refine wa_if_le (pc := 50) 55 dX6_set_50 rfl (fun hb50 => absurd hb50 (by decide)) (fun hb50 => ?_)
        clear hb50
        refine wa_iconst (pc := 53) (y := mX6_set) (Int32.ofNat 0) dX6_set_53 rfl ?_
        exact wa_ireturn (pc := 54) (y := mX6_set) .int dX6_set_54 rfl rfl ⟨rfl, rfl⟩
    · rw [show O_set f σ cue c l q b = oX f σ 1 by unfold O_set; rw [hp]; exact if_pos e0]
      first | refine wa_aload_n (pc := 0) (y := mX6_set) dX6_set_0 rfl ?_ | refine wa_aload_nN (pc := 0) (y := mX6_set) dX6_set_0 rfl ?_ | refine wa_aload_nq (pc := 0) (y := mX6_set) dX6_set_0 rfl ?_
      first | refine wa_aload_n (pc := 1) (y := mX6_set) dX6_set_1 rfl ?_ | refine wa_aload_nN (pc := 1) (y := mX6_set) dX6_set_1 rfl ?_ | refine wa_aload_nq (pc := 1) (y := mX6_set) dX6_set_1 rfl ?_
      refine wa_iload_n (pc := 2) (y := mX6_set) dX6_set_2 rfl ?_
      refine wa_callV (pc := 3) (s_X6_isCue (d := d - 1) (by omega) hI) dX6_set_3 okX6_isCue q2719 q2721 qs41 mH_o rfl rfl rfl (Nat.le_of_ble_eq_true rfl) (Nat.le_of_ble_eq_true rfl) (by omega) ?_
      rintro _ _ - - ⟨rfl, rfl⟩
      refine aft_v (pc2 := 6) ?_ rfl
      rw [isC_some hp]
      refine wa_if_eq (pc := 6) 24 dX6_set_6 rfl (fun hb6 => absurd hb6 (by decide)) (fun hb6 => ?_)
      refine wa_iload_n (pc := 9) (y := mX6_set) dX6_set_9 rfl ?_
      refine wa_callS (pc := 10) (s_X6_isChannel (d := d - 1) (by omega)) dX6_set_10 okX6_isChannel q2810 q2811 rfl rfl (Nat.le_of_ble_eq_true rfl) (Nat.le_of_ble_eq_true rfl) (by omega) ?_
      rintro _ _ - - ⟨rfl, rfl⟩
      refine aft_v (pc2 := 13) ?_ rfl
      rw [inb11, decide_eq_false e0]
      refine wa_if_eq (pc := 13) 24 dX6_set_13 rfl (fun hb13 => ?_) (fun hb13 => absurd rfl hb13)
      refine wa_iconst (pc := 24) (y := mX6_set) (Int32.ofNat 1) dX6_set_24 rfl ?_
      refine wa_goto (pc := 25) (y := mX6_set) 43 dX6_set_25 rfl ?_
      refine wa_putf (pc := 43) (y := mX6_set) (k := 5) 7 .int dX6_set_43 mH_o rfl q2650 (Or.inl rfl) (Nat.le_of_ble_eq_true rfl) rfl (by decide +kernel) rfl rfl ?_
      rw [mW_o7]
      first | refine wa_aload_n (pc := 46) (y := mX6_set) dX6_set_46 rfl ?_ | refine wa_aload_nN (pc := 46) (y := mX6_set) dX6_set_46 rfl ?_ | refine wa_aload_nq (pc := 46) (y := mX6_set) dX6_set_46 rfl ?_
      refine wa_getf (pc := 47) (y := mX6_set) (k := 5) 7 dX6_set_47 mH_o rfl q2650 (Or.inl rfl) (Nat.le_of_ble_eq_true rfl) (by rfl) ?_
      show WA _ _ _ _ _ (.int (Int32.ofNat 1) :: _) _ _
      refine wa_if_le (pc := 50) 55 dX6_set_50 rfl (fun hb50 => absurd hb50 (by decide)) (fun hb50 => ?_)
      clear hb50
      refine wa_iconst (pc := 53) (y := mX6_set) (Int32.ofNat 0) dX6_set_53 rfl ?_
      exact wa_ireturn (pc := 54) (y := mX6_set) .int dX6_set_54 rfl rfl ⟨rfl, rfl⟩
theorem s_X6_release {cue c q : Int32} {b : Bool} (hd : 6 ≤ d) (hI : Inv f) (hpm : u (σ.2 5) ≤ 6) : MA G d mX6_release [.ref m, .int cue, .int c, .int q, .int (bI b)] (mH h m f σ) (fun r h' => r = .inl (some (.int (O_release f σ cue c q b).2.1)) ∧ h' = mH h m (O_release f σ cue c q b).2.2.1 (O_release f σ cue c q b).2.2.2) := by
  have hn := hI.1
  show WA _ _ _ 0 [.ref m, .int _, .int _, .int _, .int _] [] _ _
  cases hp : pl f cue with
  | none =>
    rw [show O_release f σ cue c q b = oX f σ 1 by unfold O_release; rw [hp]]
    first | refine wa_aload_n (pc := 0) (y := mX6_release) dX6_release_0 rfl ?_ | refine wa_aload_nN (pc := 0) (y := mX6_release) dX6_release_0 rfl ?_ | refine wa_aload_nq (pc := 0) (y := mX6_release) dX6_release_0 rfl ?_
    first | refine wa_aload_n (pc := 1) (y := mX6_release) dX6_release_1 rfl ?_ | refine wa_aload_nN (pc := 1) (y := mX6_release) dX6_release_1 rfl ?_ | refine wa_aload_nq (pc := 1) (y := mX6_release) dX6_release_1 rfl ?_
    refine wa_iload_n (pc := 2) (y := mX6_release) dX6_release_2 rfl ?_
    refine wa_callV (pc := 3) (s_X6_isCue (d := d - 1) (by omega) hI) dX6_release_3 okX6_isCue q2719 q2721 qs41 mH_o rfl rfl rfl (Nat.le_of_ble_eq_true rfl) (Nat.le_of_ble_eq_true rfl) (by omega) ?_
    rintro _ _ - - ⟨rfl, rfl⟩
    refine aft_v (pc2 := 6) ?_ rfl
    rw [isC_none hp]
    refine wa_if_eq (pc := 6) 27 dX6_release_6 rfl (fun hb6 => ?_) (fun hb6 => absurd rfl hb6)
    refine wa_iconst (pc := 27) (y := mX6_release) (Int32.ofNat 1) dX6_release_27 rfl ?_
    refine wa_putf (pc := 28) (y := mX6_release) (k := 5) 7 .int dX6_release_28 mH_o rfl q2650 (Or.inl rfl) (Nat.le_of_ble_eq_true rfl) rfl (by decide +kernel) rfl rfl ?_
    rw [mW_o7]
    first | refine wa_aload_n (pc := 31) (y := mX6_release) dX6_release_31 rfl ?_ | refine wa_aload_nN (pc := 31) (y := mX6_release) dX6_release_31 rfl ?_ | refine wa_aload_nq (pc := 31) (y := mX6_release) dX6_release_31 rfl ?_
    refine wa_getf (pc := 32) (y := mX6_release) (k := 5) 7 dX6_release_32 mH_o rfl q2650 (Or.inl rfl) (Nat.le_of_ble_eq_true rfl) (by rfl) ?_
    show WA _ _ _ _ _ (.int (Int32.ofNat 1) :: _) _ _
    refine wa_if_le (pc := 35) 40 dX6_release_35 rfl (fun hb35 => absurd hb35 (by decide)) (fun hb35 => ?_)
    clear hb35
    refine wa_iconst (pc := 38) (y := mX6_release) (Int32.ofNat 0) dX6_release_38 rfl ?_
    exact wa_ireturn (pc := 39) (y := mX6_release) .int dX6_release_39 rfl rfl ⟨rfl, rfl⟩
  | some p =>
    have hps := pl_some hp
    by_cases e0 : u c < 12
    · by_cases e1 : u q < 4
      · rw [show O_release f σ cue c q b = oG f σ (u c) 2 (dGi f (mA (mV σ 7 (Int32.ofNat 0)) 1 f) cue p (u c) (-1) q b) by unfold O_release; rw [hp]; exact (if_neg (fun x => x e0)).trans (if_neg (fun x => x e1))]
        have hle := dGi_le (f := f) (σ := mA (mV σ 7 (Int32.ofNat 0)) 1 f) (cue := cue) (p := p) (c := u c) (lev := -1) (part := q) (b := b)
        have hgI : Inv (dGi f (mA (mV σ 7 (Int32.ofNat 0)) 1 f) cue p (u c) (-1) q b).2.1 := by
          unfold dGi
          split
          · exact hI
          · exact gvH_inv hI hp e0 e1
        have hpm2 : u ((dGi f (mA (mV σ 7 (Int32.ofNat 0)) 1 f) cue p (u c) (-1) q b).2.2.2 5) ≤ 6 := by
          unfold dGi
          split
          · exact hpm
          · exact hpm
        by_cases e3 : 0 < (dGi f (mA (mV σ 7 (Int32.ofNat 0)) 1 f) cue p (u c) (-1) q b).1
        · rw [show oG f σ (u c) 2 (dGi f (mA (mV σ 7 (Int32.ofNat 0)) 1 f) cue p (u c) (-1) q b) = _ from if_pos e3]
          first | refine wa_aload_n (pc := 0) (y := mX6_release) dX6_release_0 rfl ?_ | refine wa_aload_nN (pc := 0) (y := mX6_release) dX6_release_0 rfl ?_ | refine wa_aload_nq (pc := 0) (y := mX6_release) dX6_release_0 rfl ?_
          first | refine wa_aload_n (pc := 1) (y := mX6_release) dX6_release_1 rfl ?_ | refine wa_aload_nN (pc := 1) (y := mX6_release) dX6_release_1 rfl ?_ | refine wa_aload_nq (pc := 1) (y := mX6_release) dX6_release_1 rfl ?_
          refine wa_iload_n (pc := 2) (y := mX6_release) dX6_release_2 rfl ?_
          refine wa_callV (pc := 3) (s_X6_isCue (d := d - 1) (by omega) hI) dX6_release_3 okX6_isCue q2719 q2721 qs41 mH_o rfl rfl rfl (Nat.le_of_ble_eq_true rfl) (Nat.le_of_ble_eq_true rfl) (by omega) ?_
          rintro _ _ - - ⟨rfl, rfl⟩
          refine aft_v (pc2 := 6) ?_ rfl
          rw [isC_some hp]
          refine wa_if_eq (pc := 6) 27 dX6_release_6 rfl (fun hb6 => absurd hb6 (by decide)) (fun hb6 => ?_)
          refine wa_iload_n (pc := 9) (y := mX6_release) dX6_release_9 rfl ?_
          refine wa_callS (pc := 10) (s_X6_isChannel (d := d - 1) (by omega)) dX6_release_10 okX6_isChannel q2810 q2811 rfl rfl (Nat.le_of_ble_eq_true rfl) (Nat.le_of_ble_eq_true rfl) (by omega) ?_
          rintro _ _ - - ⟨rfl, rfl⟩
          refine aft_v (pc2 := 13) ?_ rfl
          rw [inb11, decide_eq_true e0]
          refine wa_if_eq (pc := 13) 27 dX6_release_13 rfl (fun hb13 => absurd hb13 (by decide)) (fun hb13 => ?_)
          refine wa_iload_n (pc := 16) (y := mX6_release) dX6_release_16 rfl ?_
          refine wa_callS (pc := 17) (s_X6_isPart (d := d - 1) (by omega)) dX6_release_17 okX6_isPart q2774 q2775 rfl rfl (Nat.le_of_ble_eq_true rfl) (Nat.le_of_ble_eq_true rfl) (by omega) ?_
          rintro _ _ - - ⟨rfl, rfl⟩
          refine aft_v (pc2 := 20) ?_ rfl
          rw [inb3, decide_eq_true e1]
          refine wa_if_eq (pc := 20) 27 dX6_release_20 rfl (fun hb20 => absurd hb20 (by decide)) (fun hb20 => ?_)
          refine wa_iconst (pc := 23) (y := mX6_release) (Int32.ofNat 0) dX6_release_23 rfl ?_
          refine wa_goto (pc := 24) (y := mX6_release) 28 dX6_release_24 rfl ?_
          refine wa_putf (pc := 28) (y := mX6_release) (k := 5) 7 .int dX6_release_28 mH_o rfl q2650 (Or.inl rfl) (Nat.le_of_ble_eq_true rfl) rfl (by decide +kernel) rfl rfl ?_
          rw [mW_o7]
          first | refine wa_aload_n (pc := 31) (y := mX6_release) dX6_release_31 rfl ?_ | refine wa_aload_nN (pc := 31) (y := mX6_release) dX6_release_31 rfl ?_ | refine wa_aload_nq (pc := 31) (y := mX6_release) dX6_release_31 rfl ?_
          refine wa_getf (pc := 32) (y := mX6_release) (k := 5) 7 dX6_release_32 mH_o rfl q2650 (Or.inl rfl) (Nat.le_of_ble_eq_true rfl) (by rfl) ?_
          show WA _ _ _ _ _ (.int (Int32.ofNat 0) :: _) _ _
          refine wa_if_le (pc := 35) 40 dX6_release_35 rfl (fun hb35 => ?_) (fun hb35 => absurd hb35 (by decide))
          clear hb35
          first | refine wa_aload_n (pc := 40) (y := mX6_release) dX6_release_40 rfl ?_ | refine wa_aload_nN (pc := 40) (y := mX6_release) dX6_release_40 rfl ?_ | refine wa_aload_nq (pc := 40) (y := mX6_release) dX6_release_40 rfl ?_
          refine wa_callV (pc := 41) (s_X6_keepState (d := d - 1) (by omega)) dX6_release_41 okX6_keepState q2707 q2709 qs39 mH_o rfl rfl rfl (Nat.le_of_ble_eq_true rfl) (Nat.le_of_ble_eq_true rfl) (by omega) ?_
          rintro _ _ - - ⟨rfl, rfl⟩
          refine aft_0 (pc2 := 44) ?_ rfl
          first | refine wa_aload_n (pc := 44) (y := mX6_release) dX6_release_44 rfl ?_ | refine wa_aload_nN (pc := 44) (y := mX6_release) dX6_release_44 rfl ?_ | refine wa_aload_nq (pc := 44) (y := mX6_release) dX6_release_44 rfl ?_
          refine wa_iload_n (pc := 45) (y := mX6_release) dX6_release_45 rfl ?_
          refine wa_iload_n (pc := 46) (y := mX6_release) dX6_release_46 (x := Int32.ofNat (u c)) (by rw [u_self]; rfl) ?_
          refine wa_iconst (pc := 47) (y := mX6_release) (-1) dX6_release_47 rfl ?_
          refine wa_iload_n (pc := 48) (y := mX6_release) dX6_release_48 rfl ?_
          refine wa_iload (pc := 49) (y := mX6_release) dX6_release_49 rfl ?_
          refine wa_callV (pc := 51) (s_X6_doGive (d := d - 1) (by omega) hI hp e0 e1) dX6_release_51 okX6_doGive q2817 q2819 qs54 mH_o rfl rfl rfl (Nat.le_of_ble_eq_true rfl) (Nat.le_of_ble_eq_true rfl) (by omega) ?_
          rintro _ _ - - ⟨rfl, rfl⟩
          refine aft_v (pc2 := 54) ?_ rfl
          refine wa_if_le (pc := 54) 64 dX6_release_54 rfl (fun hb54 => absurd ((iN_pos (by omega)).mp hb54) (by omega)) (fun hb54 => ?_)
          first | refine wa_aload_n (pc := 57) (y := mX6_release) dX6_release_57 rfl ?_ | refine wa_aload_nN (pc := 57) (y := mX6_release) dX6_release_57 rfl ?_ | refine wa_aload_nq (pc := 57) (y := mX6_release) dX6_release_57 rfl ?_
          refine wa_iconst (pc := 58) (y := mX6_release) (Int32.ofNat 2) dX6_release_58 rfl ?_
          refine wa_putf (pc := 59) (y := mX6_release) (k := 5) 7 .int dX6_release_59 mH_o rfl q2650 (Or.inl rfl) (Nat.le_of_ble_eq_true rfl) rfl (by decide +kernel) rfl rfl ?_
          rw [mW_o7]
          refine wa_iconst (pc := 62) (y := mX6_release) (Int32.ofNat 0) dX6_release_62 rfl ?_
          exact wa_ireturn (pc := 63) (y := mX6_release) .int dX6_release_63 rfl rfl ⟨rfl, rfl⟩
        · rw [show oG f σ (u c) 2 (dGi f (mA (mV σ 7 (Int32.ofNat 0)) 1 f) cue p (u c) (-1) q b) = _ from if_neg e3]
          first | refine wa_aload_n (pc := 0) (y := mX6_release) dX6_release_0 rfl ?_ | refine wa_aload_nN (pc := 0) (y := mX6_release) dX6_release_0 rfl ?_ | refine wa_aload_nq (pc := 0) (y := mX6_release) dX6_release_0 rfl ?_
          first | refine wa_aload_n (pc := 1) (y := mX6_release) dX6_release_1 rfl ?_ | refine wa_aload_nN (pc := 1) (y := mX6_release) dX6_release_1 rfl ?_ | refine wa_aload_nq (pc := 1) (y := mX6_release) dX6_release_1 rfl ?_
          refine wa_iload_n (pc := 2) (y := mX6_release) dX6_release_2 rfl ?_
          refine wa_callV (pc := 3) (s_X6_isCue (d := d - 1) (by omega) hI) dX6_release_3 okX6_isCue q2719 q2721 qs41 mH_o rfl rfl rfl (Nat.le_of_ble_eq_true rfl) (Nat.le_of_ble_eq_true rfl) (by omega) ?_
          rintro _ _ - - ⟨rfl, rfl⟩
          refine aft_v (pc2 := 6) ?_ rfl
          rw [isC_some hp]
          refine wa_if_eq (pc := 6) 27 dX6_release_6 rfl (fun hb6 => absurd hb6 (by decide)) (fun hb6 => ?_)
          refine wa_iload_n (pc := 9) (y := mX6_release) dX6_release_9 rfl ?_
          refine wa_callS (pc := 10) (s_X6_isChannel (d := d - 1) (by omega)) dX6_release_10 okX6_isChannel q2810 q2811 rfl rfl (Nat.le_of_ble_eq_true rfl) (Nat.le_of_ble_eq_true rfl) (by omega) ?_
          rintro _ _ - - ⟨rfl, rfl⟩
          refine aft_v (pc2 := 13) ?_ rfl
          rw [inb11, decide_eq_true e0]
          refine wa_if_eq (pc := 13) 27 dX6_release_13 rfl (fun hb13 => absurd hb13 (by decide)) (fun hb13 => ?_)
          refine wa_iload_n (pc := 16) (y := mX6_release) dX6_release_16 rfl ?_
          refine wa_callS (pc := 17) (s_X6_isPart (d := d - 1) (by omega)) dX6_release_17 okX6_isPart q2774 q2775 rfl rfl (Nat.le_of_ble_eq_true rfl) (Nat.le_of_ble_eq_true rfl) (by omega) ?_
          rintro _ _ - - ⟨rfl, rfl⟩
          refine aft_v (pc2 := 20) ?_ rfl
          rw [inb3, decide_eq_true e1]
          refine wa_if_eq (pc := 20) 27 dX6_release_20 rfl (fun hb20 => absurd hb20 (by decide)) (fun hb20 => ?_)
          refine wa_iconst (pc := 23) (y := mX6_release) (Int32.ofNat 0) dX6_release_23 rfl ?_
          refine wa_goto (pc := 24) (y := mX6_release) 28 dX6_release_24 rfl ?_
          refine wa_putf (pc := 28) (y := mX6_release) (k := 5) 7 .int dX6_release_28 mH_o rfl q2650 (Or.inl rfl) (Nat.le_of_ble_eq_true rfl) rfl (by decide +kernel) rfl rfl ?_
          rw [mW_o7]
          first | refine wa_aload_n (pc := 31) (y := mX6_release) dX6_release_31 rfl ?_ | refine wa_aload_nN (pc := 31) (y := mX6_release) dX6_release_31 rfl ?_ | refine wa_aload_nq (pc := 31) (y := mX6_release) dX6_release_31 rfl ?_
          refine wa_getf (pc := 32) (y := mX6_release) (k := 5) 7 dX6_release_32 mH_o rfl q2650 (Or.inl rfl) (Nat.le_of_ble_eq_true rfl) (by rfl) ?_
          show WA _ _ _ _ _ (.int (Int32.ofNat 0) :: _) _ _
          refine wa_if_le (pc := 35) 40 dX6_release_35 rfl (fun hb35 => ?_) (fun hb35 => absurd hb35 (by decide))
          clear hb35
          first | refine wa_aload_n (pc := 40) (y := mX6_release) dX6_release_40 rfl ?_ | refine wa_aload_nN (pc := 40) (y := mX6_release) dX6_release_40 rfl ?_ | refine wa_aload_nq (pc := 40) (y := mX6_release) dX6_release_40 rfl ?_
          refine wa_callV (pc := 41) (s_X6_keepState (d := d - 1) (by omega)) dX6_release_41 okX6_keepState q2707 q2709 qs39 mH_o rfl rfl rfl (Nat.le_of_ble_eq_true rfl) (Nat.le_of_ble_eq_true rfl) (by omega) ?_
          rintro _ _ - - ⟨rfl, rfl⟩
          refine aft_0 (pc2 := 44) ?_ rfl
          first | refine wa_aload_n (pc := 44) (y := mX6_release) dX6_release_44 rfl ?_ | refine wa_aload_nN (pc := 44) (y := mX6_release) dX6_release_44 rfl ?_ | refine wa_aload_nq (pc := 44) (y := mX6_release) dX6_release_44 rfl ?_
          refine wa_iload_n (pc := 45) (y := mX6_release) dX6_release_45 rfl ?_
          refine wa_iload_n (pc := 46) (y := mX6_release) dX6_release_46 (x := Int32.ofNat (u c)) (by rw [u_self]; rfl) ?_
          refine wa_iconst (pc := 47) (y := mX6_release) (-1) dX6_release_47 rfl ?_
          refine wa_iload_n (pc := 48) (y := mX6_release) dX6_release_48 rfl ?_
          refine wa_iload (pc := 49) (y := mX6_release) dX6_release_49 rfl ?_
          refine wa_callV (pc := 51) (s_X6_doGive (d := d - 1) (by omega) hI hp e0 e1) dX6_release_51 okX6_doGive q2817 q2819 qs54 mH_o rfl rfl rfl (Nat.le_of_ble_eq_true rfl) (Nat.le_of_ble_eq_true rfl) (by omega) ?_
          rintro _ _ - - ⟨rfl, rfl⟩
          refine aft_v (pc2 := 54) ?_ rfl
          refine wa_if_le (pc := 54) 64 dX6_release_54 rfl (fun hb54 => ?_) (fun hb54 => absurd ((iN_pos (by omega)).mpr (by omega)) hb54)
          first | refine wa_aload_n (pc := 64) (y := mX6_release) dX6_release_64 rfl ?_ | refine wa_aload_nN (pc := 64) (y := mX6_release) dX6_release_64 rfl ?_ | refine wa_aload_nq (pc := 64) (y := mX6_release) dX6_release_64 rfl ?_
          refine wa_callV (pc := 65) (s_X6_change (d := d - 1) (by omega) hpm2) dX6_release_65 okX6_change q2730 q2732 qs43 mH_o rfl rfl rfl (Nat.le_of_ble_eq_true rfl) (Nat.le_of_ble_eq_true rfl) (by omega) ?_
          rintro _ _ - - ⟨rfl, rfl⟩
          refine aft_0 (pc2 := 68) ?_ rfl
          first | refine wa_aload_n (pc := 68) (y := mX6_release) dX6_release_68 rfl ?_ | refine wa_aload_nN (pc := 68) (y := mX6_release) dX6_release_68 rfl ?_ | refine wa_aload_nq (pc := 68) (y := mX6_release) dX6_release_68 rfl ?_
          refine wa_iload_n (pc := 69) (y := mX6_release) dX6_release_69 (x := Int32.ofNat (u c)) (by rw [u_self]; rfl) ?_
          refine wa_callV (pc := 70) (s_X6_changed (d := d - 1) (by omega) hgI e0) dX6_release_70 okX6_changed q2841 q2843 qs60 mH_o rfl rfl rfl (Nat.le_of_ble_eq_true rfl) (Nat.le_of_ble_eq_true rfl) (by omega) ?_
          rintro _ _ - - ⟨rfl, rfl⟩
          refine aft_v (pc2 := 73) ?_ rfl
          exact wa_ireturn (pc := 73) (y := mX6_release) .int dX6_release_73 rfl rfl ⟨rfl, rfl⟩
      · rw [show O_release f σ cue c q b = oX f σ 1 by unfold O_release; rw [hp]; exact (if_neg (fun x => x e0)).trans (if_pos e1)]
        first | refine wa_aload_n (pc := 0) (y := mX6_release) dX6_release_0 rfl ?_ | refine wa_aload_nN (pc := 0) (y := mX6_release) dX6_release_0 rfl ?_ | refine wa_aload_nq (pc := 0) (y := mX6_release) dX6_release_0 rfl ?_
        first | refine wa_aload_n (pc := 1) (y := mX6_release) dX6_release_1 rfl ?_ | refine wa_aload_nN (pc := 1) (y := mX6_release) dX6_release_1 rfl ?_ | refine wa_aload_nq (pc := 1) (y := mX6_release) dX6_release_1 rfl ?_
        refine wa_iload_n (pc := 2) (y := mX6_release) dX6_release_2 rfl ?_
        refine wa_callV (pc := 3) (s_X6_isCue (d := d - 1) (by omega) hI) dX6_release_3 okX6_isCue q2719 q2721 qs41 mH_o rfl rfl rfl (Nat.le_of_ble_eq_true rfl) (Nat.le_of_ble_eq_true rfl) (by omega) ?_
        rintro _ _ - - ⟨rfl, rfl⟩
        refine aft_v (pc2 := 6) ?_ rfl
        rw [isC_some hp]
        refine wa_if_eq (pc := 6) 27 dX6_release_6 rfl (fun hb6 => absurd hb6 (by decide)) (fun hb6 => ?_)
        refine wa_iload_n (pc := 9) (y := mX6_release) dX6_release_9 rfl ?_
        refine wa_callS (pc := 10) (s_X6_isChannel (d := d - 1) (by omega)) dX6_release_10 okX6_isChannel q2810 q2811 rfl rfl (Nat.le_of_ble_eq_true rfl) (Nat.le_of_ble_eq_true rfl) (by omega) ?_
        rintro _ _ - - ⟨rfl, rfl⟩
        refine aft_v (pc2 := 13) ?_ rfl
        rw [inb11, decide_eq_true e0]
        refine wa_if_eq (pc := 13) 27 dX6_release_13 rfl (fun hb13 => absurd hb13 (by decide)) (fun hb13 => ?_)
        refine wa_iload_n (pc := 16) (y := mX6_release) dX6_release_16 rfl ?_
        refine wa_callS (pc := 17) (s_X6_isPart (d := d - 1) (by omega)) dX6_release_17 okX6_isPart q2774 q2775 rfl rfl (Nat.le_of_ble_eq_true rfl) (Nat.le_of_ble_eq_true rfl) (by omega) ?_
        rintro _ _ - - ⟨rfl, rfl⟩
        refine aft_v (pc2 := 20) ?_ rfl
        rw [inb3, decide_eq_false e1]
        refine wa_if_eq (pc := 20) 27 dX6_release_20 rfl (fun hb20 => ?_) (fun hb20 => absurd rfl hb20)
        refine wa_iconst (pc := 27) (y := mX6_release) (Int32.ofNat 1) dX6_release_27 rfl ?_
        refine wa_putf (pc := 28) (y := mX6_release) (k := 5) 7 .int dX6_release_28 mH_o rfl q2650 (Or.inl rfl) (Nat.le_of_ble_eq_true rfl) rfl (by decide +kernel) rfl rfl ?_
        rw [mW_o7]
        first | refine wa_aload_n (pc := 31) (y := mX6_release) dX6_release_31 rfl ?_ | refine wa_aload_nN (pc := 31) (y := mX6_release) dX6_release_31 rfl ?_ | refine wa_aload_nq (pc := 31) (y := mX6_release) dX6_release_31 rfl ?_
        refine wa_getf (pc := 32) (y := mX6_release) (k := 5) 7 dX6_release_32 mH_o rfl q2650 (Or.inl rfl) (Nat.le_of_ble_eq_true rfl) (by rfl) ?_
        show WA _ _ _ _ _ (.int (Int32.ofNat 1) :: _) _ _
        refine wa_if_le (pc := 35) 40 dX6_release_35 rfl (fun hb35 => absurd hb35 (by decide)) (fun hb35 => ?_)
        clear hb35
        refine wa_iconst (pc := 38) (y := mX6_release) (Int32.ofNat 0) dX6_release_38 rfl ?_
        exact wa_ireturn (pc := 39) (y := mX6_release) .int dX6_release_39 rfl rfl ⟨rfl, rfl⟩
    · rw [show O_release f σ cue c q b = oX f σ 1 by unfold O_release; rw [hp]; exact if_pos e0]
      first | refine wa_aload_n (pc := 0) (y := mX6_release) dX6_release_0 rfl ?_ | refine wa_aload_nN (pc := 0) (y := mX6_release) dX6_release_0 rfl ?_ | refine wa_aload_nq (pc := 0) (y := mX6_release) dX6_release_0 rfl ?_
      first | refine wa_aload_n (pc := 1) (y := mX6_release) dX6_release_1 rfl ?_ | refine wa_aload_nN (pc := 1) (y := mX6_release) dX6_release_1 rfl ?_ | refine wa_aload_nq (pc := 1) (y := mX6_release) dX6_release_1 rfl ?_
      refine wa_iload_n (pc := 2) (y := mX6_release) dX6_release_2 rfl ?_
      refine wa_callV (pc := 3) (s_X6_isCue (d := d - 1) (by omega) hI) dX6_release_3 okX6_isCue q2719 q2721 qs41 mH_o rfl rfl rfl (Nat.le_of_ble_eq_true rfl) (Nat.le_of_ble_eq_true rfl) (by omega) ?_
      rintro _ _ - - ⟨rfl, rfl⟩
      refine aft_v (pc2 := 6) ?_ rfl
      rw [isC_some hp]
      refine wa_if_eq (pc := 6) 27 dX6_release_6 rfl (fun hb6 => absurd hb6 (by decide)) (fun hb6 => ?_)
      refine wa_iload_n (pc := 9) (y := mX6_release) dX6_release_9 rfl ?_
      refine wa_callS (pc := 10) (s_X6_isChannel (d := d - 1) (by omega)) dX6_release_10 okX6_isChannel q2810 q2811 rfl rfl (Nat.le_of_ble_eq_true rfl) (Nat.le_of_ble_eq_true rfl) (by omega) ?_
      rintro _ _ - - ⟨rfl, rfl⟩
      refine aft_v (pc2 := 13) ?_ rfl
      rw [inb11, decide_eq_false e0]
      refine wa_if_eq (pc := 13) 27 dX6_release_13 rfl (fun hb13 => ?_) (fun hb13 => absurd rfl hb13)
      refine wa_iconst (pc := 27) (y := mX6_release) (Int32.ofNat 1) dX6_release_27 rfl ?_
      refine wa_putf (pc := 28) (y := mX6_release) (k := 5) 7 .int dX6_release_28 mH_o rfl q2650 (Or.inl rfl) (Nat.le_of_ble_eq_true rfl) rfl (by decide +kernel) rfl rfl ?_
      rw [mW_o7]
      first | refine wa_aload_n (pc := 31) (y := mX6_release) dX6_release_31 rfl ?_ | refine wa_aload_nN (pc := 31) (y := mX6_release) dX6_release_31 rfl ?_ | refine wa_aload_nq (pc := 31) (y := mX6_release) dX6_release_31 rfl ?_
      refine wa_getf (pc := 32) (y := mX6_release) (k := 5) 7 dX6_release_32 mH_o rfl q2650 (Or.inl rfl) (Nat.le_of_ble_eq_true rfl) (by rfl) ?_
      show WA _ _ _ _ _ (.int (Int32.ofNat 1) :: _) _ _
      refine wa_if_le (pc := 35) 40 dX6_release_35 rfl (fun hb35 => absurd hb35 (by decide)) (fun hb35 => ?_)
      clear hb35
      refine wa_iconst (pc := 38) (y := mX6_release) (Int32.ofNat 0) dX6_release_38 rfl ?_
      exact wa_ireturn (pc := 39) (y := mX6_release) .int dX6_release_39 rfl rfl ⟨rfl, rfl⟩
end MTOP2
